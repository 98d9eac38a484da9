set_option maxRecDepth 100000
/-! ExamSlipsModel -/
set_option maxRecDepth 100000
def RX4 : String := "ExamSlipsModel"
def TX4 : u_T := fun k => match k with
  | 0 => ("ExamSlipsModel", "status", "I", false)
  | 1 => ("ExamSlipsModel", "version", "I", false)
  | 2 => ("ExamSlipsModel", "refused", "[I", true)
  | 3 => ("ExamSlipsModel", "kept", "[I", true)
  | 4 => ("ExamSlipsModel", "images", "[I", true)
  | 5 => ("ExamSlipsModel", "hasImage", "[Z", true)
  | 6 => ("ExamSlipsModel", "words", "[B", true)
  | 7 => ("ExamSlipsModel", "tape", "[B", true)
  | 8 => ("ExamSlipsModel", "five", "[I", true)
  | 9 => ("ExamSlipsModel", "taped", "I", false)
  | 10 => ("ExamSlipsModel", "fault", "I", false)
  | 11 => ("ExamSlipsModel", "code", "[I", true)
  | 12 => ("ExamSlipsModel", "value", "[I", true)
  | 13 => ("ExamSlipsModel", "placed", "[I", true)
  | 14 => ("ExamSlipsModel", "tokens", "I", false)
  | 15 => ("ExamSlipsModel", "token", "I", false)
  | 16 => ("ExamSlipsModel", "leaves", "I", false)
  | 17 => ("ExamSlipsModel", "bad", "I", false)
  | 18 => ("ExamSlipsModel", "go", "I", false)
  | 19 => ("ExamSlipsModel", "goEnd", "I", false)
  | 20 => ("ExamSlipsModel", "broken", "Z", false)
  | 21 => ("ExamSlipsModel", "asked", "[I", true)
  | 22 => ("ExamSlipsModel", "chances", "[I", true)
  | 23 => ("ExamSlipsModel", "there", "[I", true)
  | 24 => ("ExamSlipsModel", "likedThere", "[I", true)
  | 25 => ("ExamSlipsModel", "drawnOf", "[I", true)
  | 26 => ("ExamSlipsModel", "rights", "[J", true)
  | 27 => ("ExamSlipsModel", "sums", "[J", true)
  | 28 => ("ExamSlipsModel", "lie", "I", false)
  | 29 => ("ExamSlipsModel", "answered", "I", false)
  | 30 => ("ExamSlipsModel", "whole", "J", false)
  | 31 => ("ExamSlipsModel", "least", "[I", true)
  | 32 => ("ExamSlipsModel", "passing", "[J", true)
  | 33 => ("ExamSlipsModel", "costs", "[I", true)
  | 34 => ("ExamSlipsModel", "schemeWhole", "J", false)
  | 35 => ("ExamSlipsModel", "schemedBy", "I", false)
  | 36 => ("ExamSlipsModel", "bestPassing", "J", false)
  | 37 => ("ExamSlipsModel", "bestHours", "I", false)
  | 38 => ("ExamSlipsModel", "levels", "[I", true)
  | 39 => ("ExamSlipsModel", "behind", "[I", true)
  | 40 => ("ExamSlipsModel", "hoursOf", "[I", true)
  | 41 => ("ExamSlipsModel", "now", "[I", true)
  | 42 => ("ExamSlipsModel", "since", "[I", true)
  | 43 => ("ExamSlipsModel", "dropped", "I", false)
  | 44 => ("ExamSlipsModel", "firstDropped", "I", false)
  | 45 => ("ExamSlipsModel", "fell", "I", false)
  | 46 => ("ExamSlipsModel", "dayOf", "[I", true)
  | 47 => ("ExamSlipsModel", "room", "[I", true)
  | 48 => ("ExamSlipsModel", "at", "I", false)
  | 49 => ("ExamSlipsModel", "leftOut", "I", false)
  | 50 => ("ExamSlipsModel", "firstDay", "I", false)
  | 51 => ("ExamSlipsModel", "full", "Z", false)
  | 52 => ("ExamSlipsModel", "hoursLeft", "[I", true)
  | 53 => ("ExamSlipsModel", "learner", "[I", true)
  | 54 => ("ExamSlipsModel", "bestLearner", "[I", true)
  | 55 => ("ExamSlipsModel", "wellCost", "[I", true)
  | 56 => ("ExamSlipsModel", "shareMany", "I", false)
  | 57 => ("ExamSlipsModel", "shareBest", "I", false)
  | 58 => ("ExamSlipsModel", "sharedBy", "I", false)
  | 59 => ("ExamSlipsModel", "lost", "I", false)
  | 60 => ("ExamSlipsModel", "one", "[J", true)
  | 61 => ("ExamSlipsModel", "two", "[J", true)
  | 62 => ("ExamSlipsModel", "step", "[J", true)
  | 63 => ("ExamSlipsModel", "latest", "I", false)
  | 64 => ("ExamSlipsModel", "examTable", "I", false)
  | 65 => ("ExamSlipsModel", "examAnswered", "I", false)
  | 66 => ("ExamSlipsModel", "examRight", "I", false)
  | 67 => ("ExamSlipsModel", "lay", "I", false)
  | 68 => ("ExamSlipsModel", "gave", "I", false)
  | _ => ("ExamSlipsModel", "were", "I", false)
def tyX4 : Nat → FieldType := fun k => match k with
  | 0 => .int
  | 1 => .int
  | 2 => .array .int
  | 3 => .array .int
  | 4 => .array .int
  | 5 => .array .boolean
  | 6 => .array .byte
  | 7 => .array .byte
  | 8 => .array .int
  | 9 => .int
  | 10 => .int
  | 11 => .array .int
  | 12 => .array .int
  | 13 => .array .int
  | 14 => .int
  | 15 => .int
  | 16 => .int
  | 17 => .int
  | 18 => .int
  | 19 => .int
  | 20 => .boolean
  | 21 => .array .int
  | 22 => .array .int
  | 23 => .array .int
  | 24 => .array .int
  | 25 => .array .int
  | 26 => .array .long
  | 27 => .array .long
  | 28 => .int
  | 29 => .int
  | 30 => .long
  | 31 => .array .int
  | 32 => .array .long
  | 33 => .array .int
  | 34 => .long
  | 35 => .int
  | 36 => .long
  | 37 => .int
  | 38 => .array .int
  | 39 => .array .int
  | 40 => .array .int
  | 41 => .array .int
  | 42 => .array .int
  | 43 => .int
  | 44 => .int
  | 45 => .int
  | 46 => .array .int
  | 47 => .array .int
  | 48 => .int
  | 49 => .int
  | 50 => .int
  | 51 => .boolean
  | 52 => .array .int
  | 53 => .array .int
  | 54 => .array .int
  | 55 => .array .int
  | 56 => .int
  | 57 => .int
  | 58 => .int
  | 59 => .int
  | 60 => .array .long
  | 61 => .array .long
  | 62 => .array .long
  | 63 => .int
  | 64 => .int
  | 65 => .int
  | 66 => .int
  | 67 => .int
  | 68 => .int
  | _ => .int
abbrev wsX40 : List Cond := u_ws RX4 TX4 70
set_option maxRecDepth 100000 in
theorem nmX4 : ∀ a, a < 70 → ∀ b, b < 70 → a ≠ b → (TX4 a).2.1 ≠ (TX4 b).2.1 := by decide +kernel
set_option maxRecDepth 100000 in
theorem tyX4_ok : ∀ k, k < 70 → parseFieldDescriptor (TX4 k).2.2.1 = some (tyX4 k) := by decide +kernel
abbrev cX4_init : ByteArray := prog_29_method_4_code
def yX4_init : MethodName := ⟨RX4, "<init>", "()V"⟩
def dkwX4_init_33 : List UInt8 := [16, 19, 79, 42, 180, 0, 20, 16, 106, 16, 6, 79, 42, 180, 0, 20, 17, 1, 138, 2, 79, 177]
abbrev dktX4_init_33 : List UInt8 := dkwX4_init_33 ++ []
def dkwX4_init_32 : List UInt8 := [79, 42, 180, 0, 20, 16, 102, 5, 79, 42, 180, 0, 20, 16, 104, 16, 10, 79, 42, 180, 0, 20, 16, 105]
abbrev dktX4_init_32 : List UInt8 := dkwX4_init_32 ++ dktX4_init_33
def dkwX4_init_31 : List UInt8 := [181, 0, 129, 42, 2, 181, 0, 132, 42, 180, 0, 20, 16, 100, 16, 8, 79, 42, 180, 0, 20, 16, 101, 6]
abbrev dktX4_init_31 : List UInt8 := dkwX4_init_31 ++ dktX4_init_32
def dkwX4_init_30 : List UInt8 := [181, 0, 120, 42, 16, 12, 188, 11, 181, 0, 123, 42, 16, 12, 188, 11, 181, 0, 126, 42, 16, 12, 188, 11]
abbrev dktX4_init_30 : List UInt8 := dkwX4_init_30 ++ dktX4_init_31
def dkwX4_init_29 : List UInt8 := [188, 10, 181, 0, 111, 42, 16, 12, 188, 10, 181, 0, 114, 42, 16, 12, 188, 10, 181, 0, 117, 42, 2]
abbrev dktX4_init_29 : List UInt8 := dkwX4_init_29 ++ dktX4_init_30
def dkwX4_init_28 : List UInt8 := [188, 10, 181, 0, 102, 42, 16, 20, 188, 10, 181, 0, 105, 42, 6, 188, 10, 181, 0, 108, 42, 16, 12]
abbrev dktX4_init_28 : List UInt8 := dkwX4_init_28 ++ dktX4_init_29
def dkwX4_init_27 : List UInt8 := [188, 10, 181, 0, 93, 42, 16, 20, 188, 10, 181, 0, 96, 42, 16, 20, 188, 10, 181, 0, 99, 42, 16, 40]
abbrev dktX4_init_27 : List UInt8 := dkwX4_init_27 ++ dktX4_init_28
def dkwX4_init_26 : List UInt8 := [181, 0, 84, 42, 16, 20, 188, 10, 181, 0, 87, 42, 17, 1, 144, 188, 10, 181, 0, 90, 42, 16, 20]
abbrev dktX4_init_26 : List UInt8 := dkwX4_init_26 ++ dktX4_init_27
def dkwX4_init_25 : List UInt8 := [188, 10, 181, 0, 75, 42, 17, 1, 185, 188, 11, 181, 0, 78, 42, 16, 80, 188, 10, 181, 0, 81, 42, 2]
abbrev dktX4_init_25 : List UInt8 := dkwX4_init_25 ++ dktX4_init_26
def dkwX4_init_24 : List UInt8 := [42, 6, 188, 10, 181, 0, 64, 42, 7, 188, 11, 181, 0, 67, 42, 7, 188, 11, 181, 0, 71, 42, 18, 74]
abbrev dktX4_init_24 : List UInt8 := dkwX4_init_24 ++ dktX4_init_25
def dkwX4_init_23 : List UInt8 := [181, 0, 52, 42, 6, 188, 10, 181, 0, 55, 42, 6, 188, 10, 181, 0, 58, 42, 6, 188, 10, 181, 0, 61]
abbrev dktX4_init_23 : List UInt8 := dkwX4_init_23 ++ dktX4_init_24
def dkwX4_init_22 : List UInt8 := [42, 17, 1, 145, 188, 10, 181, 0, 46, 42, 17, 1, 145, 188, 10, 181, 0, 49, 42, 16, 7, 188, 10]
abbrev dktX4_init_22 : List UInt8 := dkwX4_init_22 ++ dktX4_init_23
def dkwX4_init_21 : List UInt8 := [181, 0, 34, 42, 8, 188, 10, 181, 0, 37, 42, 2, 181, 0, 40, 42, 17, 1, 145, 188, 10, 181, 0, 43]
abbrev dktX4_init_21 : List UInt8 := dkwX4_init_21 ++ dktX4_init_22
def dkwX4_init_20 : List UInt8 := [16, 111, 84, 89, 16, 74, 16, 110, 84, 89, 16, 75, 16, 32, 84, 181, 0, 30, 42, 17, 1, 144, 188, 8]
abbrev dktX4_init_20 : List UInt8 := dkwX4_init_20 ++ dktX4_init_21
def dkwX4_init_19 : List UInt8 := [16, 101, 84, 89, 16, 70, 16, 115, 84, 89, 16, 71, 16, 116, 84, 89, 16, 72, 16, 105, 84, 89, 16, 73]
abbrev dktX4_init_19 : List UInt8 := dkwX4_init_19 ++ dktX4_init_20
def dkwX4_init_18 : List UInt8 := [16, 121, 84, 89, 16, 66, 16, 32, 84, 89, 16, 67, 16, 113, 84, 89, 16, 68, 16, 117, 84, 89, 16, 69]
abbrev dktX4_init_18 : List UInt8 := dkwX4_init_18 ++ dktX4_init_19
def dkwX4_init_17 : List UInt8 := [16, 100, 84, 89, 16, 62, 16, 32, 84, 89, 16, 63, 16, 100, 84, 89, 16, 64, 16, 97, 84, 89, 16, 65]
abbrev dktX4_init_17 : List UInt8 := dkwX4_init_17 ++ dktX4_init_18
def dkwX4_init_16 : List UInt8 := [16, 108, 84, 89, 16, 58, 16, 105, 84, 89, 16, 59, 16, 107, 84, 89, 16, 60, 16, 101, 84, 89, 16, 61]
abbrev dktX4_init_16 : List UInt8 := dkwX4_init_16 ++ dktX4_init_17
def dkwX4_init_15 : List UInt8 := [16, 112, 84, 89, 16, 54, 16, 101, 84, 89, 16, 55, 16, 100, 84, 89, 16, 56, 16, 32, 84, 89, 16, 57]
abbrev dktX4_init_15 : List UInt8 := dkwX4_init_15 ++ dktX4_init_16
def dkwX4_init_14 : List UInt8 := [16, 32, 84, 89, 16, 50, 16, 104, 84, 89, 16, 51, 16, 101, 84, 89, 16, 52, 16, 108, 84, 89, 16, 53]
abbrev dktX4_init_14 : List UInt8 := dkwX4_init_14 ++ dktX4_init_15
def dkwX4_init_13 : List UInt8 := [16, 101, 84, 89, 16, 46, 16, 118, 84, 89, 16, 47, 16, 101, 84, 89, 16, 48, 16, 108, 84, 89, 16, 49]
abbrev dktX4_init_13 : List UInt8 := dkwX4_init_13 ++ dktX4_init_14
def dkwX4_init_12 : List UInt8 := [16, 101, 84, 89, 16, 42, 16, 115, 84, 89, 16, 43, 16, 32, 84, 89, 16, 44, 16, 108, 84, 89, 16, 45]
abbrev dktX4_init_12 : List UInt8 := dkwX4_init_12 ++ dktX4_init_13
def dkwX4_init_11 : List UInt8 := [16, 32, 84, 89, 16, 38, 16, 112, 84, 89, 16, 39, 16, 97, 84, 89, 16, 40, 16, 103, 84, 89, 16, 41]
abbrev dktX4_init_11 : List UInt8 := dkwX4_init_11 ++ dktX4_init_12
def dkwX4_init_10 : List UInt8 := [16, 107, 84, 89, 16, 34, 16, 105, 84, 89, 16, 35, 16, 110, 84, 89, 16, 36, 16, 103, 84, 89, 16, 37]
abbrev dktX4_init_10 : List UInt8 := dkwX4_init_10 ++ dktX4_init_11
def dkwX4_init_9 : List UInt8 := [16, 110, 84, 89, 16, 30, 16, 111, 84, 89, 16, 31, 16, 116, 84, 89, 16, 32, 16, 32, 84, 89, 16, 33]
abbrev dktX4_init_9 : List UInt8 := dkwX4_init_9 ++ dktX4_init_10
def dkwX4_init_8 : List UInt8 := [16, 97, 84, 89, 16, 26, 16, 110, 84, 89, 16, 27, 16, 100, 84, 89, 16, 28, 16, 32, 84, 89, 16, 29]
abbrev dktX4_init_8 : List UInt8 := dkwX4_init_8 ++ dktX4_init_9
def dkwX4_init_7 : List UInt8 := [16, 32, 84, 89, 16, 22, 16, 111, 84, 89, 16, 23, 16, 114, 84, 89, 16, 24, 16, 32, 84, 89, 16, 25]
abbrev dktX4_init_7 : List UInt8 := dkwX4_init_7 ++ dktX4_init_8
def dkwX4_init_6 : List UInt8 := [16, 101, 84, 89, 16, 18, 16, 32, 84, 89, 16, 19, 16, 105, 84, 89, 16, 20, 16, 102, 84, 89, 16, 21]
abbrev dktX4_init_6 : List UInt8 := dkwX4_init_6 ++ dktX4_init_7
def dkwX4_init_5 : List UInt8 := [16, 104, 84, 89, 16, 14, 16, 97, 84, 89, 16, 15, 16, 110, 84, 89, 16, 16, 16, 99, 84, 89, 16, 17]
abbrev dktX4_init_5 : List UInt8 := dkwX4_init_5 ++ dktX4_init_6
def dkwX4_init_4 : List UInt8 := [16, 112, 84, 89, 16, 10, 16, 115, 84, 89, 16, 11, 16, 32, 84, 89, 16, 12, 16, 99, 84, 89, 16, 13]
abbrev dktX4_init_4 : List UInt8 := dkwX4_init_4 ++ dktX4_init_5
def dkwX4_init_3 : List UInt8 := [16, 32, 84, 89, 16, 6, 16, 107, 84, 89, 16, 7, 16, 101, 84, 89, 16, 8, 16, 101, 84, 89, 16, 9]
abbrev dktX4_init_3 : List UInt8 := dkwX4_init_3 ++ dktX4_init_4
def dkwX4_init_2 : List UInt8 := [84, 89, 4, 16, 111, 84, 89, 5, 16, 117, 84, 89, 6, 16, 114, 84, 89, 7, 16, 115, 84, 89, 8]
abbrev dktX4_init_2 : List UInt8 := dkwX4_init_2 ++ dktX4_init_3
def dkwX4_init_1 : List UInt8 := [17, 40, 162, 188, 10, 181, 0, 23, 42, 5, 188, 4, 181, 0, 26, 42, 16, 76, 188, 8, 89, 3, 16, 104]
abbrev dktX4_init_1 : List UInt8 := dkwX4_init_1 ++ dktX4_init_2
def dkwX4_init_0 : List UInt8 := [42, 183, 0, 14, 42, 16, 7, 188, 10, 181, 0, 7, 42, 17, 20, 81, 188, 10, 181, 0, 20, 42]
abbrev dktX4_init_0 : List UInt8 := dkwX4_init_0 ++ dktX4_init_1
theorem dksX4_init_0 : cX4_init.data.toList.drop 0 = dktX4_init_0 := by decide +kernel
theorem dksX4_init_1 : cX4_init.data.toList.drop 22 = dktX4_init_1 := dk_seg dksX4_init_0 22 rfl rfl
theorem dksX4_init_2 : cX4_init.data.toList.drop 46 = dktX4_init_2 := dk_seg dksX4_init_1 24 rfl rfl
theorem dksX4_init_3 : cX4_init.data.toList.drop 69 = dktX4_init_3 := dk_seg dksX4_init_2 23 rfl rfl
theorem dksX4_init_4 : cX4_init.data.toList.drop 93 = dktX4_init_4 := dk_seg dksX4_init_3 24 rfl rfl
theorem dksX4_init_5 : cX4_init.data.toList.drop 117 = dktX4_init_5 := dk_seg dksX4_init_4 24 rfl rfl
theorem dksX4_init_6 : cX4_init.data.toList.drop 141 = dktX4_init_6 := dk_seg dksX4_init_5 24 rfl rfl
theorem dksX4_init_7 : cX4_init.data.toList.drop 165 = dktX4_init_7 := dk_seg dksX4_init_6 24 rfl rfl
theorem dksX4_init_8 : cX4_init.data.toList.drop 189 = dktX4_init_8 := dk_seg dksX4_init_7 24 rfl rfl
theorem dksX4_init_9 : cX4_init.data.toList.drop 213 = dktX4_init_9 := dk_seg dksX4_init_8 24 rfl rfl
theorem dksX4_init_10 : cX4_init.data.toList.drop 237 = dktX4_init_10 := dk_seg dksX4_init_9 24 rfl rfl
theorem dksX4_init_11 : cX4_init.data.toList.drop 261 = dktX4_init_11 := dk_seg dksX4_init_10 24 rfl rfl
theorem dksX4_init_12 : cX4_init.data.toList.drop 285 = dktX4_init_12 := dk_seg dksX4_init_11 24 rfl rfl
theorem dksX4_init_13 : cX4_init.data.toList.drop 309 = dktX4_init_13 := dk_seg dksX4_init_12 24 rfl rfl
theorem dksX4_init_14 : cX4_init.data.toList.drop 333 = dktX4_init_14 := dk_seg dksX4_init_13 24 rfl rfl
theorem dksX4_init_15 : cX4_init.data.toList.drop 357 = dktX4_init_15 := dk_seg dksX4_init_14 24 rfl rfl
theorem dksX4_init_16 : cX4_init.data.toList.drop 381 = dktX4_init_16 := dk_seg dksX4_init_15 24 rfl rfl
theorem dksX4_init_17 : cX4_init.data.toList.drop 405 = dktX4_init_17 := dk_seg dksX4_init_16 24 rfl rfl
theorem dksX4_init_18 : cX4_init.data.toList.drop 429 = dktX4_init_18 := dk_seg dksX4_init_17 24 rfl rfl
theorem dksX4_init_19 : cX4_init.data.toList.drop 453 = dktX4_init_19 := dk_seg dksX4_init_18 24 rfl rfl
theorem dksX4_init_20 : cX4_init.data.toList.drop 477 = dktX4_init_20 := dk_seg dksX4_init_19 24 rfl rfl
theorem dksX4_init_21 : cX4_init.data.toList.drop 501 = dktX4_init_21 := dk_seg dksX4_init_20 24 rfl rfl
theorem dksX4_init_22 : cX4_init.data.toList.drop 525 = dktX4_init_22 := dk_seg dksX4_init_21 24 rfl rfl
theorem dksX4_init_23 : cX4_init.data.toList.drop 548 = dktX4_init_23 := dk_seg dksX4_init_22 23 rfl rfl
theorem dksX4_init_24 : cX4_init.data.toList.drop 572 = dktX4_init_24 := dk_seg dksX4_init_23 24 rfl rfl
theorem dksX4_init_25 : cX4_init.data.toList.drop 596 = dktX4_init_25 := dk_seg dksX4_init_24 24 rfl rfl
theorem dksX4_init_26 : cX4_init.data.toList.drop 620 = dktX4_init_26 := dk_seg dksX4_init_25 24 rfl rfl
theorem dksX4_init_27 : cX4_init.data.toList.drop 643 = dktX4_init_27 := dk_seg dksX4_init_26 23 rfl rfl
theorem dksX4_init_28 : cX4_init.data.toList.drop 667 = dktX4_init_28 := dk_seg dksX4_init_27 24 rfl rfl
theorem dksX4_init_29 : cX4_init.data.toList.drop 690 = dktX4_init_29 := dk_seg dksX4_init_28 23 rfl rfl
theorem dksX4_init_30 : cX4_init.data.toList.drop 713 = dktX4_init_30 := dk_seg dksX4_init_29 23 rfl rfl
theorem dksX4_init_31 : cX4_init.data.toList.drop 737 = dktX4_init_31 := dk_seg dksX4_init_30 24 rfl rfl
theorem dksX4_init_32 : cX4_init.data.toList.drop 761 = dktX4_init_32 := dk_seg dksX4_init_31 24 rfl rfl
theorem dksX4_init_33 : cX4_init.data.toList.drop 785 = dktX4_init_33 := dk_seg dksX4_init_32 24 rfl rfl
theorem dX4_init_0 : decode cX4_init 0 = .ok (.aload_n 0, 1) := dk_42 (dk_at dksX4_init_0 0 rfl rfl)
theorem dX4_init_1 : decode cX4_init 1 = .ok (.invokespecial 14, 3) := dk_183 0 14 (dk_at dksX4_init_0 1 rfl rfl)
theorem dX4_init_4 : decode cX4_init 4 = .ok (.aload_n 0, 1) := dk_42 (dk_at dksX4_init_0 4 rfl rfl)
theorem dX4_init_5 : decode cX4_init 5 = .ok (.bipush 7, 2) := dk_16 7 (dk_at dksX4_init_0 5 rfl rfl)
theorem dX4_init_7 : decode cX4_init 7 = .ok (.newarray .int, 2) := dk_188_10 (dk_at dksX4_init_0 7 rfl rfl)
theorem dX4_init_9 : decode cX4_init 9 = .ok (.putfield 7, 3) := dk_181 0 7 (dk_at dksX4_init_0 9 rfl rfl)
theorem dX4_init_12 : decode cX4_init 12 = .ok (.aload_n 0, 1) := dk_42 (dk_at dksX4_init_0 12 rfl rfl)
theorem dX4_init_13 : decode cX4_init 13 = .ok (.sipush 5201, 3) := dk_17 20 81 (dk_at dksX4_init_0 13 rfl rfl)
theorem dX4_init_16 : decode cX4_init 16 = .ok (.newarray .int, 2) := dk_188_10 (dk_at dksX4_init_0 16 rfl rfl)
theorem dX4_init_18 : decode cX4_init 18 = .ok (.putfield 20, 3) := dk_181 0 20 (dk_at dksX4_init_0 18 rfl rfl)
theorem dX4_init_21 : decode cX4_init 21 = .ok (.aload_n 0, 1) := dk_42 (dk_at dksX4_init_0 21 rfl rfl)
theorem dX4_init_22 : decode cX4_init 22 = .ok (.sipush 10402, 3) := dk_17 40 162 (dk_at dksX4_init_1 0 rfl rfl)
theorem dX4_init_25 : decode cX4_init 25 = .ok (.newarray .int, 2) := dk_188_10 (dk_at dksX4_init_1 3 rfl rfl)
theorem dX4_init_27 : decode cX4_init 27 = .ok (.putfield 23, 3) := dk_181 0 23 (dk_at dksX4_init_1 5 rfl rfl)
theorem dX4_init_30 : decode cX4_init 30 = .ok (.aload_n 0, 1) := dk_42 (dk_at dksX4_init_1 8 rfl rfl)
theorem dX4_init_31 : decode cX4_init 31 = .ok (.iconst 2, 1) := dk_5 (dk_at dksX4_init_1 9 rfl rfl)
theorem dX4_init_32 : decode cX4_init 32 = .ok (.newarray .boolean, 2) := dk_188_4 (dk_at dksX4_init_1 10 rfl rfl)
theorem dX4_init_34 : decode cX4_init 34 = .ok (.putfield 26, 3) := dk_181 0 26 (dk_at dksX4_init_1 12 rfl rfl)
theorem dX4_init_37 : decode cX4_init 37 = .ok (.aload_n 0, 1) := dk_42 (dk_at dksX4_init_1 15 rfl rfl)
theorem dX4_init_38 : decode cX4_init 38 = .ok (.bipush 76, 2) := dk_16 76 (dk_at dksX4_init_1 16 rfl rfl)
theorem dX4_init_40 : decode cX4_init 40 = .ok (.newarray .byte, 2) := dk_188_8 (dk_at dksX4_init_1 18 rfl rfl)
theorem dX4_init_42 : decode cX4_init 42 = .ok (.dup, 1) := dk_89 (dk_at dksX4_init_1 20 rfl rfl)
theorem dX4_init_43 : decode cX4_init 43 = .ok (.iconst 0, 1) := dk_3 (dk_at dksX4_init_1 21 rfl rfl)
theorem dX4_init_44 : decode cX4_init 44 = .ok (.bipush 104, 2) := dk_16 104 (dk_at dksX4_init_1 22 rfl rfl)
theorem dX4_init_46 : decode cX4_init 46 = .ok (.bastore, 1) := dk_84 (dk_at dksX4_init_2 0 rfl rfl)
theorem dX4_init_47 : decode cX4_init 47 = .ok (.dup, 1) := dk_89 (dk_at dksX4_init_2 1 rfl rfl)
theorem dX4_init_48 : decode cX4_init 48 = .ok (.iconst 1, 1) := dk_4 (dk_at dksX4_init_2 2 rfl rfl)
theorem dX4_init_49 : decode cX4_init 49 = .ok (.bipush 111, 2) := dk_16 111 (dk_at dksX4_init_2 3 rfl rfl)
theorem dX4_init_51 : decode cX4_init 51 = .ok (.bastore, 1) := dk_84 (dk_at dksX4_init_2 5 rfl rfl)
theorem dX4_init_52 : decode cX4_init 52 = .ok (.dup, 1) := dk_89 (dk_at dksX4_init_2 6 rfl rfl)
theorem dX4_init_53 : decode cX4_init 53 = .ok (.iconst 2, 1) := dk_5 (dk_at dksX4_init_2 7 rfl rfl)
theorem dX4_init_54 : decode cX4_init 54 = .ok (.bipush 117, 2) := dk_16 117 (dk_at dksX4_init_2 8 rfl rfl)
theorem dX4_init_56 : decode cX4_init 56 = .ok (.bastore, 1) := dk_84 (dk_at dksX4_init_2 10 rfl rfl)
theorem dX4_init_57 : decode cX4_init 57 = .ok (.dup, 1) := dk_89 (dk_at dksX4_init_2 11 rfl rfl)
theorem dX4_init_58 : decode cX4_init 58 = .ok (.iconst 3, 1) := dk_6 (dk_at dksX4_init_2 12 rfl rfl)
theorem dX4_init_59 : decode cX4_init 59 = .ok (.bipush 114, 2) := dk_16 114 (dk_at dksX4_init_2 13 rfl rfl)
theorem dX4_init_61 : decode cX4_init 61 = .ok (.bastore, 1) := dk_84 (dk_at dksX4_init_2 15 rfl rfl)
theorem dX4_init_62 : decode cX4_init 62 = .ok (.dup, 1) := dk_89 (dk_at dksX4_init_2 16 rfl rfl)
theorem dX4_init_63 : decode cX4_init 63 = .ok (.iconst 4, 1) := dk_7 (dk_at dksX4_init_2 17 rfl rfl)
theorem dX4_init_64 : decode cX4_init 64 = .ok (.bipush 115, 2) := dk_16 115 (dk_at dksX4_init_2 18 rfl rfl)
theorem dX4_init_66 : decode cX4_init 66 = .ok (.bastore, 1) := dk_84 (dk_at dksX4_init_2 20 rfl rfl)
theorem dX4_init_67 : decode cX4_init 67 = .ok (.dup, 1) := dk_89 (dk_at dksX4_init_2 21 rfl rfl)
theorem dX4_init_68 : decode cX4_init 68 = .ok (.iconst 5, 1) := dk_8 (dk_at dksX4_init_2 22 rfl rfl)
theorem dX4_init_69 : decode cX4_init 69 = .ok (.bipush 32, 2) := dk_16 32 (dk_at dksX4_init_3 0 rfl rfl)
theorem dX4_init_71 : decode cX4_init 71 = .ok (.bastore, 1) := dk_84 (dk_at dksX4_init_3 2 rfl rfl)
theorem dX4_init_72 : decode cX4_init 72 = .ok (.dup, 1) := dk_89 (dk_at dksX4_init_3 3 rfl rfl)
theorem dX4_init_73 : decode cX4_init 73 = .ok (.bipush 6, 2) := dk_16 6 (dk_at dksX4_init_3 4 rfl rfl)
theorem dX4_init_75 : decode cX4_init 75 = .ok (.bipush 107, 2) := dk_16 107 (dk_at dksX4_init_3 6 rfl rfl)
theorem dX4_init_77 : decode cX4_init 77 = .ok (.bastore, 1) := dk_84 (dk_at dksX4_init_3 8 rfl rfl)
theorem dX4_init_78 : decode cX4_init 78 = .ok (.dup, 1) := dk_89 (dk_at dksX4_init_3 9 rfl rfl)
theorem dX4_init_79 : decode cX4_init 79 = .ok (.bipush 7, 2) := dk_16 7 (dk_at dksX4_init_3 10 rfl rfl)
theorem dX4_init_81 : decode cX4_init 81 = .ok (.bipush 101, 2) := dk_16 101 (dk_at dksX4_init_3 12 rfl rfl)
theorem dX4_init_83 : decode cX4_init 83 = .ok (.bastore, 1) := dk_84 (dk_at dksX4_init_3 14 rfl rfl)
theorem dX4_init_84 : decode cX4_init 84 = .ok (.dup, 1) := dk_89 (dk_at dksX4_init_3 15 rfl rfl)
theorem dX4_init_85 : decode cX4_init 85 = .ok (.bipush 8, 2) := dk_16 8 (dk_at dksX4_init_3 16 rfl rfl)
theorem dX4_init_87 : decode cX4_init 87 = .ok (.bipush 101, 2) := dk_16 101 (dk_at dksX4_init_3 18 rfl rfl)
theorem dX4_init_89 : decode cX4_init 89 = .ok (.bastore, 1) := dk_84 (dk_at dksX4_init_3 20 rfl rfl)
theorem dX4_init_90 : decode cX4_init 90 = .ok (.dup, 1) := dk_89 (dk_at dksX4_init_3 21 rfl rfl)
theorem dX4_init_91 : decode cX4_init 91 = .ok (.bipush 9, 2) := dk_16 9 (dk_at dksX4_init_3 22 rfl rfl)
theorem dX4_init_93 : decode cX4_init 93 = .ok (.bipush 112, 2) := dk_16 112 (dk_at dksX4_init_4 0 rfl rfl)
theorem dX4_init_95 : decode cX4_init 95 = .ok (.bastore, 1) := dk_84 (dk_at dksX4_init_4 2 rfl rfl)
theorem dX4_init_96 : decode cX4_init 96 = .ok (.dup, 1) := dk_89 (dk_at dksX4_init_4 3 rfl rfl)
theorem dX4_init_97 : decode cX4_init 97 = .ok (.bipush 10, 2) := dk_16 10 (dk_at dksX4_init_4 4 rfl rfl)
theorem dX4_init_99 : decode cX4_init 99 = .ok (.bipush 115, 2) := dk_16 115 (dk_at dksX4_init_4 6 rfl rfl)
theorem dX4_init_101 : decode cX4_init 101 = .ok (.bastore, 1) := dk_84 (dk_at dksX4_init_4 8 rfl rfl)
theorem dX4_init_102 : decode cX4_init 102 = .ok (.dup, 1) := dk_89 (dk_at dksX4_init_4 9 rfl rfl)
theorem dX4_init_103 : decode cX4_init 103 = .ok (.bipush 11, 2) := dk_16 11 (dk_at dksX4_init_4 10 rfl rfl)
theorem dX4_init_105 : decode cX4_init 105 = .ok (.bipush 32, 2) := dk_16 32 (dk_at dksX4_init_4 12 rfl rfl)
theorem dX4_init_107 : decode cX4_init 107 = .ok (.bastore, 1) := dk_84 (dk_at dksX4_init_4 14 rfl rfl)
theorem dX4_init_108 : decode cX4_init 108 = .ok (.dup, 1) := dk_89 (dk_at dksX4_init_4 15 rfl rfl)
theorem dX4_init_109 : decode cX4_init 109 = .ok (.bipush 12, 2) := dk_16 12 (dk_at dksX4_init_4 16 rfl rfl)
theorem dX4_init_111 : decode cX4_init 111 = .ok (.bipush 99, 2) := dk_16 99 (dk_at dksX4_init_4 18 rfl rfl)
theorem dX4_init_113 : decode cX4_init 113 = .ok (.bastore, 1) := dk_84 (dk_at dksX4_init_4 20 rfl rfl)
theorem dX4_init_114 : decode cX4_init 114 = .ok (.dup, 1) := dk_89 (dk_at dksX4_init_4 21 rfl rfl)
theorem dX4_init_115 : decode cX4_init 115 = .ok (.bipush 13, 2) := dk_16 13 (dk_at dksX4_init_4 22 rfl rfl)
theorem dX4_init_117 : decode cX4_init 117 = .ok (.bipush 104, 2) := dk_16 104 (dk_at dksX4_init_5 0 rfl rfl)
theorem dX4_init_119 : decode cX4_init 119 = .ok (.bastore, 1) := dk_84 (dk_at dksX4_init_5 2 rfl rfl)
theorem dX4_init_120 : decode cX4_init 120 = .ok (.dup, 1) := dk_89 (dk_at dksX4_init_5 3 rfl rfl)
theorem dX4_init_121 : decode cX4_init 121 = .ok (.bipush 14, 2) := dk_16 14 (dk_at dksX4_init_5 4 rfl rfl)
theorem dX4_init_123 : decode cX4_init 123 = .ok (.bipush 97, 2) := dk_16 97 (dk_at dksX4_init_5 6 rfl rfl)
theorem dX4_init_125 : decode cX4_init 125 = .ok (.bastore, 1) := dk_84 (dk_at dksX4_init_5 8 rfl rfl)
theorem dX4_init_126 : decode cX4_init 126 = .ok (.dup, 1) := dk_89 (dk_at dksX4_init_5 9 rfl rfl)
theorem dX4_init_127 : decode cX4_init 127 = .ok (.bipush 15, 2) := dk_16 15 (dk_at dksX4_init_5 10 rfl rfl)
theorem dX4_init_129 : decode cX4_init 129 = .ok (.bipush 110, 2) := dk_16 110 (dk_at dksX4_init_5 12 rfl rfl)
theorem dX4_init_131 : decode cX4_init 131 = .ok (.bastore, 1) := dk_84 (dk_at dksX4_init_5 14 rfl rfl)
theorem dX4_init_132 : decode cX4_init 132 = .ok (.dup, 1) := dk_89 (dk_at dksX4_init_5 15 rfl rfl)
theorem dX4_init_133 : decode cX4_init 133 = .ok (.bipush 16, 2) := dk_16 16 (dk_at dksX4_init_5 16 rfl rfl)
theorem dX4_init_135 : decode cX4_init 135 = .ok (.bipush 99, 2) := dk_16 99 (dk_at dksX4_init_5 18 rfl rfl)
theorem dX4_init_137 : decode cX4_init 137 = .ok (.bastore, 1) := dk_84 (dk_at dksX4_init_5 20 rfl rfl)
theorem dX4_init_138 : decode cX4_init 138 = .ok (.dup, 1) := dk_89 (dk_at dksX4_init_5 21 rfl rfl)
theorem dX4_init_139 : decode cX4_init 139 = .ok (.bipush 17, 2) := dk_16 17 (dk_at dksX4_init_5 22 rfl rfl)
theorem dX4_init_141 : decode cX4_init 141 = .ok (.bipush 101, 2) := dk_16 101 (dk_at dksX4_init_6 0 rfl rfl)
theorem dX4_init_143 : decode cX4_init 143 = .ok (.bastore, 1) := dk_84 (dk_at dksX4_init_6 2 rfl rfl)
theorem dX4_init_144 : decode cX4_init 144 = .ok (.dup, 1) := dk_89 (dk_at dksX4_init_6 3 rfl rfl)
theorem dX4_init_145 : decode cX4_init 145 = .ok (.bipush 18, 2) := dk_16 18 (dk_at dksX4_init_6 4 rfl rfl)
theorem dX4_init_147 : decode cX4_init 147 = .ok (.bipush 32, 2) := dk_16 32 (dk_at dksX4_init_6 6 rfl rfl)
theorem dX4_init_149 : decode cX4_init 149 = .ok (.bastore, 1) := dk_84 (dk_at dksX4_init_6 8 rfl rfl)
theorem dX4_init_150 : decode cX4_init 150 = .ok (.dup, 1) := dk_89 (dk_at dksX4_init_6 9 rfl rfl)
theorem dX4_init_151 : decode cX4_init 151 = .ok (.bipush 19, 2) := dk_16 19 (dk_at dksX4_init_6 10 rfl rfl)
theorem dX4_init_153 : decode cX4_init 153 = .ok (.bipush 105, 2) := dk_16 105 (dk_at dksX4_init_6 12 rfl rfl)
theorem dX4_init_155 : decode cX4_init 155 = .ok (.bastore, 1) := dk_84 (dk_at dksX4_init_6 14 rfl rfl)
theorem dX4_init_156 : decode cX4_init 156 = .ok (.dup, 1) := dk_89 (dk_at dksX4_init_6 15 rfl rfl)
theorem dX4_init_157 : decode cX4_init 157 = .ok (.bipush 20, 2) := dk_16 20 (dk_at dksX4_init_6 16 rfl rfl)
theorem dX4_init_159 : decode cX4_init 159 = .ok (.bipush 102, 2) := dk_16 102 (dk_at dksX4_init_6 18 rfl rfl)
theorem dX4_init_161 : decode cX4_init 161 = .ok (.bastore, 1) := dk_84 (dk_at dksX4_init_6 20 rfl rfl)
theorem dX4_init_162 : decode cX4_init 162 = .ok (.dup, 1) := dk_89 (dk_at dksX4_init_6 21 rfl rfl)
theorem dX4_init_163 : decode cX4_init 163 = .ok (.bipush 21, 2) := dk_16 21 (dk_at dksX4_init_6 22 rfl rfl)
theorem dX4_init_165 : decode cX4_init 165 = .ok (.bipush 32, 2) := dk_16 32 (dk_at dksX4_init_7 0 rfl rfl)
theorem dX4_init_167 : decode cX4_init 167 = .ok (.bastore, 1) := dk_84 (dk_at dksX4_init_7 2 rfl rfl)
theorem dX4_init_168 : decode cX4_init 168 = .ok (.dup, 1) := dk_89 (dk_at dksX4_init_7 3 rfl rfl)
theorem dX4_init_169 : decode cX4_init 169 = .ok (.bipush 22, 2) := dk_16 22 (dk_at dksX4_init_7 4 rfl rfl)
theorem dX4_init_171 : decode cX4_init 171 = .ok (.bipush 111, 2) := dk_16 111 (dk_at dksX4_init_7 6 rfl rfl)
theorem dX4_init_173 : decode cX4_init 173 = .ok (.bastore, 1) := dk_84 (dk_at dksX4_init_7 8 rfl rfl)
theorem dX4_init_174 : decode cX4_init 174 = .ok (.dup, 1) := dk_89 (dk_at dksX4_init_7 9 rfl rfl)
theorem dX4_init_175 : decode cX4_init 175 = .ok (.bipush 23, 2) := dk_16 23 (dk_at dksX4_init_7 10 rfl rfl)
theorem dX4_init_177 : decode cX4_init 177 = .ok (.bipush 114, 2) := dk_16 114 (dk_at dksX4_init_7 12 rfl rfl)
theorem dX4_init_179 : decode cX4_init 179 = .ok (.bastore, 1) := dk_84 (dk_at dksX4_init_7 14 rfl rfl)
theorem dX4_init_180 : decode cX4_init 180 = .ok (.dup, 1) := dk_89 (dk_at dksX4_init_7 15 rfl rfl)
theorem dX4_init_181 : decode cX4_init 181 = .ok (.bipush 24, 2) := dk_16 24 (dk_at dksX4_init_7 16 rfl rfl)
theorem dX4_init_183 : decode cX4_init 183 = .ok (.bipush 32, 2) := dk_16 32 (dk_at dksX4_init_7 18 rfl rfl)
theorem dX4_init_185 : decode cX4_init 185 = .ok (.bastore, 1) := dk_84 (dk_at dksX4_init_7 20 rfl rfl)
theorem dX4_init_186 : decode cX4_init 186 = .ok (.dup, 1) := dk_89 (dk_at dksX4_init_7 21 rfl rfl)
theorem dX4_init_187 : decode cX4_init 187 = .ok (.bipush 25, 2) := dk_16 25 (dk_at dksX4_init_7 22 rfl rfl)
theorem dX4_init_189 : decode cX4_init 189 = .ok (.bipush 97, 2) := dk_16 97 (dk_at dksX4_init_8 0 rfl rfl)
theorem dX4_init_191 : decode cX4_init 191 = .ok (.bastore, 1) := dk_84 (dk_at dksX4_init_8 2 rfl rfl)
theorem dX4_init_192 : decode cX4_init 192 = .ok (.dup, 1) := dk_89 (dk_at dksX4_init_8 3 rfl rfl)
theorem dX4_init_193 : decode cX4_init 193 = .ok (.bipush 26, 2) := dk_16 26 (dk_at dksX4_init_8 4 rfl rfl)
theorem dX4_init_195 : decode cX4_init 195 = .ok (.bipush 110, 2) := dk_16 110 (dk_at dksX4_init_8 6 rfl rfl)
theorem dX4_init_197 : decode cX4_init 197 = .ok (.bastore, 1) := dk_84 (dk_at dksX4_init_8 8 rfl rfl)
theorem dX4_init_198 : decode cX4_init 198 = .ok (.dup, 1) := dk_89 (dk_at dksX4_init_8 9 rfl rfl)
theorem dX4_init_199 : decode cX4_init 199 = .ok (.bipush 27, 2) := dk_16 27 (dk_at dksX4_init_8 10 rfl rfl)
theorem dX4_init_201 : decode cX4_init 201 = .ok (.bipush 100, 2) := dk_16 100 (dk_at dksX4_init_8 12 rfl rfl)
theorem dX4_init_203 : decode cX4_init 203 = .ok (.bastore, 1) := dk_84 (dk_at dksX4_init_8 14 rfl rfl)
theorem dX4_init_204 : decode cX4_init 204 = .ok (.dup, 1) := dk_89 (dk_at dksX4_init_8 15 rfl rfl)
theorem dX4_init_205 : decode cX4_init 205 = .ok (.bipush 28, 2) := dk_16 28 (dk_at dksX4_init_8 16 rfl rfl)
theorem dX4_init_207 : decode cX4_init 207 = .ok (.bipush 32, 2) := dk_16 32 (dk_at dksX4_init_8 18 rfl rfl)
theorem dX4_init_209 : decode cX4_init 209 = .ok (.bastore, 1) := dk_84 (dk_at dksX4_init_8 20 rfl rfl)
theorem dX4_init_210 : decode cX4_init 210 = .ok (.dup, 1) := dk_89 (dk_at dksX4_init_8 21 rfl rfl)
theorem dX4_init_211 : decode cX4_init 211 = .ok (.bipush 29, 2) := dk_16 29 (dk_at dksX4_init_8 22 rfl rfl)
theorem dX4_init_213 : decode cX4_init 213 = .ok (.bipush 110, 2) := dk_16 110 (dk_at dksX4_init_9 0 rfl rfl)
theorem dX4_init_215 : decode cX4_init 215 = .ok (.bastore, 1) := dk_84 (dk_at dksX4_init_9 2 rfl rfl)
theorem dX4_init_216 : decode cX4_init 216 = .ok (.dup, 1) := dk_89 (dk_at dksX4_init_9 3 rfl rfl)
theorem dX4_init_217 : decode cX4_init 217 = .ok (.bipush 30, 2) := dk_16 30 (dk_at dksX4_init_9 4 rfl rfl)
theorem dX4_init_219 : decode cX4_init 219 = .ok (.bipush 111, 2) := dk_16 111 (dk_at dksX4_init_9 6 rfl rfl)
theorem dX4_init_221 : decode cX4_init 221 = .ok (.bastore, 1) := dk_84 (dk_at dksX4_init_9 8 rfl rfl)
theorem dX4_init_222 : decode cX4_init 222 = .ok (.dup, 1) := dk_89 (dk_at dksX4_init_9 9 rfl rfl)
theorem dX4_init_223 : decode cX4_init 223 = .ok (.bipush 31, 2) := dk_16 31 (dk_at dksX4_init_9 10 rfl rfl)
theorem dX4_init_225 : decode cX4_init 225 = .ok (.bipush 116, 2) := dk_16 116 (dk_at dksX4_init_9 12 rfl rfl)
theorem dX4_init_227 : decode cX4_init 227 = .ok (.bastore, 1) := dk_84 (dk_at dksX4_init_9 14 rfl rfl)
theorem dX4_init_228 : decode cX4_init 228 = .ok (.dup, 1) := dk_89 (dk_at dksX4_init_9 15 rfl rfl)
theorem dX4_init_229 : decode cX4_init 229 = .ok (.bipush 32, 2) := dk_16 32 (dk_at dksX4_init_9 16 rfl rfl)
theorem dX4_init_231 : decode cX4_init 231 = .ok (.bipush 32, 2) := dk_16 32 (dk_at dksX4_init_9 18 rfl rfl)
theorem dX4_init_233 : decode cX4_init 233 = .ok (.bastore, 1) := dk_84 (dk_at dksX4_init_9 20 rfl rfl)
theorem dX4_init_234 : decode cX4_init 234 = .ok (.dup, 1) := dk_89 (dk_at dksX4_init_9 21 rfl rfl)
theorem dX4_init_235 : decode cX4_init 235 = .ok (.bipush 33, 2) := dk_16 33 (dk_at dksX4_init_9 22 rfl rfl)
theorem dX4_init_237 : decode cX4_init 237 = .ok (.bipush 107, 2) := dk_16 107 (dk_at dksX4_init_10 0 rfl rfl)
theorem dX4_init_239 : decode cX4_init 239 = .ok (.bastore, 1) := dk_84 (dk_at dksX4_init_10 2 rfl rfl)
theorem dX4_init_240 : decode cX4_init 240 = .ok (.dup, 1) := dk_89 (dk_at dksX4_init_10 3 rfl rfl)
theorem dX4_init_241 : decode cX4_init 241 = .ok (.bipush 34, 2) := dk_16 34 (dk_at dksX4_init_10 4 rfl rfl)
theorem dX4_init_243 : decode cX4_init 243 = .ok (.bipush 105, 2) := dk_16 105 (dk_at dksX4_init_10 6 rfl rfl)
theorem dX4_init_245 : decode cX4_init 245 = .ok (.bastore, 1) := dk_84 (dk_at dksX4_init_10 8 rfl rfl)
theorem dX4_init_246 : decode cX4_init 246 = .ok (.dup, 1) := dk_89 (dk_at dksX4_init_10 9 rfl rfl)
theorem dX4_init_247 : decode cX4_init 247 = .ok (.bipush 35, 2) := dk_16 35 (dk_at dksX4_init_10 10 rfl rfl)
theorem dX4_init_249 : decode cX4_init 249 = .ok (.bipush 110, 2) := dk_16 110 (dk_at dksX4_init_10 12 rfl rfl)
theorem dX4_init_251 : decode cX4_init 251 = .ok (.bastore, 1) := dk_84 (dk_at dksX4_init_10 14 rfl rfl)
theorem dX4_init_252 : decode cX4_init 252 = .ok (.dup, 1) := dk_89 (dk_at dksX4_init_10 15 rfl rfl)
theorem dX4_init_253 : decode cX4_init 253 = .ok (.bipush 36, 2) := dk_16 36 (dk_at dksX4_init_10 16 rfl rfl)
theorem dX4_init_255 : decode cX4_init 255 = .ok (.bipush 103, 2) := dk_16 103 (dk_at dksX4_init_10 18 rfl rfl)
theorem dX4_init_257 : decode cX4_init 257 = .ok (.bastore, 1) := dk_84 (dk_at dksX4_init_10 20 rfl rfl)
theorem dX4_init_258 : decode cX4_init 258 = .ok (.dup, 1) := dk_89 (dk_at dksX4_init_10 21 rfl rfl)
theorem dX4_init_259 : decode cX4_init 259 = .ok (.bipush 37, 2) := dk_16 37 (dk_at dksX4_init_10 22 rfl rfl)
theorem dX4_init_261 : decode cX4_init 261 = .ok (.bipush 32, 2) := dk_16 32 (dk_at dksX4_init_11 0 rfl rfl)
theorem dX4_init_263 : decode cX4_init 263 = .ok (.bastore, 1) := dk_84 (dk_at dksX4_init_11 2 rfl rfl)
theorem dX4_init_264 : decode cX4_init 264 = .ok (.dup, 1) := dk_89 (dk_at dksX4_init_11 3 rfl rfl)
theorem dX4_init_265 : decode cX4_init 265 = .ok (.bipush 38, 2) := dk_16 38 (dk_at dksX4_init_11 4 rfl rfl)
theorem dX4_init_267 : decode cX4_init 267 = .ok (.bipush 112, 2) := dk_16 112 (dk_at dksX4_init_11 6 rfl rfl)
theorem dX4_init_269 : decode cX4_init 269 = .ok (.bastore, 1) := dk_84 (dk_at dksX4_init_11 8 rfl rfl)
theorem dX4_init_270 : decode cX4_init 270 = .ok (.dup, 1) := dk_89 (dk_at dksX4_init_11 9 rfl rfl)
theorem dX4_init_271 : decode cX4_init 271 = .ok (.bipush 39, 2) := dk_16 39 (dk_at dksX4_init_11 10 rfl rfl)
theorem dX4_init_273 : decode cX4_init 273 = .ok (.bipush 97, 2) := dk_16 97 (dk_at dksX4_init_11 12 rfl rfl)
theorem dX4_init_275 : decode cX4_init 275 = .ok (.bastore, 1) := dk_84 (dk_at dksX4_init_11 14 rfl rfl)
theorem dX4_init_276 : decode cX4_init 276 = .ok (.dup, 1) := dk_89 (dk_at dksX4_init_11 15 rfl rfl)
theorem dX4_init_277 : decode cX4_init 277 = .ok (.bipush 40, 2) := dk_16 40 (dk_at dksX4_init_11 16 rfl rfl)
theorem dX4_init_279 : decode cX4_init 279 = .ok (.bipush 103, 2) := dk_16 103 (dk_at dksX4_init_11 18 rfl rfl)
theorem dX4_init_281 : decode cX4_init 281 = .ok (.bastore, 1) := dk_84 (dk_at dksX4_init_11 20 rfl rfl)
theorem dX4_init_282 : decode cX4_init 282 = .ok (.dup, 1) := dk_89 (dk_at dksX4_init_11 21 rfl rfl)
theorem dX4_init_283 : decode cX4_init 283 = .ok (.bipush 41, 2) := dk_16 41 (dk_at dksX4_init_11 22 rfl rfl)
theorem dX4_init_285 : decode cX4_init 285 = .ok (.bipush 101, 2) := dk_16 101 (dk_at dksX4_init_12 0 rfl rfl)
theorem dX4_init_287 : decode cX4_init 287 = .ok (.bastore, 1) := dk_84 (dk_at dksX4_init_12 2 rfl rfl)
theorem dX4_init_288 : decode cX4_init 288 = .ok (.dup, 1) := dk_89 (dk_at dksX4_init_12 3 rfl rfl)
theorem dX4_init_289 : decode cX4_init 289 = .ok (.bipush 42, 2) := dk_16 42 (dk_at dksX4_init_12 4 rfl rfl)
theorem dX4_init_291 : decode cX4_init 291 = .ok (.bipush 115, 2) := dk_16 115 (dk_at dksX4_init_12 6 rfl rfl)
theorem dX4_init_293 : decode cX4_init 293 = .ok (.bastore, 1) := dk_84 (dk_at dksX4_init_12 8 rfl rfl)
theorem dX4_init_294 : decode cX4_init 294 = .ok (.dup, 1) := dk_89 (dk_at dksX4_init_12 9 rfl rfl)
theorem dX4_init_295 : decode cX4_init 295 = .ok (.bipush 43, 2) := dk_16 43 (dk_at dksX4_init_12 10 rfl rfl)
theorem dX4_init_297 : decode cX4_init 297 = .ok (.bipush 32, 2) := dk_16 32 (dk_at dksX4_init_12 12 rfl rfl)
theorem dX4_init_299 : decode cX4_init 299 = .ok (.bastore, 1) := dk_84 (dk_at dksX4_init_12 14 rfl rfl)
theorem dX4_init_300 : decode cX4_init 300 = .ok (.dup, 1) := dk_89 (dk_at dksX4_init_12 15 rfl rfl)
theorem dX4_init_301 : decode cX4_init 301 = .ok (.bipush 44, 2) := dk_16 44 (dk_at dksX4_init_12 16 rfl rfl)
theorem dX4_init_303 : decode cX4_init 303 = .ok (.bipush 108, 2) := dk_16 108 (dk_at dksX4_init_12 18 rfl rfl)
theorem dX4_init_305 : decode cX4_init 305 = .ok (.bastore, 1) := dk_84 (dk_at dksX4_init_12 20 rfl rfl)
theorem dX4_init_306 : decode cX4_init 306 = .ok (.dup, 1) := dk_89 (dk_at dksX4_init_12 21 rfl rfl)
theorem dX4_init_307 : decode cX4_init 307 = .ok (.bipush 45, 2) := dk_16 45 (dk_at dksX4_init_12 22 rfl rfl)
theorem dX4_init_309 : decode cX4_init 309 = .ok (.bipush 101, 2) := dk_16 101 (dk_at dksX4_init_13 0 rfl rfl)
theorem dX4_init_311 : decode cX4_init 311 = .ok (.bastore, 1) := dk_84 (dk_at dksX4_init_13 2 rfl rfl)
theorem dX4_init_312 : decode cX4_init 312 = .ok (.dup, 1) := dk_89 (dk_at dksX4_init_13 3 rfl rfl)
theorem dX4_init_313 : decode cX4_init 313 = .ok (.bipush 46, 2) := dk_16 46 (dk_at dksX4_init_13 4 rfl rfl)
theorem dX4_init_315 : decode cX4_init 315 = .ok (.bipush 118, 2) := dk_16 118 (dk_at dksX4_init_13 6 rfl rfl)
theorem dX4_init_317 : decode cX4_init 317 = .ok (.bastore, 1) := dk_84 (dk_at dksX4_init_13 8 rfl rfl)
theorem dX4_init_318 : decode cX4_init 318 = .ok (.dup, 1) := dk_89 (dk_at dksX4_init_13 9 rfl rfl)
theorem dX4_init_319 : decode cX4_init 319 = .ok (.bipush 47, 2) := dk_16 47 (dk_at dksX4_init_13 10 rfl rfl)
theorem dX4_init_321 : decode cX4_init 321 = .ok (.bipush 101, 2) := dk_16 101 (dk_at dksX4_init_13 12 rfl rfl)
theorem dX4_init_323 : decode cX4_init 323 = .ok (.bastore, 1) := dk_84 (dk_at dksX4_init_13 14 rfl rfl)
theorem dX4_init_324 : decode cX4_init 324 = .ok (.dup, 1) := dk_89 (dk_at dksX4_init_13 15 rfl rfl)
theorem dX4_init_325 : decode cX4_init 325 = .ok (.bipush 48, 2) := dk_16 48 (dk_at dksX4_init_13 16 rfl rfl)
theorem dX4_init_327 : decode cX4_init 327 = .ok (.bipush 108, 2) := dk_16 108 (dk_at dksX4_init_13 18 rfl rfl)
theorem dX4_init_329 : decode cX4_init 329 = .ok (.bastore, 1) := dk_84 (dk_at dksX4_init_13 20 rfl rfl)
theorem dX4_init_330 : decode cX4_init 330 = .ok (.dup, 1) := dk_89 (dk_at dksX4_init_13 21 rfl rfl)
theorem dX4_init_331 : decode cX4_init 331 = .ok (.bipush 49, 2) := dk_16 49 (dk_at dksX4_init_13 22 rfl rfl)
theorem dX4_init_333 : decode cX4_init 333 = .ok (.bipush 32, 2) := dk_16 32 (dk_at dksX4_init_14 0 rfl rfl)
theorem dX4_init_335 : decode cX4_init 335 = .ok (.bastore, 1) := dk_84 (dk_at dksX4_init_14 2 rfl rfl)
theorem dX4_init_336 : decode cX4_init 336 = .ok (.dup, 1) := dk_89 (dk_at dksX4_init_14 3 rfl rfl)
theorem dX4_init_337 : decode cX4_init 337 = .ok (.bipush 50, 2) := dk_16 50 (dk_at dksX4_init_14 4 rfl rfl)
theorem dX4_init_339 : decode cX4_init 339 = .ok (.bipush 104, 2) := dk_16 104 (dk_at dksX4_init_14 6 rfl rfl)
theorem dX4_init_341 : decode cX4_init 341 = .ok (.bastore, 1) := dk_84 (dk_at dksX4_init_14 8 rfl rfl)
theorem dX4_init_342 : decode cX4_init 342 = .ok (.dup, 1) := dk_89 (dk_at dksX4_init_14 9 rfl rfl)
theorem dX4_init_343 : decode cX4_init 343 = .ok (.bipush 51, 2) := dk_16 51 (dk_at dksX4_init_14 10 rfl rfl)
theorem dX4_init_345 : decode cX4_init 345 = .ok (.bipush 101, 2) := dk_16 101 (dk_at dksX4_init_14 12 rfl rfl)
theorem dX4_init_347 : decode cX4_init 347 = .ok (.bastore, 1) := dk_84 (dk_at dksX4_init_14 14 rfl rfl)
theorem dX4_init_348 : decode cX4_init 348 = .ok (.dup, 1) := dk_89 (dk_at dksX4_init_14 15 rfl rfl)
theorem dX4_init_349 : decode cX4_init 349 = .ok (.bipush 52, 2) := dk_16 52 (dk_at dksX4_init_14 16 rfl rfl)
theorem dX4_init_351 : decode cX4_init 351 = .ok (.bipush 108, 2) := dk_16 108 (dk_at dksX4_init_14 18 rfl rfl)
theorem dX4_init_353 : decode cX4_init 353 = .ok (.bastore, 1) := dk_84 (dk_at dksX4_init_14 20 rfl rfl)
theorem dX4_init_354 : decode cX4_init 354 = .ok (.dup, 1) := dk_89 (dk_at dksX4_init_14 21 rfl rfl)
theorem dX4_init_355 : decode cX4_init 355 = .ok (.bipush 53, 2) := dk_16 53 (dk_at dksX4_init_14 22 rfl rfl)
theorem dX4_init_357 : decode cX4_init 357 = .ok (.bipush 112, 2) := dk_16 112 (dk_at dksX4_init_15 0 rfl rfl)
theorem dX4_init_359 : decode cX4_init 359 = .ok (.bastore, 1) := dk_84 (dk_at dksX4_init_15 2 rfl rfl)
theorem dX4_init_360 : decode cX4_init 360 = .ok (.dup, 1) := dk_89 (dk_at dksX4_init_15 3 rfl rfl)
theorem dX4_init_361 : decode cX4_init 361 = .ok (.bipush 54, 2) := dk_16 54 (dk_at dksX4_init_15 4 rfl rfl)
theorem dX4_init_363 : decode cX4_init 363 = .ok (.bipush 101, 2) := dk_16 101 (dk_at dksX4_init_15 6 rfl rfl)
theorem dX4_init_365 : decode cX4_init 365 = .ok (.bastore, 1) := dk_84 (dk_at dksX4_init_15 8 rfl rfl)
theorem dX4_init_366 : decode cX4_init 366 = .ok (.dup, 1) := dk_89 (dk_at dksX4_init_15 9 rfl rfl)
theorem dX4_init_367 : decode cX4_init 367 = .ok (.bipush 55, 2) := dk_16 55 (dk_at dksX4_init_15 10 rfl rfl)
theorem dX4_init_369 : decode cX4_init 369 = .ok (.bipush 100, 2) := dk_16 100 (dk_at dksX4_init_15 12 rfl rfl)
theorem dX4_init_371 : decode cX4_init 371 = .ok (.bastore, 1) := dk_84 (dk_at dksX4_init_15 14 rfl rfl)
theorem dX4_init_372 : decode cX4_init 372 = .ok (.dup, 1) := dk_89 (dk_at dksX4_init_15 15 rfl rfl)
theorem dX4_init_373 : decode cX4_init 373 = .ok (.bipush 56, 2) := dk_16 56 (dk_at dksX4_init_15 16 rfl rfl)
theorem dX4_init_375 : decode cX4_init 375 = .ok (.bipush 32, 2) := dk_16 32 (dk_at dksX4_init_15 18 rfl rfl)
theorem dX4_init_377 : decode cX4_init 377 = .ok (.bastore, 1) := dk_84 (dk_at dksX4_init_15 20 rfl rfl)
theorem dX4_init_378 : decode cX4_init 378 = .ok (.dup, 1) := dk_89 (dk_at dksX4_init_15 21 rfl rfl)
theorem dX4_init_379 : decode cX4_init 379 = .ok (.bipush 57, 2) := dk_16 57 (dk_at dksX4_init_15 22 rfl rfl)
theorem dX4_init_381 : decode cX4_init 381 = .ok (.bipush 108, 2) := dk_16 108 (dk_at dksX4_init_16 0 rfl rfl)
theorem dX4_init_383 : decode cX4_init 383 = .ok (.bastore, 1) := dk_84 (dk_at dksX4_init_16 2 rfl rfl)
theorem dX4_init_384 : decode cX4_init 384 = .ok (.dup, 1) := dk_89 (dk_at dksX4_init_16 3 rfl rfl)
theorem dX4_init_385 : decode cX4_init 385 = .ok (.bipush 58, 2) := dk_16 58 (dk_at dksX4_init_16 4 rfl rfl)
theorem dX4_init_387 : decode cX4_init 387 = .ok (.bipush 105, 2) := dk_16 105 (dk_at dksX4_init_16 6 rfl rfl)
theorem dX4_init_389 : decode cX4_init 389 = .ok (.bastore, 1) := dk_84 (dk_at dksX4_init_16 8 rfl rfl)
theorem dX4_init_390 : decode cX4_init 390 = .ok (.dup, 1) := dk_89 (dk_at dksX4_init_16 9 rfl rfl)
theorem dX4_init_391 : decode cX4_init 391 = .ok (.bipush 59, 2) := dk_16 59 (dk_at dksX4_init_16 10 rfl rfl)
theorem dX4_init_393 : decode cX4_init 393 = .ok (.bipush 107, 2) := dk_16 107 (dk_at dksX4_init_16 12 rfl rfl)
theorem dX4_init_395 : decode cX4_init 395 = .ok (.bastore, 1) := dk_84 (dk_at dksX4_init_16 14 rfl rfl)
theorem dX4_init_396 : decode cX4_init 396 = .ok (.dup, 1) := dk_89 (dk_at dksX4_init_16 15 rfl rfl)
theorem dX4_init_397 : decode cX4_init 397 = .ok (.bipush 60, 2) := dk_16 60 (dk_at dksX4_init_16 16 rfl rfl)
theorem dX4_init_399 : decode cX4_init 399 = .ok (.bipush 101, 2) := dk_16 101 (dk_at dksX4_init_16 18 rfl rfl)
theorem dX4_init_401 : decode cX4_init 401 = .ok (.bastore, 1) := dk_84 (dk_at dksX4_init_16 20 rfl rfl)
theorem dX4_init_402 : decode cX4_init 402 = .ok (.dup, 1) := dk_89 (dk_at dksX4_init_16 21 rfl rfl)
theorem dX4_init_403 : decode cX4_init 403 = .ok (.bipush 61, 2) := dk_16 61 (dk_at dksX4_init_16 22 rfl rfl)
theorem dX4_init_405 : decode cX4_init 405 = .ok (.bipush 100, 2) := dk_16 100 (dk_at dksX4_init_17 0 rfl rfl)
theorem dX4_init_407 : decode cX4_init 407 = .ok (.bastore, 1) := dk_84 (dk_at dksX4_init_17 2 rfl rfl)
theorem dX4_init_408 : decode cX4_init 408 = .ok (.dup, 1) := dk_89 (dk_at dksX4_init_17 3 rfl rfl)
theorem dX4_init_409 : decode cX4_init 409 = .ok (.bipush 62, 2) := dk_16 62 (dk_at dksX4_init_17 4 rfl rfl)
theorem dX4_init_411 : decode cX4_init 411 = .ok (.bipush 32, 2) := dk_16 32 (dk_at dksX4_init_17 6 rfl rfl)
theorem dX4_init_413 : decode cX4_init 413 = .ok (.bastore, 1) := dk_84 (dk_at dksX4_init_17 8 rfl rfl)
theorem dX4_init_414 : decode cX4_init 414 = .ok (.dup, 1) := dk_89 (dk_at dksX4_init_17 9 rfl rfl)
theorem dX4_init_415 : decode cX4_init 415 = .ok (.bipush 63, 2) := dk_16 63 (dk_at dksX4_init_17 10 rfl rfl)
theorem dX4_init_417 : decode cX4_init 417 = .ok (.bipush 100, 2) := dk_16 100 (dk_at dksX4_init_17 12 rfl rfl)
theorem dX4_init_419 : decode cX4_init 419 = .ok (.bastore, 1) := dk_84 (dk_at dksX4_init_17 14 rfl rfl)
theorem dX4_init_420 : decode cX4_init 420 = .ok (.dup, 1) := dk_89 (dk_at dksX4_init_17 15 rfl rfl)
theorem dX4_init_421 : decode cX4_init 421 = .ok (.bipush 64, 2) := dk_16 64 (dk_at dksX4_init_17 16 rfl rfl)
theorem dX4_init_423 : decode cX4_init 423 = .ok (.bipush 97, 2) := dk_16 97 (dk_at dksX4_init_17 18 rfl rfl)
theorem dX4_init_425 : decode cX4_init 425 = .ok (.bastore, 1) := dk_84 (dk_at dksX4_init_17 20 rfl rfl)
theorem dX4_init_426 : decode cX4_init 426 = .ok (.dup, 1) := dk_89 (dk_at dksX4_init_17 21 rfl rfl)
theorem dX4_init_427 : decode cX4_init 427 = .ok (.bipush 65, 2) := dk_16 65 (dk_at dksX4_init_17 22 rfl rfl)
theorem dX4_init_429 : decode cX4_init 429 = .ok (.bipush 121, 2) := dk_16 121 (dk_at dksX4_init_18 0 rfl rfl)
theorem dX4_init_431 : decode cX4_init 431 = .ok (.bastore, 1) := dk_84 (dk_at dksX4_init_18 2 rfl rfl)
theorem dX4_init_432 : decode cX4_init 432 = .ok (.dup, 1) := dk_89 (dk_at dksX4_init_18 3 rfl rfl)
theorem dX4_init_433 : decode cX4_init 433 = .ok (.bipush 66, 2) := dk_16 66 (dk_at dksX4_init_18 4 rfl rfl)
theorem dX4_init_435 : decode cX4_init 435 = .ok (.bipush 32, 2) := dk_16 32 (dk_at dksX4_init_18 6 rfl rfl)
theorem dX4_init_437 : decode cX4_init 437 = .ok (.bastore, 1) := dk_84 (dk_at dksX4_init_18 8 rfl rfl)
theorem dX4_init_438 : decode cX4_init 438 = .ok (.dup, 1) := dk_89 (dk_at dksX4_init_18 9 rfl rfl)
theorem dX4_init_439 : decode cX4_init 439 = .ok (.bipush 67, 2) := dk_16 67 (dk_at dksX4_init_18 10 rfl rfl)
theorem dX4_init_441 : decode cX4_init 441 = .ok (.bipush 113, 2) := dk_16 113 (dk_at dksX4_init_18 12 rfl rfl)
theorem dX4_init_443 : decode cX4_init 443 = .ok (.bastore, 1) := dk_84 (dk_at dksX4_init_18 14 rfl rfl)
theorem dX4_init_444 : decode cX4_init 444 = .ok (.dup, 1) := dk_89 (dk_at dksX4_init_18 15 rfl rfl)
theorem dX4_init_445 : decode cX4_init 445 = .ok (.bipush 68, 2) := dk_16 68 (dk_at dksX4_init_18 16 rfl rfl)
theorem dX4_init_447 : decode cX4_init 447 = .ok (.bipush 117, 2) := dk_16 117 (dk_at dksX4_init_18 18 rfl rfl)
theorem dX4_init_449 : decode cX4_init 449 = .ok (.bastore, 1) := dk_84 (dk_at dksX4_init_18 20 rfl rfl)
theorem dX4_init_450 : decode cX4_init 450 = .ok (.dup, 1) := dk_89 (dk_at dksX4_init_18 21 rfl rfl)
theorem dX4_init_451 : decode cX4_init 451 = .ok (.bipush 69, 2) := dk_16 69 (dk_at dksX4_init_18 22 rfl rfl)
theorem dX4_init_453 : decode cX4_init 453 = .ok (.bipush 101, 2) := dk_16 101 (dk_at dksX4_init_19 0 rfl rfl)
theorem dX4_init_455 : decode cX4_init 455 = .ok (.bastore, 1) := dk_84 (dk_at dksX4_init_19 2 rfl rfl)
theorem dX4_init_456 : decode cX4_init 456 = .ok (.dup, 1) := dk_89 (dk_at dksX4_init_19 3 rfl rfl)
theorem dX4_init_457 : decode cX4_init 457 = .ok (.bipush 70, 2) := dk_16 70 (dk_at dksX4_init_19 4 rfl rfl)
theorem dX4_init_459 : decode cX4_init 459 = .ok (.bipush 115, 2) := dk_16 115 (dk_at dksX4_init_19 6 rfl rfl)
theorem dX4_init_461 : decode cX4_init 461 = .ok (.bastore, 1) := dk_84 (dk_at dksX4_init_19 8 rfl rfl)
theorem dX4_init_462 : decode cX4_init 462 = .ok (.dup, 1) := dk_89 (dk_at dksX4_init_19 9 rfl rfl)
theorem dX4_init_463 : decode cX4_init 463 = .ok (.bipush 71, 2) := dk_16 71 (dk_at dksX4_init_19 10 rfl rfl)
theorem dX4_init_465 : decode cX4_init 465 = .ok (.bipush 116, 2) := dk_16 116 (dk_at dksX4_init_19 12 rfl rfl)
theorem dX4_init_467 : decode cX4_init 467 = .ok (.bastore, 1) := dk_84 (dk_at dksX4_init_19 14 rfl rfl)
theorem dX4_init_468 : decode cX4_init 468 = .ok (.dup, 1) := dk_89 (dk_at dksX4_init_19 15 rfl rfl)
theorem dX4_init_469 : decode cX4_init 469 = .ok (.bipush 72, 2) := dk_16 72 (dk_at dksX4_init_19 16 rfl rfl)
theorem dX4_init_471 : decode cX4_init 471 = .ok (.bipush 105, 2) := dk_16 105 (dk_at dksX4_init_19 18 rfl rfl)
theorem dX4_init_473 : decode cX4_init 473 = .ok (.bastore, 1) := dk_84 (dk_at dksX4_init_19 20 rfl rfl)
theorem dX4_init_474 : decode cX4_init 474 = .ok (.dup, 1) := dk_89 (dk_at dksX4_init_19 21 rfl rfl)
theorem dX4_init_475 : decode cX4_init 475 = .ok (.bipush 73, 2) := dk_16 73 (dk_at dksX4_init_19 22 rfl rfl)
theorem dX4_init_477 : decode cX4_init 477 = .ok (.bipush 111, 2) := dk_16 111 (dk_at dksX4_init_20 0 rfl rfl)
theorem dX4_init_479 : decode cX4_init 479 = .ok (.bastore, 1) := dk_84 (dk_at dksX4_init_20 2 rfl rfl)
theorem dX4_init_480 : decode cX4_init 480 = .ok (.dup, 1) := dk_89 (dk_at dksX4_init_20 3 rfl rfl)
theorem dX4_init_481 : decode cX4_init 481 = .ok (.bipush 74, 2) := dk_16 74 (dk_at dksX4_init_20 4 rfl rfl)
theorem dX4_init_483 : decode cX4_init 483 = .ok (.bipush 110, 2) := dk_16 110 (dk_at dksX4_init_20 6 rfl rfl)
theorem dX4_init_485 : decode cX4_init 485 = .ok (.bastore, 1) := dk_84 (dk_at dksX4_init_20 8 rfl rfl)
theorem dX4_init_486 : decode cX4_init 486 = .ok (.dup, 1) := dk_89 (dk_at dksX4_init_20 9 rfl rfl)
theorem dX4_init_487 : decode cX4_init 487 = .ok (.bipush 75, 2) := dk_16 75 (dk_at dksX4_init_20 10 rfl rfl)
theorem dX4_init_489 : decode cX4_init 489 = .ok (.bipush 32, 2) := dk_16 32 (dk_at dksX4_init_20 12 rfl rfl)
theorem dX4_init_491 : decode cX4_init 491 = .ok (.bastore, 1) := dk_84 (dk_at dksX4_init_20 14 rfl rfl)
theorem dX4_init_492 : decode cX4_init 492 = .ok (.putfield 30, 3) := dk_181 0 30 (dk_at dksX4_init_20 15 rfl rfl)
theorem dX4_init_495 : decode cX4_init 495 = .ok (.aload_n 0, 1) := dk_42 (dk_at dksX4_init_20 18 rfl rfl)
theorem dX4_init_496 : decode cX4_init 496 = .ok (.sipush 400, 3) := dk_17 1 144 (dk_at dksX4_init_20 19 rfl rfl)
theorem dX4_init_499 : decode cX4_init 499 = .ok (.newarray .byte, 2) := dk_188_8 (dk_at dksX4_init_20 22 rfl rfl)
theorem dX4_init_501 : decode cX4_init 501 = .ok (.putfield 34, 3) := dk_181 0 34 (dk_at dksX4_init_21 0 rfl rfl)
theorem dX4_init_504 : decode cX4_init 504 = .ok (.aload_n 0, 1) := dk_42 (dk_at dksX4_init_21 3 rfl rfl)
theorem dX4_init_505 : decode cX4_init 505 = .ok (.iconst 5, 1) := dk_8 (dk_at dksX4_init_21 4 rfl rfl)
theorem dX4_init_506 : decode cX4_init 506 = .ok (.newarray .int, 2) := dk_188_10 (dk_at dksX4_init_21 5 rfl rfl)
theorem dX4_init_508 : decode cX4_init 508 = .ok (.putfield 37, 3) := dk_181 0 37 (dk_at dksX4_init_21 7 rfl rfl)
theorem dX4_init_511 : decode cX4_init 511 = .ok (.aload_n 0, 1) := dk_42 (dk_at dksX4_init_21 10 rfl rfl)
theorem dX4_init_512 : decode cX4_init 512 = .ok (.iconst (-1), 1) := dk_2 (dk_at dksX4_init_21 11 rfl rfl)
theorem dX4_init_513 : decode cX4_init 513 = .ok (.putfield 40, 3) := dk_181 0 40 (dk_at dksX4_init_21 12 rfl rfl)
theorem dX4_init_516 : decode cX4_init 516 = .ok (.aload_n 0, 1) := dk_42 (dk_at dksX4_init_21 15 rfl rfl)
theorem dX4_init_517 : decode cX4_init 517 = .ok (.sipush 401, 3) := dk_17 1 145 (dk_at dksX4_init_21 16 rfl rfl)
theorem dX4_init_520 : decode cX4_init 520 = .ok (.newarray .int, 2) := dk_188_10 (dk_at dksX4_init_21 19 rfl rfl)
theorem dX4_init_522 : decode cX4_init 522 = .ok (.putfield 43, 3) := dk_181 0 43 (dk_at dksX4_init_21 21 rfl rfl)
theorem dX4_init_525 : decode cX4_init 525 = .ok (.aload_n 0, 1) := dk_42 (dk_at dksX4_init_22 0 rfl rfl)
theorem dX4_init_526 : decode cX4_init 526 = .ok (.sipush 401, 3) := dk_17 1 145 (dk_at dksX4_init_22 1 rfl rfl)
theorem dX4_init_529 : decode cX4_init 529 = .ok (.newarray .int, 2) := dk_188_10 (dk_at dksX4_init_22 4 rfl rfl)
theorem dX4_init_531 : decode cX4_init 531 = .ok (.putfield 46, 3) := dk_181 0 46 (dk_at dksX4_init_22 6 rfl rfl)
theorem dX4_init_534 : decode cX4_init 534 = .ok (.aload_n 0, 1) := dk_42 (dk_at dksX4_init_22 9 rfl rfl)
theorem dX4_init_535 : decode cX4_init 535 = .ok (.sipush 401, 3) := dk_17 1 145 (dk_at dksX4_init_22 10 rfl rfl)
theorem dX4_init_538 : decode cX4_init 538 = .ok (.newarray .int, 2) := dk_188_10 (dk_at dksX4_init_22 13 rfl rfl)
theorem dX4_init_540 : decode cX4_init 540 = .ok (.putfield 49, 3) := dk_181 0 49 (dk_at dksX4_init_22 15 rfl rfl)
theorem dX4_init_543 : decode cX4_init 543 = .ok (.aload_n 0, 1) := dk_42 (dk_at dksX4_init_22 18 rfl rfl)
theorem dX4_init_544 : decode cX4_init 544 = .ok (.bipush 7, 2) := dk_16 7 (dk_at dksX4_init_22 19 rfl rfl)
theorem dX4_init_546 : decode cX4_init 546 = .ok (.newarray .int, 2) := dk_188_10 (dk_at dksX4_init_22 21 rfl rfl)
theorem dX4_init_548 : decode cX4_init 548 = .ok (.putfield 52, 3) := dk_181 0 52 (dk_at dksX4_init_23 0 rfl rfl)
theorem dX4_init_551 : decode cX4_init 551 = .ok (.aload_n 0, 1) := dk_42 (dk_at dksX4_init_23 3 rfl rfl)
theorem dX4_init_552 : decode cX4_init 552 = .ok (.iconst 3, 1) := dk_6 (dk_at dksX4_init_23 4 rfl rfl)
theorem dX4_init_553 : decode cX4_init 553 = .ok (.newarray .int, 2) := dk_188_10 (dk_at dksX4_init_23 5 rfl rfl)
theorem dX4_init_555 : decode cX4_init 555 = .ok (.putfield 55, 3) := dk_181 0 55 (dk_at dksX4_init_23 7 rfl rfl)
theorem dX4_init_558 : decode cX4_init 558 = .ok (.aload_n 0, 1) := dk_42 (dk_at dksX4_init_23 10 rfl rfl)
theorem dX4_init_559 : decode cX4_init 559 = .ok (.iconst 3, 1) := dk_6 (dk_at dksX4_init_23 11 rfl rfl)
theorem dX4_init_560 : decode cX4_init 560 = .ok (.newarray .int, 2) := dk_188_10 (dk_at dksX4_init_23 12 rfl rfl)
theorem dX4_init_562 : decode cX4_init 562 = .ok (.putfield 58, 3) := dk_181 0 58 (dk_at dksX4_init_23 14 rfl rfl)
theorem dX4_init_565 : decode cX4_init 565 = .ok (.aload_n 0, 1) := dk_42 (dk_at dksX4_init_23 17 rfl rfl)
theorem dX4_init_566 : decode cX4_init 566 = .ok (.iconst 3, 1) := dk_6 (dk_at dksX4_init_23 18 rfl rfl)
theorem dX4_init_567 : decode cX4_init 567 = .ok (.newarray .int, 2) := dk_188_10 (dk_at dksX4_init_23 19 rfl rfl)
theorem dX4_init_569 : decode cX4_init 569 = .ok (.putfield 61, 3) := dk_181 0 61 (dk_at dksX4_init_23 21 rfl rfl)
theorem dX4_init_572 : decode cX4_init 572 = .ok (.aload_n 0, 1) := dk_42 (dk_at dksX4_init_24 0 rfl rfl)
theorem dX4_init_573 : decode cX4_init 573 = .ok (.iconst 3, 1) := dk_6 (dk_at dksX4_init_24 1 rfl rfl)
theorem dX4_init_574 : decode cX4_init 574 = .ok (.newarray .int, 2) := dk_188_10 (dk_at dksX4_init_24 2 rfl rfl)
theorem dX4_init_576 : decode cX4_init 576 = .ok (.putfield 64, 3) := dk_181 0 64 (dk_at dksX4_init_24 4 rfl rfl)
theorem dX4_init_579 : decode cX4_init 579 = .ok (.aload_n 0, 1) := dk_42 (dk_at dksX4_init_24 7 rfl rfl)
theorem dX4_init_580 : decode cX4_init 580 = .ok (.iconst 4, 1) := dk_7 (dk_at dksX4_init_24 8 rfl rfl)
theorem dX4_init_581 : decode cX4_init 581 = .ok (.newarray .long, 2) := dk_188_11 (dk_at dksX4_init_24 9 rfl rfl)
theorem dX4_init_583 : decode cX4_init 583 = .ok (.putfield 67, 3) := dk_181 0 67 (dk_at dksX4_init_24 11 rfl rfl)
theorem dX4_init_586 : decode cX4_init 586 = .ok (.aload_n 0, 1) := dk_42 (dk_at dksX4_init_24 14 rfl rfl)
theorem dX4_init_587 : decode cX4_init 587 = .ok (.iconst 4, 1) := dk_7 (dk_at dksX4_init_24 15 rfl rfl)
theorem dX4_init_588 : decode cX4_init 588 = .ok (.newarray .long, 2) := dk_188_11 (dk_at dksX4_init_24 16 rfl rfl)
theorem dX4_init_590 : decode cX4_init 590 = .ok (.putfield 71, 3) := dk_181 0 71 (dk_at dksX4_init_24 18 rfl rfl)
theorem dX4_init_593 : decode cX4_init 593 = .ok (.aload_n 0, 1) := dk_42 (dk_at dksX4_init_24 21 rfl rfl)
theorem dX4_init_594 : decode cX4_init 594 = .ok (.ldc 74, 2) := dk_18 74 (dk_at dksX4_init_24 22 rfl rfl)
theorem dX4_init_596 : decode cX4_init 596 = .ok (.newarray .int, 2) := dk_188_10 (dk_at dksX4_init_25 0 rfl rfl)
theorem dX4_init_598 : decode cX4_init 598 = .ok (.putfield 75, 3) := dk_181 0 75 (dk_at dksX4_init_25 2 rfl rfl)
theorem dX4_init_601 : decode cX4_init 601 = .ok (.aload_n 0, 1) := dk_42 (dk_at dksX4_init_25 5 rfl rfl)
theorem dX4_init_602 : decode cX4_init 602 = .ok (.sipush 441, 3) := dk_17 1 185 (dk_at dksX4_init_25 6 rfl rfl)
theorem dX4_init_605 : decode cX4_init 605 = .ok (.newarray .long, 2) := dk_188_11 (dk_at dksX4_init_25 9 rfl rfl)
theorem dX4_init_607 : decode cX4_init 607 = .ok (.putfield 78, 3) := dk_181 0 78 (dk_at dksX4_init_25 11 rfl rfl)
theorem dX4_init_610 : decode cX4_init 610 = .ok (.aload_n 0, 1) := dk_42 (dk_at dksX4_init_25 14 rfl rfl)
theorem dX4_init_611 : decode cX4_init 611 = .ok (.bipush 80, 2) := dk_16 80 (dk_at dksX4_init_25 15 rfl rfl)
theorem dX4_init_613 : decode cX4_init 613 = .ok (.newarray .int, 2) := dk_188_10 (dk_at dksX4_init_25 17 rfl rfl)
theorem dX4_init_615 : decode cX4_init 615 = .ok (.putfield 81, 3) := dk_181 0 81 (dk_at dksX4_init_25 19 rfl rfl)
theorem dX4_init_618 : decode cX4_init 618 = .ok (.aload_n 0, 1) := dk_42 (dk_at dksX4_init_25 22 rfl rfl)
theorem dX4_init_619 : decode cX4_init 619 = .ok (.iconst (-1), 1) := dk_2 (dk_at dksX4_init_25 23 rfl rfl)
theorem dX4_init_620 : decode cX4_init 620 = .ok (.putfield 84, 3) := dk_181 0 84 (dk_at dksX4_init_26 0 rfl rfl)
theorem dX4_init_623 : decode cX4_init 623 = .ok (.aload_n 0, 1) := dk_42 (dk_at dksX4_init_26 3 rfl rfl)
theorem dX4_init_624 : decode cX4_init 624 = .ok (.bipush 20, 2) := dk_16 20 (dk_at dksX4_init_26 4 rfl rfl)
theorem dX4_init_626 : decode cX4_init 626 = .ok (.newarray .int, 2) := dk_188_10 (dk_at dksX4_init_26 6 rfl rfl)
theorem dX4_init_628 : decode cX4_init 628 = .ok (.putfield 87, 3) := dk_181 0 87 (dk_at dksX4_init_26 8 rfl rfl)
theorem dX4_init_631 : decode cX4_init 631 = .ok (.aload_n 0, 1) := dk_42 (dk_at dksX4_init_26 11 rfl rfl)
theorem dX4_init_632 : decode cX4_init 632 = .ok (.sipush 400, 3) := dk_17 1 144 (dk_at dksX4_init_26 12 rfl rfl)
theorem dX4_init_635 : decode cX4_init 635 = .ok (.newarray .int, 2) := dk_188_10 (dk_at dksX4_init_26 15 rfl rfl)
theorem dX4_init_637 : decode cX4_init 637 = .ok (.putfield 90, 3) := dk_181 0 90 (dk_at dksX4_init_26 17 rfl rfl)
theorem dX4_init_640 : decode cX4_init 640 = .ok (.aload_n 0, 1) := dk_42 (dk_at dksX4_init_26 20 rfl rfl)
theorem dX4_init_641 : decode cX4_init 641 = .ok (.bipush 20, 2) := dk_16 20 (dk_at dksX4_init_26 21 rfl rfl)
theorem dX4_init_643 : decode cX4_init 643 = .ok (.newarray .int, 2) := dk_188_10 (dk_at dksX4_init_27 0 rfl rfl)
theorem dX4_init_645 : decode cX4_init 645 = .ok (.putfield 93, 3) := dk_181 0 93 (dk_at dksX4_init_27 2 rfl rfl)
theorem dX4_init_648 : decode cX4_init 648 = .ok (.aload_n 0, 1) := dk_42 (dk_at dksX4_init_27 5 rfl rfl)
theorem dX4_init_649 : decode cX4_init 649 = .ok (.bipush 20, 2) := dk_16 20 (dk_at dksX4_init_27 6 rfl rfl)
theorem dX4_init_651 : decode cX4_init 651 = .ok (.newarray .int, 2) := dk_188_10 (dk_at dksX4_init_27 8 rfl rfl)
theorem dX4_init_653 : decode cX4_init 653 = .ok (.putfield 96, 3) := dk_181 0 96 (dk_at dksX4_init_27 10 rfl rfl)
theorem dX4_init_656 : decode cX4_init 656 = .ok (.aload_n 0, 1) := dk_42 (dk_at dksX4_init_27 13 rfl rfl)
theorem dX4_init_657 : decode cX4_init 657 = .ok (.bipush 20, 2) := dk_16 20 (dk_at dksX4_init_27 14 rfl rfl)
theorem dX4_init_659 : decode cX4_init 659 = .ok (.newarray .int, 2) := dk_188_10 (dk_at dksX4_init_27 16 rfl rfl)
theorem dX4_init_661 : decode cX4_init 661 = .ok (.putfield 99, 3) := dk_181 0 99 (dk_at dksX4_init_27 18 rfl rfl)
theorem dX4_init_664 : decode cX4_init 664 = .ok (.aload_n 0, 1) := dk_42 (dk_at dksX4_init_27 21 rfl rfl)
theorem dX4_init_665 : decode cX4_init 665 = .ok (.bipush 40, 2) := dk_16 40 (dk_at dksX4_init_27 22 rfl rfl)
theorem dX4_init_667 : decode cX4_init 667 = .ok (.newarray .int, 2) := dk_188_10 (dk_at dksX4_init_28 0 rfl rfl)
theorem dX4_init_669 : decode cX4_init 669 = .ok (.putfield 102, 3) := dk_181 0 102 (dk_at dksX4_init_28 2 rfl rfl)
theorem dX4_init_672 : decode cX4_init 672 = .ok (.aload_n 0, 1) := dk_42 (dk_at dksX4_init_28 5 rfl rfl)
theorem dX4_init_673 : decode cX4_init 673 = .ok (.bipush 20, 2) := dk_16 20 (dk_at dksX4_init_28 6 rfl rfl)
theorem dX4_init_675 : decode cX4_init 675 = .ok (.newarray .int, 2) := dk_188_10 (dk_at dksX4_init_28 8 rfl rfl)
theorem dX4_init_677 : decode cX4_init 677 = .ok (.putfield 105, 3) := dk_181 0 105 (dk_at dksX4_init_28 10 rfl rfl)
theorem dX4_init_680 : decode cX4_init 680 = .ok (.aload_n 0, 1) := dk_42 (dk_at dksX4_init_28 13 rfl rfl)
theorem dX4_init_681 : decode cX4_init 681 = .ok (.iconst 3, 1) := dk_6 (dk_at dksX4_init_28 14 rfl rfl)
theorem dX4_init_682 : decode cX4_init 682 = .ok (.newarray .int, 2) := dk_188_10 (dk_at dksX4_init_28 15 rfl rfl)
theorem dX4_init_684 : decode cX4_init 684 = .ok (.putfield 108, 3) := dk_181 0 108 (dk_at dksX4_init_28 17 rfl rfl)
theorem dX4_init_687 : decode cX4_init 687 = .ok (.aload_n 0, 1) := dk_42 (dk_at dksX4_init_28 20 rfl rfl)
theorem dX4_init_688 : decode cX4_init 688 = .ok (.bipush 12, 2) := dk_16 12 (dk_at dksX4_init_28 21 rfl rfl)
theorem dX4_init_690 : decode cX4_init 690 = .ok (.newarray .int, 2) := dk_188_10 (dk_at dksX4_init_29 0 rfl rfl)
theorem dX4_init_692 : decode cX4_init 692 = .ok (.putfield 111, 3) := dk_181 0 111 (dk_at dksX4_init_29 2 rfl rfl)
theorem dX4_init_695 : decode cX4_init 695 = .ok (.aload_n 0, 1) := dk_42 (dk_at dksX4_init_29 5 rfl rfl)
theorem dX4_init_696 : decode cX4_init 696 = .ok (.bipush 12, 2) := dk_16 12 (dk_at dksX4_init_29 6 rfl rfl)
theorem dX4_init_698 : decode cX4_init 698 = .ok (.newarray .int, 2) := dk_188_10 (dk_at dksX4_init_29 8 rfl rfl)
theorem dX4_init_700 : decode cX4_init 700 = .ok (.putfield 114, 3) := dk_181 0 114 (dk_at dksX4_init_29 10 rfl rfl)
theorem dX4_init_703 : decode cX4_init 703 = .ok (.aload_n 0, 1) := dk_42 (dk_at dksX4_init_29 13 rfl rfl)
theorem dX4_init_704 : decode cX4_init 704 = .ok (.bipush 12, 2) := dk_16 12 (dk_at dksX4_init_29 14 rfl rfl)
theorem dX4_init_706 : decode cX4_init 706 = .ok (.newarray .int, 2) := dk_188_10 (dk_at dksX4_init_29 16 rfl rfl)
theorem dX4_init_708 : decode cX4_init 708 = .ok (.putfield 117, 3) := dk_181 0 117 (dk_at dksX4_init_29 18 rfl rfl)
theorem dX4_init_711 : decode cX4_init 711 = .ok (.aload_n 0, 1) := dk_42 (dk_at dksX4_init_29 21 rfl rfl)
theorem dX4_init_712 : decode cX4_init 712 = .ok (.iconst (-1), 1) := dk_2 (dk_at dksX4_init_29 22 rfl rfl)
theorem dX4_init_713 : decode cX4_init 713 = .ok (.putfield 120, 3) := dk_181 0 120 (dk_at dksX4_init_30 0 rfl rfl)
theorem dX4_init_716 : decode cX4_init 716 = .ok (.aload_n 0, 1) := dk_42 (dk_at dksX4_init_30 3 rfl rfl)
theorem dX4_init_717 : decode cX4_init 717 = .ok (.bipush 12, 2) := dk_16 12 (dk_at dksX4_init_30 4 rfl rfl)
theorem dX4_init_719 : decode cX4_init 719 = .ok (.newarray .long, 2) := dk_188_11 (dk_at dksX4_init_30 6 rfl rfl)
theorem dX4_init_721 : decode cX4_init 721 = .ok (.putfield 123, 3) := dk_181 0 123 (dk_at dksX4_init_30 8 rfl rfl)
theorem dX4_init_724 : decode cX4_init 724 = .ok (.aload_n 0, 1) := dk_42 (dk_at dksX4_init_30 11 rfl rfl)
theorem dX4_init_725 : decode cX4_init 725 = .ok (.bipush 12, 2) := dk_16 12 (dk_at dksX4_init_30 12 rfl rfl)
theorem dX4_init_727 : decode cX4_init 727 = .ok (.newarray .long, 2) := dk_188_11 (dk_at dksX4_init_30 14 rfl rfl)
theorem dX4_init_729 : decode cX4_init 729 = .ok (.putfield 126, 3) := dk_181 0 126 (dk_at dksX4_init_30 16 rfl rfl)
theorem dX4_init_732 : decode cX4_init 732 = .ok (.aload_n 0, 1) := dk_42 (dk_at dksX4_init_30 19 rfl rfl)
theorem dX4_init_733 : decode cX4_init 733 = .ok (.bipush 12, 2) := dk_16 12 (dk_at dksX4_init_30 20 rfl rfl)
theorem dX4_init_735 : decode cX4_init 735 = .ok (.newarray .long, 2) := dk_188_11 (dk_at dksX4_init_30 22 rfl rfl)
theorem dX4_init_737 : decode cX4_init 737 = .ok (.putfield 129, 3) := dk_181 0 129 (dk_at dksX4_init_31 0 rfl rfl)
theorem dX4_init_740 : decode cX4_init 740 = .ok (.aload_n 0, 1) := dk_42 (dk_at dksX4_init_31 3 rfl rfl)
theorem dX4_init_741 : decode cX4_init 741 = .ok (.iconst (-1), 1) := dk_2 (dk_at dksX4_init_31 4 rfl rfl)
theorem dX4_init_742 : decode cX4_init 742 = .ok (.putfield 132, 3) := dk_181 0 132 (dk_at dksX4_init_31 5 rfl rfl)
theorem dX4_init_745 : decode cX4_init 745 = .ok (.aload_n 0, 1) := dk_42 (dk_at dksX4_init_31 8 rfl rfl)
theorem dX4_init_746 : decode cX4_init 746 = .ok (.getfield 20, 3) := dk_180 0 20 (dk_at dksX4_init_31 9 rfl rfl)
theorem dX4_init_749 : decode cX4_init 749 = .ok (.bipush 100, 2) := dk_16 100 (dk_at dksX4_init_31 12 rfl rfl)
theorem dX4_init_751 : decode cX4_init 751 = .ok (.bipush 8, 2) := dk_16 8 (dk_at dksX4_init_31 14 rfl rfl)
theorem dX4_init_753 : decode cX4_init 753 = .ok (.iastore, 1) := dk_79 (dk_at dksX4_init_31 16 rfl rfl)
theorem dX4_init_754 : decode cX4_init 754 = .ok (.aload_n 0, 1) := dk_42 (dk_at dksX4_init_31 17 rfl rfl)
theorem dX4_init_755 : decode cX4_init 755 = .ok (.getfield 20, 3) := dk_180 0 20 (dk_at dksX4_init_31 18 rfl rfl)
theorem dX4_init_758 : decode cX4_init 758 = .ok (.bipush 101, 2) := dk_16 101 (dk_at dksX4_init_31 21 rfl rfl)
theorem dX4_init_760 : decode cX4_init 760 = .ok (.iconst 3, 1) := dk_6 (dk_at dksX4_init_31 23 rfl rfl)
theorem dX4_init_761 : decode cX4_init 761 = .ok (.iastore, 1) := dk_79 (dk_at dksX4_init_32 0 rfl rfl)
theorem dX4_init_762 : decode cX4_init 762 = .ok (.aload_n 0, 1) := dk_42 (dk_at dksX4_init_32 1 rfl rfl)
theorem dX4_init_763 : decode cX4_init 763 = .ok (.getfield 20, 3) := dk_180 0 20 (dk_at dksX4_init_32 2 rfl rfl)
theorem dX4_init_766 : decode cX4_init 766 = .ok (.bipush 102, 2) := dk_16 102 (dk_at dksX4_init_32 5 rfl rfl)
theorem dX4_init_768 : decode cX4_init 768 = .ok (.iconst 2, 1) := dk_5 (dk_at dksX4_init_32 7 rfl rfl)
theorem dX4_init_769 : decode cX4_init 769 = .ok (.iastore, 1) := dk_79 (dk_at dksX4_init_32 8 rfl rfl)
theorem dX4_init_770 : decode cX4_init 770 = .ok (.aload_n 0, 1) := dk_42 (dk_at dksX4_init_32 9 rfl rfl)
theorem dX4_init_771 : decode cX4_init 771 = .ok (.getfield 20, 3) := dk_180 0 20 (dk_at dksX4_init_32 10 rfl rfl)
theorem dX4_init_774 : decode cX4_init 774 = .ok (.bipush 104, 2) := dk_16 104 (dk_at dksX4_init_32 13 rfl rfl)
theorem dX4_init_776 : decode cX4_init 776 = .ok (.bipush 10, 2) := dk_16 10 (dk_at dksX4_init_32 15 rfl rfl)
theorem dX4_init_778 : decode cX4_init 778 = .ok (.iastore, 1) := dk_79 (dk_at dksX4_init_32 17 rfl rfl)
theorem dX4_init_779 : decode cX4_init 779 = .ok (.aload_n 0, 1) := dk_42 (dk_at dksX4_init_32 18 rfl rfl)
theorem dX4_init_780 : decode cX4_init 780 = .ok (.getfield 20, 3) := dk_180 0 20 (dk_at dksX4_init_32 19 rfl rfl)
theorem dX4_init_783 : decode cX4_init 783 = .ok (.bipush 105, 2) := dk_16 105 (dk_at dksX4_init_32 22 rfl rfl)
theorem dX4_init_785 : decode cX4_init 785 = .ok (.bipush 19, 2) := dk_16 19 (dk_at dksX4_init_33 0 rfl rfl)
theorem dX4_init_787 : decode cX4_init 787 = .ok (.iastore, 1) := dk_79 (dk_at dksX4_init_33 2 rfl rfl)
theorem dX4_init_788 : decode cX4_init 788 = .ok (.aload_n 0, 1) := dk_42 (dk_at dksX4_init_33 3 rfl rfl)
theorem dX4_init_789 : decode cX4_init 789 = .ok (.getfield 20, 3) := dk_180 0 20 (dk_at dksX4_init_33 4 rfl rfl)
theorem dX4_init_792 : decode cX4_init 792 = .ok (.bipush 106, 2) := dk_16 106 (dk_at dksX4_init_33 7 rfl rfl)
theorem dX4_init_794 : decode cX4_init 794 = .ok (.bipush 6, 2) := dk_16 6 (dk_at dksX4_init_33 9 rfl rfl)
theorem dX4_init_796 : decode cX4_init 796 = .ok (.iastore, 1) := dk_79 (dk_at dksX4_init_33 11 rfl rfl)
theorem dX4_init_797 : decode cX4_init 797 = .ok (.aload_n 0, 1) := dk_42 (dk_at dksX4_init_33 12 rfl rfl)
theorem dX4_init_798 : decode cX4_init 798 = .ok (.getfield 20, 3) := dk_180 0 20 (dk_at dksX4_init_33 13 rfl rfl)
theorem dX4_init_801 : decode cX4_init 801 = .ok (.sipush 394, 3) := dk_17 1 138 (dk_at dksX4_init_33 16 rfl rfl)
theorem dX4_init_804 : decode cX4_init 804 = .ok (.iconst (-1), 1) := dk_2 (dk_at dksX4_init_33 19 rfl rfl)
theorem dX4_init_805 : decode cX4_init 805 = .ok (.iastore, 1) := dk_79 (dk_at dksX4_init_33 20 rfl rfl)
theorem dX4_init_806 : decode cX4_init 806 = .ok (.return_, 1) := dk_177 (dk_at dksX4_init_33 21 rfl rfl)
abbrev cX4_image : ByteArray := prog_29_method_5_code
def yX4_image : MethodName := ⟨RX4, "image", "(I)I"⟩
def dkwX4_image_2 : List UInt8 := [42, 180, 0, 26, 27, 4, 84, 42, 3, 182, 0, 143, 172]
abbrev dktX4_image_2 : List UInt8 := dkwX4_image_2 ++ []
def dkwX4_image_1 : List UInt8 := [42, 180, 0, 23, 17, 20, 81, 27, 104, 28, 96, 42, 180, 0, 20, 28, 46, 79, 132, 2, 1, 167, 255, 228]
abbrev dktX4_image_1 : List UInt8 := dkwX4_image_1 ++ dktX4_image_2
def dkwX4_image_0 : List UInt8 := [27, 3, 4, 184, 0, 135, 154, 0, 9, 42, 2, 182, 0, 139, 172, 3, 61, 28, 17, 20, 81, 162, 0, 27]
abbrev dktX4_image_0 : List UInt8 := dkwX4_image_0 ++ dktX4_image_1
theorem dksX4_image_0 : cX4_image.data.toList.drop 0 = dktX4_image_0 := by decide +kernel
theorem dksX4_image_1 : cX4_image.data.toList.drop 24 = dktX4_image_1 := dk_seg dksX4_image_0 24 rfl rfl
theorem dksX4_image_2 : cX4_image.data.toList.drop 48 = dktX4_image_2 := dk_seg dksX4_image_1 24 rfl rfl
theorem dX4_image_0 : decode cX4_image 0 = .ok (.iload_n 1, 1) := dk_27 (dk_at dksX4_image_0 0 rfl rfl)
theorem dX4_image_1 : decode cX4_image 1 = .ok (.iconst 0, 1) := dk_3 (dk_at dksX4_image_0 1 rfl rfl)
theorem dX4_image_2 : decode cX4_image 2 = .ok (.iconst 1, 1) := dk_4 (dk_at dksX4_image_0 2 rfl rfl)
theorem dX4_image_3 : decode cX4_image 3 = .ok (.invokestatic 135, 3) := dk_184 0 135 (dk_at dksX4_image_0 3 rfl rfl)
theorem dX4_image_6 : decode cX4_image 6 = .ok (.ifCond .ne 9, 3) := dk_154 0 9 (dk_at dksX4_image_0 6 rfl rfl)
theorem dX4_image_9 : decode cX4_image 9 = .ok (.aload_n 0, 1) := dk_42 (dk_at dksX4_image_0 9 rfl rfl)
theorem dX4_image_10 : decode cX4_image 10 = .ok (.iconst (-1), 1) := dk_2 (dk_at dksX4_image_0 10 rfl rfl)
theorem dX4_image_11 : decode cX4_image 11 = .ok (.invokevirtual 139, 3) := dk_182 0 139 (dk_at dksX4_image_0 11 rfl rfl)
theorem dX4_image_14 : decode cX4_image 14 = .ok (.ireturn, 1) := dk_172 (dk_at dksX4_image_0 14 rfl rfl)
theorem dX4_image_15 : decode cX4_image 15 = .ok (.iconst 0, 1) := dk_3 (dk_at dksX4_image_0 15 rfl rfl)
theorem dX4_image_16 : decode cX4_image 16 = .ok (.istore_n 2, 1) := dk_61 (dk_at dksX4_image_0 16 rfl rfl)
theorem dX4_image_17 : decode cX4_image 17 = .ok (.iload_n 2, 1) := dk_28 (dk_at dksX4_image_0 17 rfl rfl)
theorem dX4_image_18 : decode cX4_image 18 = .ok (.sipush 5201, 3) := dk_17 20 81 (dk_at dksX4_image_0 18 rfl rfl)
theorem dX4_image_21 : decode cX4_image 21 = .ok (.if_icmp .ge 27, 3) := dk_162 0 27 (dk_at dksX4_image_0 21 rfl rfl)
theorem dX4_image_24 : decode cX4_image 24 = .ok (.aload_n 0, 1) := dk_42 (dk_at dksX4_image_1 0 rfl rfl)
theorem dX4_image_25 : decode cX4_image 25 = .ok (.getfield 23, 3) := dk_180 0 23 (dk_at dksX4_image_1 1 rfl rfl)
theorem dX4_image_28 : decode cX4_image 28 = .ok (.sipush 5201, 3) := dk_17 20 81 (dk_at dksX4_image_1 4 rfl rfl)
theorem dX4_image_31 : decode cX4_image 31 = .ok (.iload_n 1, 1) := dk_27 (dk_at dksX4_image_1 7 rfl rfl)
theorem dX4_image_32 : decode cX4_image 32 = .ok (.imul, 1) := dk_104 (dk_at dksX4_image_1 8 rfl rfl)
theorem dX4_image_33 : decode cX4_image 33 = .ok (.iload_n 2, 1) := dk_28 (dk_at dksX4_image_1 9 rfl rfl)
theorem dX4_image_34 : decode cX4_image 34 = .ok (.iadd, 1) := dk_96 (dk_at dksX4_image_1 10 rfl rfl)
theorem dX4_image_35 : decode cX4_image 35 = .ok (.aload_n 0, 1) := dk_42 (dk_at dksX4_image_1 11 rfl rfl)
theorem dX4_image_36 : decode cX4_image 36 = .ok (.getfield 20, 3) := dk_180 0 20 (dk_at dksX4_image_1 12 rfl rfl)
theorem dX4_image_39 : decode cX4_image 39 = .ok (.iload_n 2, 1) := dk_28 (dk_at dksX4_image_1 15 rfl rfl)
theorem dX4_image_40 : decode cX4_image 40 = .ok (.iaload, 1) := dk_46 (dk_at dksX4_image_1 16 rfl rfl)
theorem dX4_image_41 : decode cX4_image 41 = .ok (.iastore, 1) := dk_79 (dk_at dksX4_image_1 17 rfl rfl)
theorem dX4_image_42 : decode cX4_image 42 = .ok (.iinc 2 1, 3) := dk_132 2 1 (dk_at dksX4_image_1 18 rfl rfl)
theorem dX4_image_45 : decode cX4_image 45 = .ok (.goto (-28), 3) := dk_167 255 228 (dk_at dksX4_image_1 21 rfl rfl)
theorem dX4_image_48 : decode cX4_image 48 = .ok (.aload_n 0, 1) := dk_42 (dk_at dksX4_image_2 0 rfl rfl)
theorem dX4_image_49 : decode cX4_image 49 = .ok (.getfield 26, 3) := dk_180 0 26 (dk_at dksX4_image_2 1 rfl rfl)
theorem dX4_image_52 : decode cX4_image 52 = .ok (.iload_n 1, 1) := dk_27 (dk_at dksX4_image_2 4 rfl rfl)
theorem dX4_image_53 : decode cX4_image 53 = .ok (.iconst 1, 1) := dk_4 (dk_at dksX4_image_2 5 rfl rfl)
theorem dX4_image_54 : decode cX4_image 54 = .ok (.bastore, 1) := dk_84 (dk_at dksX4_image_2 6 rfl rfl)
theorem dX4_image_55 : decode cX4_image 55 = .ok (.aload_n 0, 1) := dk_42 (dk_at dksX4_image_2 7 rfl rfl)
theorem dX4_image_56 : decode cX4_image 56 = .ok (.iconst 0, 1) := dk_3 (dk_at dksX4_image_2 8 rfl rfl)
theorem dX4_image_57 : decode cX4_image 57 = .ok (.invokevirtual 143, 3) := dk_182 0 143 (dk_at dksX4_image_2 9 rfl rfl)
theorem dX4_image_60 : decode cX4_image 60 = .ok (.ireturn, 1) := dk_172 (dk_at dksX4_image_2 12 rfl rfl)
abbrev cX4_lies : ByteArray := prog_29_method_1_code
def yX4_lies : MethodName := ⟨RX4, "lies", "(III)Z"⟩
def dkwX4_lies_0 : List UInt8 := [26, 27, 161, 0, 12, 26, 28, 163, 0, 7, 4, 167, 0, 4, 3, 172]
abbrev dktX4_lies_0 : List UInt8 := dkwX4_lies_0 ++ []
theorem dksX4_lies_0 : cX4_lies.data.toList.drop 0 = dktX4_lies_0 := by decide +kernel
theorem dX4_lies_0 : decode cX4_lies 0 = .ok (.iload_n 0, 1) := dk_26 (dk_at dksX4_lies_0 0 rfl rfl)
theorem dX4_lies_1 : decode cX4_lies 1 = .ok (.iload_n 1, 1) := dk_27 (dk_at dksX4_lies_0 1 rfl rfl)
theorem dX4_lies_2 : decode cX4_lies 2 = .ok (.if_icmp .lt 12, 3) := dk_161 0 12 (dk_at dksX4_lies_0 2 rfl rfl)
theorem dX4_lies_5 : decode cX4_lies 5 = .ok (.iload_n 0, 1) := dk_26 (dk_at dksX4_lies_0 5 rfl rfl)
theorem dX4_lies_6 : decode cX4_lies 6 = .ok (.iload_n 2, 1) := dk_28 (dk_at dksX4_lies_0 6 rfl rfl)
theorem dX4_lies_7 : decode cX4_lies 7 = .ok (.if_icmp .gt 7, 3) := dk_163 0 7 (dk_at dksX4_lies_0 7 rfl rfl)
theorem dX4_lies_10 : decode cX4_lies 10 = .ok (.iconst 1, 1) := dk_4 (dk_at dksX4_lies_0 10 rfl rfl)
theorem dX4_lies_11 : decode cX4_lies 11 = .ok (.goto 4, 3) := dk_167 0 4 (dk_at dksX4_lies_0 11 rfl rfl)
theorem dX4_lies_14 : decode cX4_lies 14 = .ok (.iconst 0, 1) := dk_3 (dk_at dksX4_lies_0 14 rfl rfl)
theorem dX4_lies_15 : decode cX4_lies 15 = .ok (.ireturn, 1) := dk_172 (dk_at dksX4_lies_0 15 rfl rfl)
abbrev cX4_refuses : ByteArray := prog_29_method_2_code
def yX4_refuses : MethodName := ⟨RX4, "refuses", "(I)I"⟩
def dkwX4_refuses_0 : List UInt8 := [42, 27, 181, 0, 3, 42, 180, 0, 7, 27, 116, 92, 46, 4, 96, 79, 27, 172]
abbrev dktX4_refuses_0 : List UInt8 := dkwX4_refuses_0 ++ []
theorem dksX4_refuses_0 : cX4_refuses.data.toList.drop 0 = dktX4_refuses_0 := by decide +kernel
theorem dX4_refuses_0 : decode cX4_refuses 0 = .ok (.aload_n 0, 1) := dk_42 (dk_at dksX4_refuses_0 0 rfl rfl)
theorem dX4_refuses_1 : decode cX4_refuses 1 = .ok (.iload_n 1, 1) := dk_27 (dk_at dksX4_refuses_0 1 rfl rfl)
theorem dX4_refuses_2 : decode cX4_refuses 2 = .ok (.putfield 3, 3) := dk_181 0 3 (dk_at dksX4_refuses_0 2 rfl rfl)
theorem dX4_refuses_5 : decode cX4_refuses 5 = .ok (.aload_n 0, 1) := dk_42 (dk_at dksX4_refuses_0 5 rfl rfl)
theorem dX4_refuses_6 : decode cX4_refuses 6 = .ok (.getfield 7, 3) := dk_180 0 7 (dk_at dksX4_refuses_0 6 rfl rfl)
theorem dX4_refuses_9 : decode cX4_refuses 9 = .ok (.iload_n 1, 1) := dk_27 (dk_at dksX4_refuses_0 9 rfl rfl)
theorem dX4_refuses_10 : decode cX4_refuses 10 = .ok (.ineg, 1) := dk_116 (dk_at dksX4_refuses_0 10 rfl rfl)
theorem dX4_refuses_11 : decode cX4_refuses 11 = .ok (.dup2, 1) := dk_92 (dk_at dksX4_refuses_0 11 rfl rfl)
theorem dX4_refuses_12 : decode cX4_refuses 12 = .ok (.iaload, 1) := dk_46 (dk_at dksX4_refuses_0 12 rfl rfl)
theorem dX4_refuses_13 : decode cX4_refuses 13 = .ok (.iconst 1, 1) := dk_4 (dk_at dksX4_refuses_0 13 rfl rfl)
theorem dX4_refuses_14 : decode cX4_refuses 14 = .ok (.iadd, 1) := dk_96 (dk_at dksX4_refuses_0 14 rfl rfl)
theorem dX4_refuses_15 : decode cX4_refuses 15 = .ok (.iastore, 1) := dk_79 (dk_at dksX4_refuses_0 15 rfl rfl)
theorem dX4_refuses_16 : decode cX4_refuses 16 = .ok (.iload_n 1, 1) := dk_27 (dk_at dksX4_refuses_0 16 rfl rfl)
theorem dX4_refuses_17 : decode cX4_refuses 17 = .ok (.ireturn, 1) := dk_172 (dk_at dksX4_refuses_0 17 rfl rfl)
abbrev cX4_good : ByteArray := prog_29_method_3_code
def yX4_good : MethodName := ⟨RX4, "good", "(I)I"⟩
def dkwX4_good_0 : List UInt8 := [42, 3, 181, 0, 3, 42, 89, 180, 0, 11, 4, 96, 181, 0, 11, 27, 172]
abbrev dktX4_good_0 : List UInt8 := dkwX4_good_0 ++ []
theorem dksX4_good_0 : cX4_good.data.toList.drop 0 = dktX4_good_0 := by decide +kernel
theorem dX4_good_0 : decode cX4_good 0 = .ok (.aload_n 0, 1) := dk_42 (dk_at dksX4_good_0 0 rfl rfl)
theorem dX4_good_1 : decode cX4_good 1 = .ok (.iconst 0, 1) := dk_3 (dk_at dksX4_good_0 1 rfl rfl)
theorem dX4_good_2 : decode cX4_good 2 = .ok (.putfield 3, 3) := dk_181 0 3 (dk_at dksX4_good_0 2 rfl rfl)
theorem dX4_good_5 : decode cX4_good 5 = .ok (.aload_n 0, 1) := dk_42 (dk_at dksX4_good_0 5 rfl rfl)
theorem dX4_good_6 : decode cX4_good 6 = .ok (.dup, 1) := dk_89 (dk_at dksX4_good_0 6 rfl rfl)
theorem dX4_good_7 : decode cX4_good 7 = .ok (.getfield 11, 3) := dk_180 0 11 (dk_at dksX4_good_0 7 rfl rfl)
theorem dX4_good_10 : decode cX4_good 10 = .ok (.iconst 1, 1) := dk_4 (dk_at dksX4_good_0 10 rfl rfl)
theorem dX4_good_11 : decode cX4_good 11 = .ok (.iadd, 1) := dk_96 (dk_at dksX4_good_0 11 rfl rfl)
theorem dX4_good_12 : decode cX4_good 12 = .ok (.putfield 11, 3) := dk_181 0 11 (dk_at dksX4_good_0 12 rfl rfl)
theorem dX4_good_15 : decode cX4_good 15 = .ok (.iload_n 1, 1) := dk_27 (dk_at dksX4_good_0 15 rfl rfl)
theorem dX4_good_16 : decode cX4_good 16 = .ok (.ireturn, 1) := dk_172 (dk_at dksX4_good_0 16 rfl rfl)
abbrev cX4_back : ByteArray := prog_29_method_6_code
def yX4_back : MethodName := ⟨RX4, "back", "(I)I"⟩
def dkwX4_back_2 : List UInt8 := [180, 0, 23, 17, 20, 81, 27, 104, 28, 96, 46, 79, 132, 2, 1, 167, 255, 228, 42, 3, 182, 0, 143, 172]
abbrev dktX4_back_2 : List UInt8 := dkwX4_back_2 ++ []
def dkwX4_back_1 : List UInt8 := [42, 16, 254, 182, 0, 139, 172, 3, 61, 28, 17, 20, 81, 162, 0, 27, 42, 180, 0, 20, 28, 42]
abbrev dktX4_back_1 : List UInt8 := dkwX4_back_1 ++ dktX4_back_2
def dkwX4_back_0 : List UInt8 := [27, 3, 4, 184, 0, 135, 154, 0, 9, 42, 2, 182, 0, 139, 172, 42, 180, 0, 26, 27, 51, 154, 0, 10]
abbrev dktX4_back_0 : List UInt8 := dkwX4_back_0 ++ dktX4_back_1
theorem dksX4_back_0 : cX4_back.data.toList.drop 0 = dktX4_back_0 := by decide +kernel
theorem dksX4_back_1 : cX4_back.data.toList.drop 24 = dktX4_back_1 := dk_seg dksX4_back_0 24 rfl rfl
theorem dksX4_back_2 : cX4_back.data.toList.drop 46 = dktX4_back_2 := dk_seg dksX4_back_1 22 rfl rfl
theorem dX4_back_0 : decode cX4_back 0 = .ok (.iload_n 1, 1) := dk_27 (dk_at dksX4_back_0 0 rfl rfl)
theorem dX4_back_1 : decode cX4_back 1 = .ok (.iconst 0, 1) := dk_3 (dk_at dksX4_back_0 1 rfl rfl)
theorem dX4_back_2 : decode cX4_back 2 = .ok (.iconst 1, 1) := dk_4 (dk_at dksX4_back_0 2 rfl rfl)
theorem dX4_back_3 : decode cX4_back 3 = .ok (.invokestatic 135, 3) := dk_184 0 135 (dk_at dksX4_back_0 3 rfl rfl)
theorem dX4_back_6 : decode cX4_back 6 = .ok (.ifCond .ne 9, 3) := dk_154 0 9 (dk_at dksX4_back_0 6 rfl rfl)
theorem dX4_back_9 : decode cX4_back 9 = .ok (.aload_n 0, 1) := dk_42 (dk_at dksX4_back_0 9 rfl rfl)
theorem dX4_back_10 : decode cX4_back 10 = .ok (.iconst (-1), 1) := dk_2 (dk_at dksX4_back_0 10 rfl rfl)
theorem dX4_back_11 : decode cX4_back 11 = .ok (.invokevirtual 139, 3) := dk_182 0 139 (dk_at dksX4_back_0 11 rfl rfl)
theorem dX4_back_14 : decode cX4_back 14 = .ok (.ireturn, 1) := dk_172 (dk_at dksX4_back_0 14 rfl rfl)
theorem dX4_back_15 : decode cX4_back 15 = .ok (.aload_n 0, 1) := dk_42 (dk_at dksX4_back_0 15 rfl rfl)
theorem dX4_back_16 : decode cX4_back 16 = .ok (.getfield 26, 3) := dk_180 0 26 (dk_at dksX4_back_0 16 rfl rfl)
theorem dX4_back_19 : decode cX4_back 19 = .ok (.iload_n 1, 1) := dk_27 (dk_at dksX4_back_0 19 rfl rfl)
theorem dX4_back_20 : decode cX4_back 20 = .ok (.baload, 1) := dk_51 (dk_at dksX4_back_0 20 rfl rfl)
theorem dX4_back_21 : decode cX4_back 21 = .ok (.ifCond .ne 10, 3) := dk_154 0 10 (dk_at dksX4_back_0 21 rfl rfl)
theorem dX4_back_24 : decode cX4_back 24 = .ok (.aload_n 0, 1) := dk_42 (dk_at dksX4_back_1 0 rfl rfl)
theorem dX4_back_25 : decode cX4_back 25 = .ok (.bipush (-2), 2) := dk_16 254 (dk_at dksX4_back_1 1 rfl rfl)
theorem dX4_back_27 : decode cX4_back 27 = .ok (.invokevirtual 139, 3) := dk_182 0 139 (dk_at dksX4_back_1 3 rfl rfl)
theorem dX4_back_30 : decode cX4_back 30 = .ok (.ireturn, 1) := dk_172 (dk_at dksX4_back_1 6 rfl rfl)
theorem dX4_back_31 : decode cX4_back 31 = .ok (.iconst 0, 1) := dk_3 (dk_at dksX4_back_1 7 rfl rfl)
theorem dX4_back_32 : decode cX4_back 32 = .ok (.istore_n 2, 1) := dk_61 (dk_at dksX4_back_1 8 rfl rfl)
theorem dX4_back_33 : decode cX4_back 33 = .ok (.iload_n 2, 1) := dk_28 (dk_at dksX4_back_1 9 rfl rfl)
theorem dX4_back_34 : decode cX4_back 34 = .ok (.sipush 5201, 3) := dk_17 20 81 (dk_at dksX4_back_1 10 rfl rfl)
theorem dX4_back_37 : decode cX4_back 37 = .ok (.if_icmp .ge 27, 3) := dk_162 0 27 (dk_at dksX4_back_1 13 rfl rfl)
theorem dX4_back_40 : decode cX4_back 40 = .ok (.aload_n 0, 1) := dk_42 (dk_at dksX4_back_1 16 rfl rfl)
theorem dX4_back_41 : decode cX4_back 41 = .ok (.getfield 20, 3) := dk_180 0 20 (dk_at dksX4_back_1 17 rfl rfl)
theorem dX4_back_44 : decode cX4_back 44 = .ok (.iload_n 2, 1) := dk_28 (dk_at dksX4_back_1 20 rfl rfl)
theorem dX4_back_45 : decode cX4_back 45 = .ok (.aload_n 0, 1) := dk_42 (dk_at dksX4_back_1 21 rfl rfl)
theorem dX4_back_46 : decode cX4_back 46 = .ok (.getfield 23, 3) := dk_180 0 23 (dk_at dksX4_back_2 0 rfl rfl)
theorem dX4_back_49 : decode cX4_back 49 = .ok (.sipush 5201, 3) := dk_17 20 81 (dk_at dksX4_back_2 3 rfl rfl)
theorem dX4_back_52 : decode cX4_back 52 = .ok (.iload_n 1, 1) := dk_27 (dk_at dksX4_back_2 6 rfl rfl)
theorem dX4_back_53 : decode cX4_back 53 = .ok (.imul, 1) := dk_104 (dk_at dksX4_back_2 7 rfl rfl)
theorem dX4_back_54 : decode cX4_back 54 = .ok (.iload_n 2, 1) := dk_28 (dk_at dksX4_back_2 8 rfl rfl)
theorem dX4_back_55 : decode cX4_back 55 = .ok (.iadd, 1) := dk_96 (dk_at dksX4_back_2 9 rfl rfl)
theorem dX4_back_56 : decode cX4_back 56 = .ok (.iaload, 1) := dk_46 (dk_at dksX4_back_2 10 rfl rfl)
theorem dX4_back_57 : decode cX4_back 57 = .ok (.iastore, 1) := dk_79 (dk_at dksX4_back_2 11 rfl rfl)
theorem dX4_back_58 : decode cX4_back 58 = .ok (.iinc 2 1, 3) := dk_132 2 1 (dk_at dksX4_back_2 12 rfl rfl)
theorem dX4_back_61 : decode cX4_back 61 = .ok (.goto (-28), 3) := dk_167 255 228 (dk_at dksX4_back_2 15 rfl rfl)
theorem dX4_back_64 : decode cX4_back 64 = .ok (.aload_n 0, 1) := dk_42 (dk_at dksX4_back_2 18 rfl rfl)
theorem dX4_back_65 : decode cX4_back 65 = .ok (.iconst 0, 1) := dk_3 (dk_at dksX4_back_2 19 rfl rfl)
theorem dX4_back_66 : decode cX4_back 66 = .ok (.invokevirtual 143, 3) := dk_182 0 143 (dk_at dksX4_back_2 20 rfl rfl)
theorem dX4_back_69 : decode cX4_back 69 = .ok (.ireturn, 1) := dk_172 (dk_at dksX4_back_2 23 rfl rfl)
abbrev cX4_question : ByteArray := prog_29_method_14_code
def yX4_question : MethodName := ⟨RX4, "question", "(II)I"⟩
def dkwX4_question_4 : List UInt8 := [42, 180, 0, 20, 17, 1, 134, 92, 46, 4, 96, 79, 42, 29, 182, 0, 143, 172]
abbrev dktX4_question_4 : List UInt8 := dkwX4_question_4 ++ []
def dkwX4_question_3 : List UInt8 := [42, 180, 0, 20, 3, 8, 29, 104, 96, 27, 79, 42, 180, 0, 20, 3, 8, 29, 104, 96, 4, 96, 28, 79]
abbrev dktX4_question_3 : List UInt8 := dkwX4_question_3 ++ dktX4_question_4
def dkwX4_question_2 : List UInt8 := [8, 162, 0, 23, 42, 180, 0, 20, 3, 8, 29, 104, 96, 21, 4, 96, 3, 79, 132, 4, 1, 167, 255, 233]
abbrev dktX4_question_2 : List UInt8 := dkwX4_question_2 ++ dktX4_question_3
def dkwX4_question_1 : List UInt8 := [172, 42, 182, 0, 146, 62, 29, 16, 20, 160, 0, 10, 42, 16, 251, 182, 0, 139, 172, 3, 54, 4, 21, 4]
abbrev dktX4_question_1 : List UInt8 := dkwX4_question_1 ++ dktX4_question_2
def dkwX4_question_0 : List UInt8 := [27, 3, 7, 184, 0, 135, 153, 0, 13, 28, 4, 16, 99, 184, 0, 135, 154, 0, 9, 42, 2, 182, 0, 139]
abbrev dktX4_question_0 : List UInt8 := dkwX4_question_0 ++ dktX4_question_1
theorem dksX4_question_0 : cX4_question.data.toList.drop 0 = dktX4_question_0 := by decide +kernel
theorem dksX4_question_1 : cX4_question.data.toList.drop 24 = dktX4_question_1 := dk_seg dksX4_question_0 24 rfl rfl
theorem dksX4_question_2 : cX4_question.data.toList.drop 48 = dktX4_question_2 := dk_seg dksX4_question_1 24 rfl rfl
theorem dksX4_question_3 : cX4_question.data.toList.drop 72 = dktX4_question_3 := dk_seg dksX4_question_2 24 rfl rfl
theorem dksX4_question_4 : cX4_question.data.toList.drop 96 = dktX4_question_4 := dk_seg dksX4_question_3 24 rfl rfl
theorem dX4_question_0 : decode cX4_question 0 = .ok (.iload_n 1, 1) := dk_27 (dk_at dksX4_question_0 0 rfl rfl)
theorem dX4_question_1 : decode cX4_question 1 = .ok (.iconst 0, 1) := dk_3 (dk_at dksX4_question_0 1 rfl rfl)
theorem dX4_question_2 : decode cX4_question 2 = .ok (.iconst 4, 1) := dk_7 (dk_at dksX4_question_0 2 rfl rfl)
theorem dX4_question_3 : decode cX4_question 3 = .ok (.invokestatic 135, 3) := dk_184 0 135 (dk_at dksX4_question_0 3 rfl rfl)
theorem dX4_question_6 : decode cX4_question 6 = .ok (.ifCond .eq 13, 3) := dk_153 0 13 (dk_at dksX4_question_0 6 rfl rfl)
theorem dX4_question_9 : decode cX4_question 9 = .ok (.iload_n 2, 1) := dk_28 (dk_at dksX4_question_0 9 rfl rfl)
theorem dX4_question_10 : decode cX4_question 10 = .ok (.iconst 1, 1) := dk_4 (dk_at dksX4_question_0 10 rfl rfl)
theorem dX4_question_11 : decode cX4_question 11 = .ok (.bipush 99, 2) := dk_16 99 (dk_at dksX4_question_0 11 rfl rfl)
theorem dX4_question_13 : decode cX4_question 13 = .ok (.invokestatic 135, 3) := dk_184 0 135 (dk_at dksX4_question_0 13 rfl rfl)
theorem dX4_question_16 : decode cX4_question 16 = .ok (.ifCond .ne 9, 3) := dk_154 0 9 (dk_at dksX4_question_0 16 rfl rfl)
theorem dX4_question_19 : decode cX4_question 19 = .ok (.aload_n 0, 1) := dk_42 (dk_at dksX4_question_0 19 rfl rfl)
theorem dX4_question_20 : decode cX4_question 20 = .ok (.iconst (-1), 1) := dk_2 (dk_at dksX4_question_0 20 rfl rfl)
theorem dX4_question_21 : decode cX4_question 21 = .ok (.invokevirtual 139, 3) := dk_182 0 139 (dk_at dksX4_question_0 21 rfl rfl)
theorem dX4_question_24 : decode cX4_question 24 = .ok (.ireturn, 1) := dk_172 (dk_at dksX4_question_1 0 rfl rfl)
theorem dX4_question_25 : decode cX4_question 25 = .ok (.aload_n 0, 1) := dk_42 (dk_at dksX4_question_1 1 rfl rfl)
theorem dX4_question_26 : decode cX4_question 26 = .ok (.invokevirtual 146, 3) := dk_182 0 146 (dk_at dksX4_question_1 2 rfl rfl)
theorem dX4_question_29 : decode cX4_question 29 = .ok (.istore_n 3, 1) := dk_62 (dk_at dksX4_question_1 5 rfl rfl)
theorem dX4_question_30 : decode cX4_question 30 = .ok (.iload_n 3, 1) := dk_29 (dk_at dksX4_question_1 6 rfl rfl)
theorem dX4_question_31 : decode cX4_question 31 = .ok (.bipush 20, 2) := dk_16 20 (dk_at dksX4_question_1 7 rfl rfl)
theorem dX4_question_33 : decode cX4_question 33 = .ok (.if_icmp .ne 10, 3) := dk_160 0 10 (dk_at dksX4_question_1 9 rfl rfl)
theorem dX4_question_36 : decode cX4_question 36 = .ok (.aload_n 0, 1) := dk_42 (dk_at dksX4_question_1 12 rfl rfl)
theorem dX4_question_37 : decode cX4_question 37 = .ok (.bipush (-5), 2) := dk_16 251 (dk_at dksX4_question_1 13 rfl rfl)
theorem dX4_question_39 : decode cX4_question 39 = .ok (.invokevirtual 139, 3) := dk_182 0 139 (dk_at dksX4_question_1 15 rfl rfl)
theorem dX4_question_42 : decode cX4_question 42 = .ok (.ireturn, 1) := dk_172 (dk_at dksX4_question_1 18 rfl rfl)
theorem dX4_question_43 : decode cX4_question 43 = .ok (.iconst 0, 1) := dk_3 (dk_at dksX4_question_1 19 rfl rfl)
theorem dX4_question_44 : decode cX4_question 44 = .ok (.istore 4, 2) := dk_54 4 (dk_at dksX4_question_1 20 rfl rfl)
theorem dX4_question_46 : decode cX4_question 46 = .ok (.iload 4, 2) := dk_21 4 (dk_at dksX4_question_1 22 rfl rfl)
theorem dX4_question_48 : decode cX4_question 48 = .ok (.iconst 5, 1) := dk_8 (dk_at dksX4_question_2 0 rfl rfl)
theorem dX4_question_49 : decode cX4_question 49 = .ok (.if_icmp .ge 23, 3) := dk_162 0 23 (dk_at dksX4_question_2 1 rfl rfl)
theorem dX4_question_52 : decode cX4_question 52 = .ok (.aload_n 0, 1) := dk_42 (dk_at dksX4_question_2 4 rfl rfl)
theorem dX4_question_53 : decode cX4_question 53 = .ok (.getfield 20, 3) := dk_180 0 20 (dk_at dksX4_question_2 5 rfl rfl)
theorem dX4_question_56 : decode cX4_question 56 = .ok (.iconst 0, 1) := dk_3 (dk_at dksX4_question_2 8 rfl rfl)
theorem dX4_question_57 : decode cX4_question 57 = .ok (.iconst 5, 1) := dk_8 (dk_at dksX4_question_2 9 rfl rfl)
theorem dX4_question_58 : decode cX4_question 58 = .ok (.iload_n 3, 1) := dk_29 (dk_at dksX4_question_2 10 rfl rfl)
theorem dX4_question_59 : decode cX4_question 59 = .ok (.imul, 1) := dk_104 (dk_at dksX4_question_2 11 rfl rfl)
theorem dX4_question_60 : decode cX4_question 60 = .ok (.iadd, 1) := dk_96 (dk_at dksX4_question_2 12 rfl rfl)
theorem dX4_question_61 : decode cX4_question 61 = .ok (.iload 4, 2) := dk_21 4 (dk_at dksX4_question_2 13 rfl rfl)
theorem dX4_question_63 : decode cX4_question 63 = .ok (.iadd, 1) := dk_96 (dk_at dksX4_question_2 15 rfl rfl)
theorem dX4_question_64 : decode cX4_question 64 = .ok (.iconst 0, 1) := dk_3 (dk_at dksX4_question_2 16 rfl rfl)
theorem dX4_question_65 : decode cX4_question 65 = .ok (.iastore, 1) := dk_79 (dk_at dksX4_question_2 17 rfl rfl)
theorem dX4_question_66 : decode cX4_question 66 = .ok (.iinc 4 1, 3) := dk_132 4 1 (dk_at dksX4_question_2 18 rfl rfl)
theorem dX4_question_69 : decode cX4_question 69 = .ok (.goto (-23), 3) := dk_167 255 233 (dk_at dksX4_question_2 21 rfl rfl)
theorem dX4_question_72 : decode cX4_question 72 = .ok (.aload_n 0, 1) := dk_42 (dk_at dksX4_question_3 0 rfl rfl)
theorem dX4_question_73 : decode cX4_question 73 = .ok (.getfield 20, 3) := dk_180 0 20 (dk_at dksX4_question_3 1 rfl rfl)
theorem dX4_question_76 : decode cX4_question 76 = .ok (.iconst 0, 1) := dk_3 (dk_at dksX4_question_3 4 rfl rfl)
theorem dX4_question_77 : decode cX4_question 77 = .ok (.iconst 5, 1) := dk_8 (dk_at dksX4_question_3 5 rfl rfl)
theorem dX4_question_78 : decode cX4_question 78 = .ok (.iload_n 3, 1) := dk_29 (dk_at dksX4_question_3 6 rfl rfl)
theorem dX4_question_79 : decode cX4_question 79 = .ok (.imul, 1) := dk_104 (dk_at dksX4_question_3 7 rfl rfl)
theorem dX4_question_80 : decode cX4_question 80 = .ok (.iadd, 1) := dk_96 (dk_at dksX4_question_3 8 rfl rfl)
theorem dX4_question_81 : decode cX4_question 81 = .ok (.iload_n 1, 1) := dk_27 (dk_at dksX4_question_3 9 rfl rfl)
theorem dX4_question_82 : decode cX4_question 82 = .ok (.iastore, 1) := dk_79 (dk_at dksX4_question_3 10 rfl rfl)
theorem dX4_question_83 : decode cX4_question 83 = .ok (.aload_n 0, 1) := dk_42 (dk_at dksX4_question_3 11 rfl rfl)
theorem dX4_question_84 : decode cX4_question 84 = .ok (.getfield 20, 3) := dk_180 0 20 (dk_at dksX4_question_3 12 rfl rfl)
theorem dX4_question_87 : decode cX4_question 87 = .ok (.iconst 0, 1) := dk_3 (dk_at dksX4_question_3 15 rfl rfl)
theorem dX4_question_88 : decode cX4_question 88 = .ok (.iconst 5, 1) := dk_8 (dk_at dksX4_question_3 16 rfl rfl)
theorem dX4_question_89 : decode cX4_question 89 = .ok (.iload_n 3, 1) := dk_29 (dk_at dksX4_question_3 17 rfl rfl)
theorem dX4_question_90 : decode cX4_question 90 = .ok (.imul, 1) := dk_104 (dk_at dksX4_question_3 18 rfl rfl)
theorem dX4_question_91 : decode cX4_question 91 = .ok (.iadd, 1) := dk_96 (dk_at dksX4_question_3 19 rfl rfl)
theorem dX4_question_92 : decode cX4_question 92 = .ok (.iconst 1, 1) := dk_4 (dk_at dksX4_question_3 20 rfl rfl)
theorem dX4_question_93 : decode cX4_question 93 = .ok (.iadd, 1) := dk_96 (dk_at dksX4_question_3 21 rfl rfl)
theorem dX4_question_94 : decode cX4_question 94 = .ok (.iload_n 2, 1) := dk_28 (dk_at dksX4_question_3 22 rfl rfl)
theorem dX4_question_95 : decode cX4_question 95 = .ok (.iastore, 1) := dk_79 (dk_at dksX4_question_3 23 rfl rfl)
theorem dX4_question_96 : decode cX4_question 96 = .ok (.aload_n 0, 1) := dk_42 (dk_at dksX4_question_4 0 rfl rfl)
theorem dX4_question_97 : decode cX4_question 97 = .ok (.getfield 20, 3) := dk_180 0 20 (dk_at dksX4_question_4 1 rfl rfl)
theorem dX4_question_100 : decode cX4_question 100 = .ok (.sipush 390, 3) := dk_17 1 134 (dk_at dksX4_question_4 4 rfl rfl)
theorem dX4_question_103 : decode cX4_question 103 = .ok (.dup2, 1) := dk_92 (dk_at dksX4_question_4 7 rfl rfl)
theorem dX4_question_104 : decode cX4_question 104 = .ok (.iaload, 1) := dk_46 (dk_at dksX4_question_4 8 rfl rfl)
theorem dX4_question_105 : decode cX4_question 105 = .ok (.iconst 1, 1) := dk_4 (dk_at dksX4_question_4 9 rfl rfl)
theorem dX4_question_106 : decode cX4_question 106 = .ok (.iadd, 1) := dk_96 (dk_at dksX4_question_4 10 rfl rfl)
theorem dX4_question_107 : decode cX4_question 107 = .ok (.iastore, 1) := dk_79 (dk_at dksX4_question_4 11 rfl rfl)
theorem dX4_question_108 : decode cX4_question 108 = .ok (.aload_n 0, 1) := dk_42 (dk_at dksX4_question_4 12 rfl rfl)
theorem dX4_question_109 : decode cX4_question 109 = .ok (.iload_n 3, 1) := dk_29 (dk_at dksX4_question_4 13 rfl rfl)
theorem dX4_question_110 : decode cX4_question 110 = .ok (.invokevirtual 143, 3) := dk_182 0 143 (dk_at dksX4_question_4 14 rfl rfl)
theorem dX4_question_113 : decode cX4_question 113 = .ok (.ireturn, 1) := dk_172 (dk_at dksX4_question_4 17 rfl rfl)
abbrev cX4_questions : ByteArray := prog_29_method_8_code
def yX4_questions : MethodName := ⟨RX4, "questions", "()I"⟩
def dkwX4_questions_0 : List UInt8 := [42, 180, 0, 20, 17, 1, 134, 46, 172]
abbrev dktX4_questions_0 : List UInt8 := dkwX4_questions_0 ++ []
theorem dksX4_questions_0 : cX4_questions.data.toList.drop 0 = dktX4_questions_0 := by decide +kernel
theorem dX4_questions_0 : decode cX4_questions 0 = .ok (.aload_n 0, 1) := dk_42 (dk_at dksX4_questions_0 0 rfl rfl)
theorem dX4_questions_1 : decode cX4_questions 1 = .ok (.getfield 20, 3) := dk_180 0 20 (dk_at dksX4_questions_0 1 rfl rfl)
theorem dX4_questions_4 : decode cX4_questions 4 = .ok (.sipush 390, 3) := dk_17 1 134 (dk_at dksX4_questions_0 4 rfl rfl)
theorem dX4_questions_7 : decode cX4_questions 7 = .ok (.iaload, 1) := dk_46 (dk_at dksX4_questions_0 7 rfl rfl)
theorem dX4_questions_8 : decode cX4_questions 8 = .ok (.ireturn, 1) := dk_172 (dk_at dksX4_questions_0 8 rfl rfl)
abbrev cX4_know : ByteArray := prog_29_method_15_code
def yX4_know : MethodName := ⟨RX4, "know", "(III)I"⟩
def dkwX4_know_2 : List UInt8 := [42, 3, 8, 27, 104, 96, 5, 96, 28, 96, 29, 182, 0, 161, 172]
abbrev dktX4_know_2 : List UInt8 := dkwX4_know_2 ++ []
def dkwX4_know_1 : List UInt8 := [154, 0, 9, 42, 2, 182, 0, 139, 172, 42, 27, 182, 0, 158, 154, 0, 10, 42, 16, 254, 182, 0, 139, 172]
abbrev dktX4_know_1 : List UInt8 := dkwX4_know_1 ++ dktX4_know_2
def dkwX4_know_0 : List UInt8 := [28, 3, 5, 184, 0, 135, 153, 0, 20, 29, 3, 28, 154, 0, 7, 5, 167, 0, 4, 4, 184, 0, 135]
abbrev dktX4_know_0 : List UInt8 := dkwX4_know_0 ++ dktX4_know_1
theorem dksX4_know_0 : cX4_know.data.toList.drop 0 = dktX4_know_0 := by decide +kernel
theorem dksX4_know_1 : cX4_know.data.toList.drop 23 = dktX4_know_1 := dk_seg dksX4_know_0 23 rfl rfl
theorem dksX4_know_2 : cX4_know.data.toList.drop 47 = dktX4_know_2 := dk_seg dksX4_know_1 24 rfl rfl
theorem dX4_know_0 : decode cX4_know 0 = .ok (.iload_n 2, 1) := dk_28 (dk_at dksX4_know_0 0 rfl rfl)
theorem dX4_know_1 : decode cX4_know 1 = .ok (.iconst 0, 1) := dk_3 (dk_at dksX4_know_0 1 rfl rfl)
theorem dX4_know_2 : decode cX4_know 2 = .ok (.iconst 2, 1) := dk_5 (dk_at dksX4_know_0 2 rfl rfl)
theorem dX4_know_3 : decode cX4_know 3 = .ok (.invokestatic 135, 3) := dk_184 0 135 (dk_at dksX4_know_0 3 rfl rfl)
theorem dX4_know_6 : decode cX4_know 6 = .ok (.ifCond .eq 20, 3) := dk_153 0 20 (dk_at dksX4_know_0 6 rfl rfl)
theorem dX4_know_9 : decode cX4_know 9 = .ok (.iload_n 3, 1) := dk_29 (dk_at dksX4_know_0 9 rfl rfl)
theorem dX4_know_10 : decode cX4_know 10 = .ok (.iconst 0, 1) := dk_3 (dk_at dksX4_know_0 10 rfl rfl)
theorem dX4_know_11 : decode cX4_know 11 = .ok (.iload_n 2, 1) := dk_28 (dk_at dksX4_know_0 11 rfl rfl)
theorem dX4_know_12 : decode cX4_know 12 = .ok (.ifCond .ne 7, 3) := dk_154 0 7 (dk_at dksX4_know_0 12 rfl rfl)
theorem dX4_know_15 : decode cX4_know 15 = .ok (.iconst 2, 1) := dk_5 (dk_at dksX4_know_0 15 rfl rfl)
theorem dX4_know_16 : decode cX4_know 16 = .ok (.goto 4, 3) := dk_167 0 4 (dk_at dksX4_know_0 16 rfl rfl)
theorem dX4_know_19 : decode cX4_know 19 = .ok (.iconst 1, 1) := dk_4 (dk_at dksX4_know_0 19 rfl rfl)
theorem dX4_know_20 : decode cX4_know 20 = .ok (.invokestatic 135, 3) := dk_184 0 135 (dk_at dksX4_know_0 20 rfl rfl)
theorem dX4_know_23 : decode cX4_know 23 = .ok (.ifCond .ne 9, 3) := dk_154 0 9 (dk_at dksX4_know_1 0 rfl rfl)
theorem dX4_know_26 : decode cX4_know 26 = .ok (.aload_n 0, 1) := dk_42 (dk_at dksX4_know_1 3 rfl rfl)
theorem dX4_know_27 : decode cX4_know 27 = .ok (.iconst (-1), 1) := dk_2 (dk_at dksX4_know_1 4 rfl rfl)
theorem dX4_know_28 : decode cX4_know 28 = .ok (.invokevirtual 139, 3) := dk_182 0 139 (dk_at dksX4_know_1 5 rfl rfl)
theorem dX4_know_31 : decode cX4_know 31 = .ok (.ireturn, 1) := dk_172 (dk_at dksX4_know_1 8 rfl rfl)
theorem dX4_know_32 : decode cX4_know 32 = .ok (.aload_n 0, 1) := dk_42 (dk_at dksX4_know_1 9 rfl rfl)
theorem dX4_know_33 : decode cX4_know 33 = .ok (.iload_n 1, 1) := dk_27 (dk_at dksX4_know_1 10 rfl rfl)
theorem dX4_know_34 : decode cX4_know 34 = .ok (.invokevirtual 158, 3) := dk_182 0 158 (dk_at dksX4_know_1 11 rfl rfl)
theorem dX4_know_37 : decode cX4_know 37 = .ok (.ifCond .ne 10, 3) := dk_154 0 10 (dk_at dksX4_know_1 14 rfl rfl)
theorem dX4_know_40 : decode cX4_know 40 = .ok (.aload_n 0, 1) := dk_42 (dk_at dksX4_know_1 17 rfl rfl)
theorem dX4_know_41 : decode cX4_know 41 = .ok (.bipush (-2), 2) := dk_16 254 (dk_at dksX4_know_1 18 rfl rfl)
theorem dX4_know_43 : decode cX4_know 43 = .ok (.invokevirtual 139, 3) := dk_182 0 139 (dk_at dksX4_know_1 20 rfl rfl)
theorem dX4_know_46 : decode cX4_know 46 = .ok (.ireturn, 1) := dk_172 (dk_at dksX4_know_1 23 rfl rfl)
theorem dX4_know_47 : decode cX4_know 47 = .ok (.aload_n 0, 1) := dk_42 (dk_at dksX4_know_2 0 rfl rfl)
theorem dX4_know_48 : decode cX4_know 48 = .ok (.iconst 0, 1) := dk_3 (dk_at dksX4_know_2 1 rfl rfl)
theorem dX4_know_49 : decode cX4_know 49 = .ok (.iconst 5, 1) := dk_8 (dk_at dksX4_know_2 2 rfl rfl)
theorem dX4_know_50 : decode cX4_know 50 = .ok (.iload_n 1, 1) := dk_27 (dk_at dksX4_know_2 3 rfl rfl)
theorem dX4_know_51 : decode cX4_know 51 = .ok (.imul, 1) := dk_104 (dk_at dksX4_know_2 4 rfl rfl)
theorem dX4_know_52 : decode cX4_know 52 = .ok (.iadd, 1) := dk_96 (dk_at dksX4_know_2 5 rfl rfl)
theorem dX4_know_53 : decode cX4_know 53 = .ok (.iconst 2, 1) := dk_5 (dk_at dksX4_know_2 6 rfl rfl)
theorem dX4_know_54 : decode cX4_know 54 = .ok (.iadd, 1) := dk_96 (dk_at dksX4_know_2 7 rfl rfl)
theorem dX4_know_55 : decode cX4_know 55 = .ok (.iload_n 2, 1) := dk_28 (dk_at dksX4_know_2 8 rfl rfl)
theorem dX4_know_56 : decode cX4_know 56 = .ok (.iadd, 1) := dk_96 (dk_at dksX4_know_2 9 rfl rfl)
theorem dX4_know_57 : decode cX4_know 57 = .ok (.iload_n 3, 1) := dk_29 (dk_at dksX4_know_2 10 rfl rfl)
theorem dX4_know_58 : decode cX4_know 58 = .ok (.invokevirtual 161, 3) := dk_182 0 161 (dk_at dksX4_know_2 11 rfl rfl)
theorem dX4_know_61 : decode cX4_know 61 = .ok (.ireturn, 1) := dk_172 (dk_at dksX4_know_2 14 rfl rfl)
abbrev cX4_isQuestion : ByteArray := prog_29_method_9_code
def yX4_isQuestion : MethodName := ⟨RX4, "isQuestion", "(I)Z"⟩
def dkwX4_isQuestion_0 : List UInt8 := [27, 3, 42, 182, 0, 146, 4, 100, 184, 0, 135, 172]
abbrev dktX4_isQuestion_0 : List UInt8 := dkwX4_isQuestion_0 ++ []
theorem dksX4_isQuestion_0 : cX4_isQuestion.data.toList.drop 0 = dktX4_isQuestion_0 := by decide +kernel
theorem dX4_isQuestion_0 : decode cX4_isQuestion 0 = .ok (.iload_n 1, 1) := dk_27 (dk_at dksX4_isQuestion_0 0 rfl rfl)
theorem dX4_isQuestion_1 : decode cX4_isQuestion 1 = .ok (.iconst 0, 1) := dk_3 (dk_at dksX4_isQuestion_0 1 rfl rfl)
theorem dX4_isQuestion_2 : decode cX4_isQuestion 2 = .ok (.aload_n 0, 1) := dk_42 (dk_at dksX4_isQuestion_0 2 rfl rfl)
theorem dX4_isQuestion_3 : decode cX4_isQuestion 3 = .ok (.invokevirtual 146, 3) := dk_182 0 146 (dk_at dksX4_isQuestion_0 3 rfl rfl)
theorem dX4_isQuestion_6 : decode cX4_isQuestion 6 = .ok (.iconst 1, 1) := dk_4 (dk_at dksX4_isQuestion_0 6 rfl rfl)
theorem dX4_isQuestion_7 : decode cX4_isQuestion 7 = .ok (.isub, 1) := dk_100 (dk_at dksX4_isQuestion_0 7 rfl rfl)
theorem dX4_isQuestion_8 : decode cX4_isQuestion 8 = .ok (.invokestatic 135, 3) := dk_184 0 135 (dk_at dksX4_isQuestion_0 8 rfl rfl)
theorem dX4_isQuestion_11 : decode cX4_isQuestion 11 = .ok (.ireturn, 1) := dk_172 (dk_at dksX4_isQuestion_0 11 rfl rfl)
abbrev cX4_replaces : ByteArray := prog_29_method_13_code
def yX4_replaces : MethodName := ⟨RX4, "replaces", "(II)I"⟩
def dkwX4_replaces_0 : List UInt8 := [42, 180, 0, 20, 27, 46, 62, 42, 180, 0, 20, 27, 28, 79, 42, 29, 182, 0, 143, 172]
abbrev dktX4_replaces_0 : List UInt8 := dkwX4_replaces_0 ++ []
theorem dksX4_replaces_0 : cX4_replaces.data.toList.drop 0 = dktX4_replaces_0 := by decide +kernel
theorem dX4_replaces_0 : decode cX4_replaces 0 = .ok (.aload_n 0, 1) := dk_42 (dk_at dksX4_replaces_0 0 rfl rfl)
theorem dX4_replaces_1 : decode cX4_replaces 1 = .ok (.getfield 20, 3) := dk_180 0 20 (dk_at dksX4_replaces_0 1 rfl rfl)
theorem dX4_replaces_4 : decode cX4_replaces 4 = .ok (.iload_n 1, 1) := dk_27 (dk_at dksX4_replaces_0 4 rfl rfl)
theorem dX4_replaces_5 : decode cX4_replaces 5 = .ok (.iaload, 1) := dk_46 (dk_at dksX4_replaces_0 5 rfl rfl)
theorem dX4_replaces_6 : decode cX4_replaces 6 = .ok (.istore_n 3, 1) := dk_62 (dk_at dksX4_replaces_0 6 rfl rfl)
theorem dX4_replaces_7 : decode cX4_replaces 7 = .ok (.aload_n 0, 1) := dk_42 (dk_at dksX4_replaces_0 7 rfl rfl)
theorem dX4_replaces_8 : decode cX4_replaces 8 = .ok (.getfield 20, 3) := dk_180 0 20 (dk_at dksX4_replaces_0 8 rfl rfl)
theorem dX4_replaces_11 : decode cX4_replaces 11 = .ok (.iload_n 1, 1) := dk_27 (dk_at dksX4_replaces_0 11 rfl rfl)
theorem dX4_replaces_12 : decode cX4_replaces 12 = .ok (.iload_n 2, 1) := dk_28 (dk_at dksX4_replaces_0 12 rfl rfl)
theorem dX4_replaces_13 : decode cX4_replaces 13 = .ok (.iastore, 1) := dk_79 (dk_at dksX4_replaces_0 13 rfl rfl)
theorem dX4_replaces_14 : decode cX4_replaces 14 = .ok (.aload_n 0, 1) := dk_42 (dk_at dksX4_replaces_0 14 rfl rfl)
theorem dX4_replaces_15 : decode cX4_replaces 15 = .ok (.iload_n 3, 1) := dk_29 (dk_at dksX4_replaces_0 15 rfl rfl)
theorem dX4_replaces_16 : decode cX4_replaces 16 = .ok (.invokevirtual 143, 3) := dk_182 0 143 (dk_at dksX4_replaces_0 16 rfl rfl)
theorem dX4_replaces_19 : decode cX4_replaces 19 = .ok (.ireturn, 1) := dk_172 (dk_at dksX4_replaces_0 19 rfl rfl)
abbrev cX4_of : ByteArray := prog_29_method_16_code
def yX4_of : MethodName := ⟨RX4, "of", "(II)I"⟩
def dkwX4_of_1 : List UInt8 := [167, 0, 4, 2, 172]
abbrev dktX4_of_1 : List UInt8 := dkwX4_of_1 ++ []
def dkwX4_of_0 : List UInt8 := [42, 27, 182, 0, 158, 153, 0, 21, 28, 3, 7, 184, 0, 135, 153, 0, 12, 42, 27, 28, 182, 0, 150]
abbrev dktX4_of_0 : List UInt8 := dkwX4_of_0 ++ dktX4_of_1
theorem dksX4_of_0 : cX4_of.data.toList.drop 0 = dktX4_of_0 := by decide +kernel
theorem dksX4_of_1 : cX4_of.data.toList.drop 23 = dktX4_of_1 := dk_seg dksX4_of_0 23 rfl rfl
theorem dX4_of_0 : decode cX4_of 0 = .ok (.aload_n 0, 1) := dk_42 (dk_at dksX4_of_0 0 rfl rfl)
theorem dX4_of_1 : decode cX4_of 1 = .ok (.iload_n 1, 1) := dk_27 (dk_at dksX4_of_0 1 rfl rfl)
theorem dX4_of_2 : decode cX4_of 2 = .ok (.invokevirtual 158, 3) := dk_182 0 158 (dk_at dksX4_of_0 2 rfl rfl)
theorem dX4_of_5 : decode cX4_of 5 = .ok (.ifCond .eq 21, 3) := dk_153 0 21 (dk_at dksX4_of_0 5 rfl rfl)
theorem dX4_of_8 : decode cX4_of 8 = .ok (.iload_n 2, 1) := dk_28 (dk_at dksX4_of_0 8 rfl rfl)
theorem dX4_of_9 : decode cX4_of 9 = .ok (.iconst 0, 1) := dk_3 (dk_at dksX4_of_0 9 rfl rfl)
theorem dX4_of_10 : decode cX4_of 10 = .ok (.iconst 4, 1) := dk_7 (dk_at dksX4_of_0 10 rfl rfl)
theorem dX4_of_11 : decode cX4_of 11 = .ok (.invokestatic 135, 3) := dk_184 0 135 (dk_at dksX4_of_0 11 rfl rfl)
theorem dX4_of_14 : decode cX4_of 14 = .ok (.ifCond .eq 12, 3) := dk_153 0 12 (dk_at dksX4_of_0 14 rfl rfl)
theorem dX4_of_17 : decode cX4_of 17 = .ok (.aload_n 0, 1) := dk_42 (dk_at dksX4_of_0 17 rfl rfl)
theorem dX4_of_18 : decode cX4_of 18 = .ok (.iload_n 1, 1) := dk_27 (dk_at dksX4_of_0 18 rfl rfl)
theorem dX4_of_19 : decode cX4_of 19 = .ok (.iload_n 2, 1) := dk_28 (dk_at dksX4_of_0 19 rfl rfl)
theorem dX4_of_20 : decode cX4_of 20 = .ok (.invokevirtual 150, 3) := dk_182 0 150 (dk_at dksX4_of_0 20 rfl rfl)
theorem dX4_of_23 : decode cX4_of 23 = .ok (.goto 4, 3) := dk_167 0 4 (dk_at dksX4_of_1 0 rfl rfl)
theorem dX4_of_26 : decode cX4_of 26 = .ok (.iconst (-1), 1) := dk_2 (dk_at dksX4_of_1 3 rfl rfl)
theorem dX4_of_27 : decode cX4_of 27 = .ok (.ireturn, 1) := dk_172 (dk_at dksX4_of_1 4 rfl rfl)
abbrev cX4_factOf : ByteArray := prog_29_method_10_code
def yX4_factOf : MethodName := ⟨RX4, "factOf", "(II)I"⟩
def dkwX4_factOf_0 : List UInt8 := [42, 180, 0, 20, 3, 8, 27, 104, 96, 28, 96, 46, 172]
abbrev dktX4_factOf_0 : List UInt8 := dkwX4_factOf_0 ++ []
theorem dksX4_factOf_0 : cX4_factOf.data.toList.drop 0 = dktX4_factOf_0 := by decide +kernel
theorem dX4_factOf_0 : decode cX4_factOf 0 = .ok (.aload_n 0, 1) := dk_42 (dk_at dksX4_factOf_0 0 rfl rfl)
theorem dX4_factOf_1 : decode cX4_factOf 1 = .ok (.getfield 20, 3) := dk_180 0 20 (dk_at dksX4_factOf_0 1 rfl rfl)
theorem dX4_factOf_4 : decode cX4_factOf 4 = .ok (.iconst 0, 1) := dk_3 (dk_at dksX4_factOf_0 4 rfl rfl)
theorem dX4_factOf_5 : decode cX4_factOf 5 = .ok (.iconst 5, 1) := dk_8 (dk_at dksX4_factOf_0 5 rfl rfl)
theorem dX4_factOf_6 : decode cX4_factOf 6 = .ok (.iload_n 1, 1) := dk_27 (dk_at dksX4_factOf_0 6 rfl rfl)
theorem dX4_factOf_7 : decode cX4_factOf 7 = .ok (.imul, 1) := dk_104 (dk_at dksX4_factOf_0 7 rfl rfl)
theorem dX4_factOf_8 : decode cX4_factOf 8 = .ok (.iadd, 1) := dk_96 (dk_at dksX4_factOf_0 8 rfl rfl)
theorem dX4_factOf_9 : decode cX4_factOf 9 = .ok (.iload_n 2, 1) := dk_28 (dk_at dksX4_factOf_0 9 rfl rfl)
theorem dX4_factOf_10 : decode cX4_factOf 10 = .ok (.iadd, 1) := dk_96 (dk_at dksX4_factOf_0 10 rfl rfl)
theorem dX4_factOf_11 : decode cX4_factOf 11 = .ok (.iaload, 1) := dk_46 (dk_at dksX4_factOf_0 11 rfl rfl)
theorem dX4_factOf_12 : decode cX4_factOf 12 = .ok (.ireturn, 1) := dk_172 (dk_at dksX4_factOf_0 12 rfl rfl)
abbrev cX4_terms : ByteArray := prog_29_method_19_code
def yX4_terms : MethodName := ⟨RX4, "terms", "(II)I"⟩
def dkwX4_terms_1 : List UInt8 := [154, 0, 9, 42, 2, 182, 0, 139, 172, 42, 16, 100, 27, 96, 28, 182, 0, 161, 172]
abbrev dktX4_terms_1 : List UInt8 := dkwX4_terms_1 ++ []
def dkwX4_terms_0 : List UInt8 := [27, 3, 16, 6, 184, 0, 135, 153, 0, 18, 28, 27, 184, 0, 164, 27, 184, 0, 167, 184, 0, 135]
abbrev dktX4_terms_0 : List UInt8 := dkwX4_terms_0 ++ dktX4_terms_1
theorem dksX4_terms_0 : cX4_terms.data.toList.drop 0 = dktX4_terms_0 := by decide +kernel
theorem dksX4_terms_1 : cX4_terms.data.toList.drop 22 = dktX4_terms_1 := dk_seg dksX4_terms_0 22 rfl rfl
theorem dX4_terms_0 : decode cX4_terms 0 = .ok (.iload_n 1, 1) := dk_27 (dk_at dksX4_terms_0 0 rfl rfl)
theorem dX4_terms_1 : decode cX4_terms 1 = .ok (.iconst 0, 1) := dk_3 (dk_at dksX4_terms_0 1 rfl rfl)
theorem dX4_terms_2 : decode cX4_terms 2 = .ok (.bipush 6, 2) := dk_16 6 (dk_at dksX4_terms_0 2 rfl rfl)
theorem dX4_terms_4 : decode cX4_terms 4 = .ok (.invokestatic 135, 3) := dk_184 0 135 (dk_at dksX4_terms_0 4 rfl rfl)
theorem dX4_terms_7 : decode cX4_terms 7 = .ok (.ifCond .eq 18, 3) := dk_153 0 18 (dk_at dksX4_terms_0 7 rfl rfl)
theorem dX4_terms_10 : decode cX4_terms 10 = .ok (.iload_n 2, 1) := dk_28 (dk_at dksX4_terms_0 10 rfl rfl)
theorem dX4_terms_11 : decode cX4_terms 11 = .ok (.iload_n 1, 1) := dk_27 (dk_at dksX4_terms_0 11 rfl rfl)
theorem dX4_terms_12 : decode cX4_terms 12 = .ok (.invokestatic 164, 3) := dk_184 0 164 (dk_at dksX4_terms_0 12 rfl rfl)
theorem dX4_terms_15 : decode cX4_terms 15 = .ok (.iload_n 1, 1) := dk_27 (dk_at dksX4_terms_0 15 rfl rfl)
theorem dX4_terms_16 : decode cX4_terms 16 = .ok (.invokestatic 167, 3) := dk_184 0 167 (dk_at dksX4_terms_0 16 rfl rfl)
theorem dX4_terms_19 : decode cX4_terms 19 = .ok (.invokestatic 135, 3) := dk_184 0 135 (dk_at dksX4_terms_0 19 rfl rfl)
theorem dX4_terms_22 : decode cX4_terms 22 = .ok (.ifCond .ne 9, 3) := dk_154 0 9 (dk_at dksX4_terms_1 0 rfl rfl)
theorem dX4_terms_25 : decode cX4_terms 25 = .ok (.aload_n 0, 1) := dk_42 (dk_at dksX4_terms_1 3 rfl rfl)
theorem dX4_terms_26 : decode cX4_terms 26 = .ok (.iconst (-1), 1) := dk_2 (dk_at dksX4_terms_1 4 rfl rfl)
theorem dX4_terms_27 : decode cX4_terms 27 = .ok (.invokevirtual 139, 3) := dk_182 0 139 (dk_at dksX4_terms_1 5 rfl rfl)
theorem dX4_terms_30 : decode cX4_terms 30 = .ok (.ireturn, 1) := dk_172 (dk_at dksX4_terms_1 8 rfl rfl)
theorem dX4_terms_31 : decode cX4_terms 31 = .ok (.aload_n 0, 1) := dk_42 (dk_at dksX4_terms_1 9 rfl rfl)
theorem dX4_terms_32 : decode cX4_terms 32 = .ok (.bipush 100, 2) := dk_16 100 (dk_at dksX4_terms_1 10 rfl rfl)
theorem dX4_terms_34 : decode cX4_terms 34 = .ok (.iload_n 1, 1) := dk_27 (dk_at dksX4_terms_1 12 rfl rfl)
theorem dX4_terms_35 : decode cX4_terms 35 = .ok (.iadd, 1) := dk_96 (dk_at dksX4_terms_1 13 rfl rfl)
theorem dX4_terms_36 : decode cX4_terms 36 = .ok (.iload_n 2, 1) := dk_28 (dk_at dksX4_terms_1 14 rfl rfl)
theorem dX4_terms_37 : decode cX4_terms 37 = .ok (.invokevirtual 161, 3) := dk_182 0 161 (dk_at dksX4_terms_1 15 rfl rfl)
theorem dX4_terms_40 : decode cX4_terms 40 = .ok (.ireturn, 1) := dk_172 (dk_at dksX4_terms_1 18 rfl rfl)
abbrev cX4_leastOf : ByteArray := prog_29_method_17_code
def yX4_leastOf : MethodName := ⟨RX4, "leastOf", "(I)I"⟩
def dkwX4_leastOf_0 : List UInt8 := [26, 6, 161, 0, 8, 26, 8, 160, 0, 7, 4, 167, 0, 4, 3, 172]
abbrev dktX4_leastOf_0 : List UInt8 := dkwX4_leastOf_0 ++ []
theorem dksX4_leastOf_0 : cX4_leastOf.data.toList.drop 0 = dktX4_leastOf_0 := by decide +kernel
theorem dX4_leastOf_0 : decode cX4_leastOf 0 = .ok (.iload_n 0, 1) := dk_26 (dk_at dksX4_leastOf_0 0 rfl rfl)
theorem dX4_leastOf_1 : decode cX4_leastOf 1 = .ok (.iconst 3, 1) := dk_6 (dk_at dksX4_leastOf_0 1 rfl rfl)
theorem dX4_leastOf_2 : decode cX4_leastOf 2 = .ok (.if_icmp .lt 8, 3) := dk_161 0 8 (dk_at dksX4_leastOf_0 2 rfl rfl)
theorem dX4_leastOf_5 : decode cX4_leastOf 5 = .ok (.iload_n 0, 1) := dk_26 (dk_at dksX4_leastOf_0 5 rfl rfl)
theorem dX4_leastOf_6 : decode cX4_leastOf 6 = .ok (.iconst 5, 1) := dk_8 (dk_at dksX4_leastOf_0 6 rfl rfl)
theorem dX4_leastOf_7 : decode cX4_leastOf 7 = .ok (.if_icmp .ne 7, 3) := dk_160 0 7 (dk_at dksX4_leastOf_0 7 rfl rfl)
theorem dX4_leastOf_10 : decode cX4_leastOf 10 = .ok (.iconst 1, 1) := dk_4 (dk_at dksX4_leastOf_0 10 rfl rfl)
theorem dX4_leastOf_11 : decode cX4_leastOf 11 = .ok (.goto 4, 3) := dk_167 0 4 (dk_at dksX4_leastOf_0 11 rfl rfl)
theorem dX4_leastOf_14 : decode cX4_leastOf 14 = .ok (.iconst 0, 1) := dk_3 (dk_at dksX4_leastOf_0 14 rfl rfl)
theorem dX4_leastOf_15 : decode cX4_leastOf 15 = .ok (.ireturn, 1) := dk_172 (dk_at dksX4_leastOf_0 15 rfl rfl)
abbrev cX4_mostOf : ByteArray := prog_29_method_18_code
def yX4_mostOf : MethodName := ⟨RX4, "mostOf", "(I)I"⟩
def dkwX4_mostOf_1 : List UInt8 := [16, 100, 167, 0, 15, 26, 8, 160, 0, 8, 16, 20, 167, 0, 5, 16, 16, 172]
abbrev dktX4_mostOf_1 : List UInt8 := dkwX4_mostOf_1 ++ []
def dkwX4_mostOf_0 : List UInt8 := [26, 154, 0, 8, 16, 10, 167, 0, 34, 26, 6, 162, 0, 7, 6, 167, 0, 25, 26, 8, 162, 0, 8]
abbrev dktX4_mostOf_0 : List UInt8 := dkwX4_mostOf_0 ++ dktX4_mostOf_1
theorem dksX4_mostOf_0 : cX4_mostOf.data.toList.drop 0 = dktX4_mostOf_0 := by decide +kernel
theorem dksX4_mostOf_1 : cX4_mostOf.data.toList.drop 23 = dktX4_mostOf_1 := dk_seg dksX4_mostOf_0 23 rfl rfl
theorem dX4_mostOf_0 : decode cX4_mostOf 0 = .ok (.iload_n 0, 1) := dk_26 (dk_at dksX4_mostOf_0 0 rfl rfl)
theorem dX4_mostOf_1 : decode cX4_mostOf 1 = .ok (.ifCond .ne 8, 3) := dk_154 0 8 (dk_at dksX4_mostOf_0 1 rfl rfl)
theorem dX4_mostOf_4 : decode cX4_mostOf 4 = .ok (.bipush 10, 2) := dk_16 10 (dk_at dksX4_mostOf_0 4 rfl rfl)
theorem dX4_mostOf_6 : decode cX4_mostOf 6 = .ok (.goto 34, 3) := dk_167 0 34 (dk_at dksX4_mostOf_0 6 rfl rfl)
theorem dX4_mostOf_9 : decode cX4_mostOf 9 = .ok (.iload_n 0, 1) := dk_26 (dk_at dksX4_mostOf_0 9 rfl rfl)
theorem dX4_mostOf_10 : decode cX4_mostOf 10 = .ok (.iconst 3, 1) := dk_6 (dk_at dksX4_mostOf_0 10 rfl rfl)
theorem dX4_mostOf_11 : decode cX4_mostOf 11 = .ok (.if_icmp .ge 7, 3) := dk_162 0 7 (dk_at dksX4_mostOf_0 11 rfl rfl)
theorem dX4_mostOf_14 : decode cX4_mostOf 14 = .ok (.iconst 3, 1) := dk_6 (dk_at dksX4_mostOf_0 14 rfl rfl)
theorem dX4_mostOf_15 : decode cX4_mostOf 15 = .ok (.goto 25, 3) := dk_167 0 25 (dk_at dksX4_mostOf_0 15 rfl rfl)
theorem dX4_mostOf_18 : decode cX4_mostOf 18 = .ok (.iload_n 0, 1) := dk_26 (dk_at dksX4_mostOf_0 18 rfl rfl)
theorem dX4_mostOf_19 : decode cX4_mostOf 19 = .ok (.iconst 5, 1) := dk_8 (dk_at dksX4_mostOf_0 19 rfl rfl)
theorem dX4_mostOf_20 : decode cX4_mostOf 20 = .ok (.if_icmp .ge 8, 3) := dk_162 0 8 (dk_at dksX4_mostOf_0 20 rfl rfl)
theorem dX4_mostOf_23 : decode cX4_mostOf 23 = .ok (.bipush 100, 2) := dk_16 100 (dk_at dksX4_mostOf_1 0 rfl rfl)
theorem dX4_mostOf_25 : decode cX4_mostOf 25 = .ok (.goto 15, 3) := dk_167 0 15 (dk_at dksX4_mostOf_1 2 rfl rfl)
theorem dX4_mostOf_28 : decode cX4_mostOf 28 = .ok (.iload_n 0, 1) := dk_26 (dk_at dksX4_mostOf_1 5 rfl rfl)
theorem dX4_mostOf_29 : decode cX4_mostOf 29 = .ok (.iconst 5, 1) := dk_8 (dk_at dksX4_mostOf_1 6 rfl rfl)
theorem dX4_mostOf_30 : decode cX4_mostOf 30 = .ok (.if_icmp .ne 8, 3) := dk_160 0 8 (dk_at dksX4_mostOf_1 7 rfl rfl)
theorem dX4_mostOf_33 : decode cX4_mostOf 33 = .ok (.bipush 20, 2) := dk_16 20 (dk_at dksX4_mostOf_1 10 rfl rfl)
theorem dX4_mostOf_35 : decode cX4_mostOf 35 = .ok (.goto 5, 3) := dk_167 0 5 (dk_at dksX4_mostOf_1 12 rfl rfl)
theorem dX4_mostOf_38 : decode cX4_mostOf 38 = .ok (.bipush 16, 2) := dk_16 16 (dk_at dksX4_mostOf_1 15 rfl rfl)
theorem dX4_mostOf_40 : decode cX4_mostOf 40 = .ok (.ireturn, 1) := dk_172 (dk_at dksX4_mostOf_1 17 rfl rfl)
abbrev cX4_feed : ByteArray := prog_29_method_20_code
def yX4_feed : MethodName := ⟨RX4, "feed", "(IIIII)I"⟩
def dkwX4_feed_5 : List UInt8 := [180, 0, 170, 172]
abbrev dktX4_feed_5 : List UInt8 := dkwX4_feed_5 ++ []
def dkwX4_feed_4 : List UInt8 := [100, 122, 145, 84, 132, 6, 1, 167, 255, 213, 42, 89, 180, 0, 170, 16, 20, 96, 181, 0, 170, 42]
abbrev dktX4_feed_4 : List UInt8 := dkwX4_feed_4 ++ dktX4_feed_5
def dkwX4_feed_3 : List UInt8 := [180, 0, 170, 21, 6, 96, 42, 180, 0, 37, 21, 6, 7, 108, 46, 16, 24, 16, 8, 21, 6, 7, 112, 104]
abbrev dktX4_feed_3 : List UInt8 := dkwX4_feed_3 ++ dktX4_feed_4
def dkwX4_feed_2 : List UInt8 := [180, 0, 37, 7, 21, 5, 79, 3, 54, 6, 21, 6, 16, 20, 162, 0, 42, 42, 180, 0, 34, 42]
abbrev dktX4_feed_2 : List UInt8 := dkwX4_feed_2 ++ dktX4_feed_3
def dkwX4_feed_1 : List UInt8 := [180, 0, 37, 4, 28, 79, 42, 180, 0, 37, 5, 29, 79, 42, 180, 0, 37, 6, 21, 4, 79, 42]
abbrev dktX4_feed_1 : List UInt8 := dkwX4_feed_1 ++ dktX4_feed_2
def dkwX4_feed_0 : List UInt8 := [42, 180, 0, 170, 16, 20, 96, 17, 1, 144, 164, 0, 5, 2, 172, 42, 180, 0, 37, 3, 27, 79, 42]
abbrev dktX4_feed_0 : List UInt8 := dkwX4_feed_0 ++ dktX4_feed_1
theorem dksX4_feed_0 : cX4_feed.data.toList.drop 0 = dktX4_feed_0 := by decide +kernel
theorem dksX4_feed_1 : cX4_feed.data.toList.drop 23 = dktX4_feed_1 := dk_seg dksX4_feed_0 23 rfl rfl
theorem dksX4_feed_2 : cX4_feed.data.toList.drop 45 = dktX4_feed_2 := dk_seg dksX4_feed_1 22 rfl rfl
theorem dksX4_feed_3 : cX4_feed.data.toList.drop 67 = dktX4_feed_3 := dk_seg dksX4_feed_2 22 rfl rfl
theorem dksX4_feed_4 : cX4_feed.data.toList.drop 91 = dktX4_feed_4 := dk_seg dksX4_feed_3 24 rfl rfl
theorem dksX4_feed_5 : cX4_feed.data.toList.drop 113 = dktX4_feed_5 := dk_seg dksX4_feed_4 22 rfl rfl
theorem dX4_feed_0 : decode cX4_feed 0 = .ok (.aload_n 0, 1) := dk_42 (dk_at dksX4_feed_0 0 rfl rfl)
theorem dX4_feed_1 : decode cX4_feed 1 = .ok (.getfield 170, 3) := dk_180 0 170 (dk_at dksX4_feed_0 1 rfl rfl)
theorem dX4_feed_4 : decode cX4_feed 4 = .ok (.bipush 20, 2) := dk_16 20 (dk_at dksX4_feed_0 4 rfl rfl)
theorem dX4_feed_6 : decode cX4_feed 6 = .ok (.iadd, 1) := dk_96 (dk_at dksX4_feed_0 6 rfl rfl)
theorem dX4_feed_7 : decode cX4_feed 7 = .ok (.sipush 400, 3) := dk_17 1 144 (dk_at dksX4_feed_0 7 rfl rfl)
theorem dX4_feed_10 : decode cX4_feed 10 = .ok (.if_icmp .le 5, 3) := dk_164 0 5 (dk_at dksX4_feed_0 10 rfl rfl)
theorem dX4_feed_13 : decode cX4_feed 13 = .ok (.iconst (-1), 1) := dk_2 (dk_at dksX4_feed_0 13 rfl rfl)
theorem dX4_feed_14 : decode cX4_feed 14 = .ok (.ireturn, 1) := dk_172 (dk_at dksX4_feed_0 14 rfl rfl)
theorem dX4_feed_15 : decode cX4_feed 15 = .ok (.aload_n 0, 1) := dk_42 (dk_at dksX4_feed_0 15 rfl rfl)
theorem dX4_feed_16 : decode cX4_feed 16 = .ok (.getfield 37, 3) := dk_180 0 37 (dk_at dksX4_feed_0 16 rfl rfl)
theorem dX4_feed_19 : decode cX4_feed 19 = .ok (.iconst 0, 1) := dk_3 (dk_at dksX4_feed_0 19 rfl rfl)
theorem dX4_feed_20 : decode cX4_feed 20 = .ok (.iload_n 1, 1) := dk_27 (dk_at dksX4_feed_0 20 rfl rfl)
theorem dX4_feed_21 : decode cX4_feed 21 = .ok (.iastore, 1) := dk_79 (dk_at dksX4_feed_0 21 rfl rfl)
theorem dX4_feed_22 : decode cX4_feed 22 = .ok (.aload_n 0, 1) := dk_42 (dk_at dksX4_feed_0 22 rfl rfl)
theorem dX4_feed_23 : decode cX4_feed 23 = .ok (.getfield 37, 3) := dk_180 0 37 (dk_at dksX4_feed_1 0 rfl rfl)
theorem dX4_feed_26 : decode cX4_feed 26 = .ok (.iconst 1, 1) := dk_4 (dk_at dksX4_feed_1 3 rfl rfl)
theorem dX4_feed_27 : decode cX4_feed 27 = .ok (.iload_n 2, 1) := dk_28 (dk_at dksX4_feed_1 4 rfl rfl)
theorem dX4_feed_28 : decode cX4_feed 28 = .ok (.iastore, 1) := dk_79 (dk_at dksX4_feed_1 5 rfl rfl)
theorem dX4_feed_29 : decode cX4_feed 29 = .ok (.aload_n 0, 1) := dk_42 (dk_at dksX4_feed_1 6 rfl rfl)
theorem dX4_feed_30 : decode cX4_feed 30 = .ok (.getfield 37, 3) := dk_180 0 37 (dk_at dksX4_feed_1 7 rfl rfl)
theorem dX4_feed_33 : decode cX4_feed 33 = .ok (.iconst 2, 1) := dk_5 (dk_at dksX4_feed_1 10 rfl rfl)
theorem dX4_feed_34 : decode cX4_feed 34 = .ok (.iload_n 3, 1) := dk_29 (dk_at dksX4_feed_1 11 rfl rfl)
theorem dX4_feed_35 : decode cX4_feed 35 = .ok (.iastore, 1) := dk_79 (dk_at dksX4_feed_1 12 rfl rfl)
theorem dX4_feed_36 : decode cX4_feed 36 = .ok (.aload_n 0, 1) := dk_42 (dk_at dksX4_feed_1 13 rfl rfl)
theorem dX4_feed_37 : decode cX4_feed 37 = .ok (.getfield 37, 3) := dk_180 0 37 (dk_at dksX4_feed_1 14 rfl rfl)
theorem dX4_feed_40 : decode cX4_feed 40 = .ok (.iconst 3, 1) := dk_6 (dk_at dksX4_feed_1 17 rfl rfl)
theorem dX4_feed_41 : decode cX4_feed 41 = .ok (.iload 4, 2) := dk_21 4 (dk_at dksX4_feed_1 18 rfl rfl)
theorem dX4_feed_43 : decode cX4_feed 43 = .ok (.iastore, 1) := dk_79 (dk_at dksX4_feed_1 20 rfl rfl)
theorem dX4_feed_44 : decode cX4_feed 44 = .ok (.aload_n 0, 1) := dk_42 (dk_at dksX4_feed_1 21 rfl rfl)
theorem dX4_feed_45 : decode cX4_feed 45 = .ok (.getfield 37, 3) := dk_180 0 37 (dk_at dksX4_feed_2 0 rfl rfl)
theorem dX4_feed_48 : decode cX4_feed 48 = .ok (.iconst 4, 1) := dk_7 (dk_at dksX4_feed_2 3 rfl rfl)
theorem dX4_feed_49 : decode cX4_feed 49 = .ok (.iload 5, 2) := dk_21 5 (dk_at dksX4_feed_2 4 rfl rfl)
theorem dX4_feed_51 : decode cX4_feed 51 = .ok (.iastore, 1) := dk_79 (dk_at dksX4_feed_2 6 rfl rfl)
theorem dX4_feed_52 : decode cX4_feed 52 = .ok (.iconst 0, 1) := dk_3 (dk_at dksX4_feed_2 7 rfl rfl)
theorem dX4_feed_53 : decode cX4_feed 53 = .ok (.istore 6, 2) := dk_54 6 (dk_at dksX4_feed_2 8 rfl rfl)
theorem dX4_feed_55 : decode cX4_feed 55 = .ok (.iload 6, 2) := dk_21 6 (dk_at dksX4_feed_2 10 rfl rfl)
theorem dX4_feed_57 : decode cX4_feed 57 = .ok (.bipush 20, 2) := dk_16 20 (dk_at dksX4_feed_2 12 rfl rfl)
theorem dX4_feed_59 : decode cX4_feed 59 = .ok (.if_icmp .ge 42, 3) := dk_162 0 42 (dk_at dksX4_feed_2 14 rfl rfl)
theorem dX4_feed_62 : decode cX4_feed 62 = .ok (.aload_n 0, 1) := dk_42 (dk_at dksX4_feed_2 17 rfl rfl)
theorem dX4_feed_63 : decode cX4_feed 63 = .ok (.getfield 34, 3) := dk_180 0 34 (dk_at dksX4_feed_2 18 rfl rfl)
theorem dX4_feed_66 : decode cX4_feed 66 = .ok (.aload_n 0, 1) := dk_42 (dk_at dksX4_feed_2 21 rfl rfl)
theorem dX4_feed_67 : decode cX4_feed 67 = .ok (.getfield 170, 3) := dk_180 0 170 (dk_at dksX4_feed_3 0 rfl rfl)
theorem dX4_feed_70 : decode cX4_feed 70 = .ok (.iload 6, 2) := dk_21 6 (dk_at dksX4_feed_3 3 rfl rfl)
theorem dX4_feed_72 : decode cX4_feed 72 = .ok (.iadd, 1) := dk_96 (dk_at dksX4_feed_3 5 rfl rfl)
theorem dX4_feed_73 : decode cX4_feed 73 = .ok (.aload_n 0, 1) := dk_42 (dk_at dksX4_feed_3 6 rfl rfl)
theorem dX4_feed_74 : decode cX4_feed 74 = .ok (.getfield 37, 3) := dk_180 0 37 (dk_at dksX4_feed_3 7 rfl rfl)
theorem dX4_feed_77 : decode cX4_feed 77 = .ok (.iload 6, 2) := dk_21 6 (dk_at dksX4_feed_3 10 rfl rfl)
theorem dX4_feed_79 : decode cX4_feed 79 = .ok (.iconst 4, 1) := dk_7 (dk_at dksX4_feed_3 12 rfl rfl)
theorem dX4_feed_80 : decode cX4_feed 80 = .ok (.idiv, 1) := dk_108 (dk_at dksX4_feed_3 13 rfl rfl)
theorem dX4_feed_81 : decode cX4_feed 81 = .ok (.iaload, 1) := dk_46 (dk_at dksX4_feed_3 14 rfl rfl)
theorem dX4_feed_82 : decode cX4_feed 82 = .ok (.bipush 24, 2) := dk_16 24 (dk_at dksX4_feed_3 15 rfl rfl)
theorem dX4_feed_84 : decode cX4_feed 84 = .ok (.bipush 8, 2) := dk_16 8 (dk_at dksX4_feed_3 17 rfl rfl)
theorem dX4_feed_86 : decode cX4_feed 86 = .ok (.iload 6, 2) := dk_21 6 (dk_at dksX4_feed_3 19 rfl rfl)
theorem dX4_feed_88 : decode cX4_feed 88 = .ok (.iconst 4, 1) := dk_7 (dk_at dksX4_feed_3 21 rfl rfl)
theorem dX4_feed_89 : decode cX4_feed 89 = .ok (.irem, 1) := dk_112 (dk_at dksX4_feed_3 22 rfl rfl)
theorem dX4_feed_90 : decode cX4_feed 90 = .ok (.imul, 1) := dk_104 (dk_at dksX4_feed_3 23 rfl rfl)
theorem dX4_feed_91 : decode cX4_feed 91 = .ok (.isub, 1) := dk_100 (dk_at dksX4_feed_4 0 rfl rfl)
theorem dX4_feed_92 : decode cX4_feed 92 = .ok (.ishr, 1) := dk_122 (dk_at dksX4_feed_4 1 rfl rfl)
theorem dX4_feed_93 : decode cX4_feed 93 = .ok (.i2b, 1) := dk_145 (dk_at dksX4_feed_4 2 rfl rfl)
theorem dX4_feed_94 : decode cX4_feed 94 = .ok (.bastore, 1) := dk_84 (dk_at dksX4_feed_4 3 rfl rfl)
theorem dX4_feed_95 : decode cX4_feed 95 = .ok (.iinc 6 1, 3) := dk_132 6 1 (dk_at dksX4_feed_4 4 rfl rfl)
theorem dX4_feed_98 : decode cX4_feed 98 = .ok (.goto (-43), 3) := dk_167 255 213 (dk_at dksX4_feed_4 7 rfl rfl)
theorem dX4_feed_101 : decode cX4_feed 101 = .ok (.aload_n 0, 1) := dk_42 (dk_at dksX4_feed_4 10 rfl rfl)
theorem dX4_feed_102 : decode cX4_feed 102 = .ok (.dup, 1) := dk_89 (dk_at dksX4_feed_4 11 rfl rfl)
theorem dX4_feed_103 : decode cX4_feed 103 = .ok (.getfield 170, 3) := dk_180 0 170 (dk_at dksX4_feed_4 12 rfl rfl)
theorem dX4_feed_106 : decode cX4_feed 106 = .ok (.bipush 20, 2) := dk_16 20 (dk_at dksX4_feed_4 15 rfl rfl)
theorem dX4_feed_108 : decode cX4_feed 108 = .ok (.iadd, 1) := dk_96 (dk_at dksX4_feed_4 17 rfl rfl)
theorem dX4_feed_109 : decode cX4_feed 109 = .ok (.putfield 170, 3) := dk_181 0 170 (dk_at dksX4_feed_4 18 rfl rfl)
theorem dX4_feed_112 : decode cX4_feed 112 = .ok (.aload_n 0, 1) := dk_42 (dk_at dksX4_feed_4 21 rfl rfl)
theorem dX4_feed_113 : decode cX4_feed 113 = .ok (.getfield 170, 3) := dk_180 0 170 (dk_at dksX4_feed_5 0 rfl rfl)
theorem dX4_feed_116 : decode cX4_feed 116 = .ok (.ireturn, 1) := dk_172 (dk_at dksX4_feed_5 3 rfl rfl)
abbrev cX4_end : ByteArray := prog_29_method_21_code
def yX4_end : MethodName := ⟨RX4, "end", "(I)I"⟩
def dkwX4_end_0 : List UInt8 := [27, 3, 42, 180, 0, 170, 184, 0, 135, 154, 0, 5, 2, 172, 42, 27, 181, 0, 170, 27, 172]
abbrev dktX4_end_0 : List UInt8 := dkwX4_end_0 ++ []
theorem dksX4_end_0 : cX4_end.data.toList.drop 0 = dktX4_end_0 := by decide +kernel
theorem dX4_end_0 : decode cX4_end 0 = .ok (.iload_n 1, 1) := dk_27 (dk_at dksX4_end_0 0 rfl rfl)
theorem dX4_end_1 : decode cX4_end 1 = .ok (.iconst 0, 1) := dk_3 (dk_at dksX4_end_0 1 rfl rfl)
theorem dX4_end_2 : decode cX4_end 2 = .ok (.aload_n 0, 1) := dk_42 (dk_at dksX4_end_0 2 rfl rfl)
theorem dX4_end_3 : decode cX4_end 3 = .ok (.getfield 170, 3) := dk_180 0 170 (dk_at dksX4_end_0 3 rfl rfl)
theorem dX4_end_6 : decode cX4_end 6 = .ok (.invokestatic 135, 3) := dk_184 0 135 (dk_at dksX4_end_0 6 rfl rfl)
theorem dX4_end_9 : decode cX4_end 9 = .ok (.ifCond .ne 5, 3) := dk_154 0 5 (dk_at dksX4_end_0 9 rfl rfl)
theorem dX4_end_12 : decode cX4_end 12 = .ok (.iconst (-1), 1) := dk_2 (dk_at dksX4_end_0 12 rfl rfl)
theorem dX4_end_13 : decode cX4_end 13 = .ok (.ireturn, 1) := dk_172 (dk_at dksX4_end_0 13 rfl rfl)
theorem dX4_end_14 : decode cX4_end 14 = .ok (.aload_n 0, 1) := dk_42 (dk_at dksX4_end_0 14 rfl rfl)
theorem dX4_end_15 : decode cX4_end 15 = .ok (.iload_n 1, 1) := dk_27 (dk_at dksX4_end_0 15 rfl rfl)
theorem dX4_end_16 : decode cX4_end 16 = .ok (.putfield 170, 3) := dk_181 0 170 (dk_at dksX4_end_0 16 rfl rfl)
theorem dX4_end_19 : decode cX4_end 19 = .ok (.iload_n 1, 1) := dk_27 (dk_at dksX4_end_0 19 rfl rfl)
theorem dX4_end_20 : decode cX4_end 20 = .ok (.ireturn, 1) := dk_172 (dk_at dksX4_end_0 20 rfl rfl)
abbrev cX4_paper : ByteArray := prog_29_method_40_code
def yX4_paper : MethodName := ⟨RX4, "paper", "()I"⟩
def dkwX4_paper_5 : List UInt8 := [167, 255, 201, 42, 180, 0, 20, 17, 1, 137, 92, 46, 4, 96, 79, 42, 27, 182, 0, 143, 172]
abbrev dktX4_paper_5 : List UInt8 := dkwX4_paper_5 ++ []
def dkwX4_paper_4 : List UInt8 := [180, 0, 20, 17, 10, 241, 17, 1, 144, 27, 104, 96, 28, 96, 42, 180, 0, 46, 28, 46, 79, 132, 2, 1]
abbrev dktX4_paper_4 : List UInt8 := dkwX4_paper_4 ++ dktX4_paper_5
def dkwX4_paper_3 : List UInt8 := [42, 180, 0, 20, 17, 1, 145, 17, 1, 144, 27, 104, 96, 28, 96, 42, 180, 0, 43, 28, 46, 79, 42]
abbrev dktX4_paper_3 : List UInt8 := dkwX4_paper_3 ++ dktX4_paper_4
def dkwX4_paper_2 : List UInt8 := [42, 180, 0, 20, 17, 1, 139, 27, 96, 42, 180, 0, 173, 79, 3, 61, 28, 42, 180, 0, 173, 162, 0, 53]
abbrev dktX4_paper_2 : List UInt8 := dkwX4_paper_2 ++ dktX4_paper_3
def dkwX4_paper_1 : List UInt8 := [172, 42, 182, 0, 240, 154, 0, 10, 42, 16, 250, 182, 0, 139, 172, 42, 180, 0, 20, 17, 1, 137, 46, 60]
abbrev dktX4_paper_1 : List UInt8 := dkwX4_paper_1 ++ dktX4_paper_2
def dkwX4_paper_0 : List UInt8 := [42, 180, 0, 20, 17, 1, 137, 46, 16, 6, 160, 0, 15, 42, 3, 181, 0, 170, 42, 16, 251, 182, 0, 139]
abbrev dktX4_paper_0 : List UInt8 := dkwX4_paper_0 ++ dktX4_paper_1
theorem dksX4_paper_0 : cX4_paper.data.toList.drop 0 = dktX4_paper_0 := by decide +kernel
theorem dksX4_paper_1 : cX4_paper.data.toList.drop 24 = dktX4_paper_1 := dk_seg dksX4_paper_0 24 rfl rfl
theorem dksX4_paper_2 : cX4_paper.data.toList.drop 48 = dktX4_paper_2 := dk_seg dksX4_paper_1 24 rfl rfl
theorem dksX4_paper_3 : cX4_paper.data.toList.drop 72 = dktX4_paper_3 := dk_seg dksX4_paper_2 24 rfl rfl
theorem dksX4_paper_4 : cX4_paper.data.toList.drop 95 = dktX4_paper_4 := dk_seg dksX4_paper_3 23 rfl rfl
theorem dksX4_paper_5 : cX4_paper.data.toList.drop 119 = dktX4_paper_5 := dk_seg dksX4_paper_4 24 rfl rfl
theorem dX4_paper_0 : decode cX4_paper 0 = .ok (.aload_n 0, 1) := dk_42 (dk_at dksX4_paper_0 0 rfl rfl)
theorem dX4_paper_1 : decode cX4_paper 1 = .ok (.getfield 20, 3) := dk_180 0 20 (dk_at dksX4_paper_0 1 rfl rfl)
theorem dX4_paper_4 : decode cX4_paper 4 = .ok (.sipush 393, 3) := dk_17 1 137 (dk_at dksX4_paper_0 4 rfl rfl)
theorem dX4_paper_7 : decode cX4_paper 7 = .ok (.iaload, 1) := dk_46 (dk_at dksX4_paper_0 7 rfl rfl)
theorem dX4_paper_8 : decode cX4_paper 8 = .ok (.bipush 6, 2) := dk_16 6 (dk_at dksX4_paper_0 8 rfl rfl)
theorem dX4_paper_10 : decode cX4_paper 10 = .ok (.if_icmp .ne 15, 3) := dk_160 0 15 (dk_at dksX4_paper_0 10 rfl rfl)
theorem dX4_paper_13 : decode cX4_paper 13 = .ok (.aload_n 0, 1) := dk_42 (dk_at dksX4_paper_0 13 rfl rfl)
theorem dX4_paper_14 : decode cX4_paper 14 = .ok (.iconst 0, 1) := dk_3 (dk_at dksX4_paper_0 14 rfl rfl)
theorem dX4_paper_15 : decode cX4_paper 15 = .ok (.putfield 170, 3) := dk_181 0 170 (dk_at dksX4_paper_0 15 rfl rfl)
theorem dX4_paper_18 : decode cX4_paper 18 = .ok (.aload_n 0, 1) := dk_42 (dk_at dksX4_paper_0 18 rfl rfl)
theorem dX4_paper_19 : decode cX4_paper 19 = .ok (.bipush (-5), 2) := dk_16 251 (dk_at dksX4_paper_0 19 rfl rfl)
theorem dX4_paper_21 : decode cX4_paper 21 = .ok (.invokevirtual 139, 3) := dk_182 0 139 (dk_at dksX4_paper_0 21 rfl rfl)
theorem dX4_paper_24 : decode cX4_paper 24 = .ok (.ireturn, 1) := dk_172 (dk_at dksX4_paper_1 0 rfl rfl)
theorem dX4_paper_25 : decode cX4_paper 25 = .ok (.aload_n 0, 1) := dk_42 (dk_at dksX4_paper_1 1 rfl rfl)
theorem dX4_paper_26 : decode cX4_paper 26 = .ok (.invokevirtual 240, 3) := dk_182 0 240 (dk_at dksX4_paper_1 2 rfl rfl)
theorem dX4_paper_29 : decode cX4_paper 29 = .ok (.ifCond .ne 10, 3) := dk_154 0 10 (dk_at dksX4_paper_1 5 rfl rfl)
theorem dX4_paper_32 : decode cX4_paper 32 = .ok (.aload_n 0, 1) := dk_42 (dk_at dksX4_paper_1 8 rfl rfl)
theorem dX4_paper_33 : decode cX4_paper 33 = .ok (.bipush (-6), 2) := dk_16 250 (dk_at dksX4_paper_1 9 rfl rfl)
theorem dX4_paper_35 : decode cX4_paper 35 = .ok (.invokevirtual 139, 3) := dk_182 0 139 (dk_at dksX4_paper_1 11 rfl rfl)
theorem dX4_paper_38 : decode cX4_paper 38 = .ok (.ireturn, 1) := dk_172 (dk_at dksX4_paper_1 14 rfl rfl)
theorem dX4_paper_39 : decode cX4_paper 39 = .ok (.aload_n 0, 1) := dk_42 (dk_at dksX4_paper_1 15 rfl rfl)
theorem dX4_paper_40 : decode cX4_paper 40 = .ok (.getfield 20, 3) := dk_180 0 20 (dk_at dksX4_paper_1 16 rfl rfl)
theorem dX4_paper_43 : decode cX4_paper 43 = .ok (.sipush 393, 3) := dk_17 1 137 (dk_at dksX4_paper_1 19 rfl rfl)
theorem dX4_paper_46 : decode cX4_paper 46 = .ok (.iaload, 1) := dk_46 (dk_at dksX4_paper_1 22 rfl rfl)
theorem dX4_paper_47 : decode cX4_paper 47 = .ok (.istore_n 1, 1) := dk_60 (dk_at dksX4_paper_1 23 rfl rfl)
theorem dX4_paper_48 : decode cX4_paper 48 = .ok (.aload_n 0, 1) := dk_42 (dk_at dksX4_paper_2 0 rfl rfl)
theorem dX4_paper_49 : decode cX4_paper 49 = .ok (.getfield 20, 3) := dk_180 0 20 (dk_at dksX4_paper_2 1 rfl rfl)
theorem dX4_paper_52 : decode cX4_paper 52 = .ok (.sipush 395, 3) := dk_17 1 139 (dk_at dksX4_paper_2 4 rfl rfl)
theorem dX4_paper_55 : decode cX4_paper 55 = .ok (.iload_n 1, 1) := dk_27 (dk_at dksX4_paper_2 7 rfl rfl)
theorem dX4_paper_56 : decode cX4_paper 56 = .ok (.iadd, 1) := dk_96 (dk_at dksX4_paper_2 8 rfl rfl)
theorem dX4_paper_57 : decode cX4_paper 57 = .ok (.aload_n 0, 1) := dk_42 (dk_at dksX4_paper_2 9 rfl rfl)
theorem dX4_paper_58 : decode cX4_paper 58 = .ok (.getfield 173, 3) := dk_180 0 173 (dk_at dksX4_paper_2 10 rfl rfl)
theorem dX4_paper_61 : decode cX4_paper 61 = .ok (.iastore, 1) := dk_79 (dk_at dksX4_paper_2 13 rfl rfl)
theorem dX4_paper_62 : decode cX4_paper 62 = .ok (.iconst 0, 1) := dk_3 (dk_at dksX4_paper_2 14 rfl rfl)
theorem dX4_paper_63 : decode cX4_paper 63 = .ok (.istore_n 2, 1) := dk_61 (dk_at dksX4_paper_2 15 rfl rfl)
theorem dX4_paper_64 : decode cX4_paper 64 = .ok (.iload_n 2, 1) := dk_28 (dk_at dksX4_paper_2 16 rfl rfl)
theorem dX4_paper_65 : decode cX4_paper 65 = .ok (.aload_n 0, 1) := dk_42 (dk_at dksX4_paper_2 17 rfl rfl)
theorem dX4_paper_66 : decode cX4_paper 66 = .ok (.getfield 173, 3) := dk_180 0 173 (dk_at dksX4_paper_2 18 rfl rfl)
theorem dX4_paper_69 : decode cX4_paper 69 = .ok (.if_icmp .ge 53, 3) := dk_162 0 53 (dk_at dksX4_paper_2 21 rfl rfl)
theorem dX4_paper_72 : decode cX4_paper 72 = .ok (.aload_n 0, 1) := dk_42 (dk_at dksX4_paper_3 0 rfl rfl)
theorem dX4_paper_73 : decode cX4_paper 73 = .ok (.getfield 20, 3) := dk_180 0 20 (dk_at dksX4_paper_3 1 rfl rfl)
theorem dX4_paper_76 : decode cX4_paper 76 = .ok (.sipush 401, 3) := dk_17 1 145 (dk_at dksX4_paper_3 4 rfl rfl)
theorem dX4_paper_79 : decode cX4_paper 79 = .ok (.sipush 400, 3) := dk_17 1 144 (dk_at dksX4_paper_3 7 rfl rfl)
theorem dX4_paper_82 : decode cX4_paper 82 = .ok (.iload_n 1, 1) := dk_27 (dk_at dksX4_paper_3 10 rfl rfl)
theorem dX4_paper_83 : decode cX4_paper 83 = .ok (.imul, 1) := dk_104 (dk_at dksX4_paper_3 11 rfl rfl)
theorem dX4_paper_84 : decode cX4_paper 84 = .ok (.iadd, 1) := dk_96 (dk_at dksX4_paper_3 12 rfl rfl)
theorem dX4_paper_85 : decode cX4_paper 85 = .ok (.iload_n 2, 1) := dk_28 (dk_at dksX4_paper_3 13 rfl rfl)
theorem dX4_paper_86 : decode cX4_paper 86 = .ok (.iadd, 1) := dk_96 (dk_at dksX4_paper_3 14 rfl rfl)
theorem dX4_paper_87 : decode cX4_paper 87 = .ok (.aload_n 0, 1) := dk_42 (dk_at dksX4_paper_3 15 rfl rfl)
theorem dX4_paper_88 : decode cX4_paper 88 = .ok (.getfield 43, 3) := dk_180 0 43 (dk_at dksX4_paper_3 16 rfl rfl)
theorem dX4_paper_91 : decode cX4_paper 91 = .ok (.iload_n 2, 1) := dk_28 (dk_at dksX4_paper_3 19 rfl rfl)
theorem dX4_paper_92 : decode cX4_paper 92 = .ok (.iaload, 1) := dk_46 (dk_at dksX4_paper_3 20 rfl rfl)
theorem dX4_paper_93 : decode cX4_paper 93 = .ok (.iastore, 1) := dk_79 (dk_at dksX4_paper_3 21 rfl rfl)
theorem dX4_paper_94 : decode cX4_paper 94 = .ok (.aload_n 0, 1) := dk_42 (dk_at dksX4_paper_3 22 rfl rfl)
theorem dX4_paper_95 : decode cX4_paper 95 = .ok (.getfield 20, 3) := dk_180 0 20 (dk_at dksX4_paper_4 0 rfl rfl)
theorem dX4_paper_98 : decode cX4_paper 98 = .ok (.sipush 2801, 3) := dk_17 10 241 (dk_at dksX4_paper_4 3 rfl rfl)
theorem dX4_paper_101 : decode cX4_paper 101 = .ok (.sipush 400, 3) := dk_17 1 144 (dk_at dksX4_paper_4 6 rfl rfl)
theorem dX4_paper_104 : decode cX4_paper 104 = .ok (.iload_n 1, 1) := dk_27 (dk_at dksX4_paper_4 9 rfl rfl)
theorem dX4_paper_105 : decode cX4_paper 105 = .ok (.imul, 1) := dk_104 (dk_at dksX4_paper_4 10 rfl rfl)
theorem dX4_paper_106 : decode cX4_paper 106 = .ok (.iadd, 1) := dk_96 (dk_at dksX4_paper_4 11 rfl rfl)
theorem dX4_paper_107 : decode cX4_paper 107 = .ok (.iload_n 2, 1) := dk_28 (dk_at dksX4_paper_4 12 rfl rfl)
theorem dX4_paper_108 : decode cX4_paper 108 = .ok (.iadd, 1) := dk_96 (dk_at dksX4_paper_4 13 rfl rfl)
theorem dX4_paper_109 : decode cX4_paper 109 = .ok (.aload_n 0, 1) := dk_42 (dk_at dksX4_paper_4 14 rfl rfl)
theorem dX4_paper_110 : decode cX4_paper 110 = .ok (.getfield 46, 3) := dk_180 0 46 (dk_at dksX4_paper_4 15 rfl rfl)
theorem dX4_paper_113 : decode cX4_paper 113 = .ok (.iload_n 2, 1) := dk_28 (dk_at dksX4_paper_4 18 rfl rfl)
theorem dX4_paper_114 : decode cX4_paper 114 = .ok (.iaload, 1) := dk_46 (dk_at dksX4_paper_4 19 rfl rfl)
theorem dX4_paper_115 : decode cX4_paper 115 = .ok (.iastore, 1) := dk_79 (dk_at dksX4_paper_4 20 rfl rfl)
theorem dX4_paper_116 : decode cX4_paper 116 = .ok (.iinc 2 1, 3) := dk_132 2 1 (dk_at dksX4_paper_4 21 rfl rfl)
theorem dX4_paper_119 : decode cX4_paper 119 = .ok (.goto (-55), 3) := dk_167 255 201 (dk_at dksX4_paper_5 0 rfl rfl)
theorem dX4_paper_122 : decode cX4_paper 122 = .ok (.aload_n 0, 1) := dk_42 (dk_at dksX4_paper_5 3 rfl rfl)
theorem dX4_paper_123 : decode cX4_paper 123 = .ok (.getfield 20, 3) := dk_180 0 20 (dk_at dksX4_paper_5 4 rfl rfl)
theorem dX4_paper_126 : decode cX4_paper 126 = .ok (.sipush 393, 3) := dk_17 1 137 (dk_at dksX4_paper_5 7 rfl rfl)
theorem dX4_paper_129 : decode cX4_paper 129 = .ok (.dup2, 1) := dk_92 (dk_at dksX4_paper_5 10 rfl rfl)
theorem dX4_paper_130 : decode cX4_paper 130 = .ok (.iaload, 1) := dk_46 (dk_at dksX4_paper_5 11 rfl rfl)
theorem dX4_paper_131 : decode cX4_paper 131 = .ok (.iconst 1, 1) := dk_4 (dk_at dksX4_paper_5 12 rfl rfl)
theorem dX4_paper_132 : decode cX4_paper 132 = .ok (.iadd, 1) := dk_96 (dk_at dksX4_paper_5 13 rfl rfl)
theorem dX4_paper_133 : decode cX4_paper 133 = .ok (.iastore, 1) := dk_79 (dk_at dksX4_paper_5 14 rfl rfl)
theorem dX4_paper_134 : decode cX4_paper 134 = .ok (.aload_n 0, 1) := dk_42 (dk_at dksX4_paper_5 15 rfl rfl)
theorem dX4_paper_135 : decode cX4_paper 135 = .ok (.iload_n 1, 1) := dk_27 (dk_at dksX4_paper_5 16 rfl rfl)
theorem dX4_paper_136 : decode cX4_paper 136 = .ok (.invokevirtual 143, 3) := dk_182 0 143 (dk_at dksX4_paper_5 17 rfl rfl)
theorem dX4_paper_139 : decode cX4_paper 139 = .ok (.ireturn, 1) := dk_172 (dk_at dksX4_paper_5 20 rfl rfl)
abbrev cX4_reads : ByteArray := prog_29_method_39_code
def yX4_reads : MethodName := ⟨RX4, "reads", "()Z"⟩
def dkwX4_reads_4 : List UInt8 := [182, 0, 199, 42, 42, 180, 0, 186, 181, 0, 40, 42, 182, 0, 189, 172]
abbrev dktX4_reads_4 : List UInt8 := dkwX4_reads_4 ++ []
def dkwX4_reads_3 : List UInt8 := [167, 255, 220, 42, 182, 0, 189, 153, 0, 18, 42, 180, 0, 193, 42, 180, 0, 173, 162, 0, 7, 42]
abbrev dktX4_reads_3 : List UInt8 := dkwX4_reads_3 ++ dktX4_reads_4
def dkwX4_reads_2 : List UInt8 := [16, 12, 160, 0, 7, 42, 182, 0, 199, 42, 182, 0, 189, 153, 0, 7, 42, 182, 0, 237, 132, 1, 1]
abbrev dktX4_reads_2 : List UInt8 := dkwX4_reads_2 ++ dktX4_reads_3
def dkwX4_reads_1 : List UInt8 := [2, 181, 0, 186, 42, 182, 0, 237, 4, 60, 42, 16, 59, 184, 0, 221, 182, 0, 196, 153, 0, 30, 27]
abbrev dktX4_reads_1 : List UInt8 := dkwX4_reads_1 ++ dktX4_reads_2
def dkwX4_reads_0 : List UInt8 := [42, 42, 180, 0, 170, 182, 0, 234, 42, 3, 181, 0, 170, 42, 3, 181, 0, 193, 42, 3, 181, 0, 202, 42]
abbrev dktX4_reads_0 : List UInt8 := dkwX4_reads_0 ++ dktX4_reads_1
theorem dksX4_reads_0 : cX4_reads.data.toList.drop 0 = dktX4_reads_0 := by decide +kernel
theorem dksX4_reads_1 : cX4_reads.data.toList.drop 24 = dktX4_reads_1 := dk_seg dksX4_reads_0 24 rfl rfl
theorem dksX4_reads_2 : cX4_reads.data.toList.drop 47 = dktX4_reads_2 := dk_seg dksX4_reads_1 23 rfl rfl
theorem dksX4_reads_3 : cX4_reads.data.toList.drop 70 = dktX4_reads_3 := dk_seg dksX4_reads_2 23 rfl rfl
theorem dksX4_reads_4 : cX4_reads.data.toList.drop 92 = dktX4_reads_4 := dk_seg dksX4_reads_3 22 rfl rfl
theorem dX4_reads_0 : decode cX4_reads 0 = .ok (.aload_n 0, 1) := dk_42 (dk_at dksX4_reads_0 0 rfl rfl)
theorem dX4_reads_1 : decode cX4_reads 1 = .ok (.aload_n 0, 1) := dk_42 (dk_at dksX4_reads_0 1 rfl rfl)
theorem dX4_reads_2 : decode cX4_reads 2 = .ok (.getfield 170, 3) := dk_180 0 170 (dk_at dksX4_reads_0 2 rfl rfl)
theorem dX4_reads_5 : decode cX4_reads 5 = .ok (.invokevirtual 234, 3) := dk_182 0 234 (dk_at dksX4_reads_0 5 rfl rfl)
theorem dX4_reads_8 : decode cX4_reads 8 = .ok (.aload_n 0, 1) := dk_42 (dk_at dksX4_reads_0 8 rfl rfl)
theorem dX4_reads_9 : decode cX4_reads 9 = .ok (.iconst 0, 1) := dk_3 (dk_at dksX4_reads_0 9 rfl rfl)
theorem dX4_reads_10 : decode cX4_reads 10 = .ok (.putfield 170, 3) := dk_181 0 170 (dk_at dksX4_reads_0 10 rfl rfl)
theorem dX4_reads_13 : decode cX4_reads 13 = .ok (.aload_n 0, 1) := dk_42 (dk_at dksX4_reads_0 13 rfl rfl)
theorem dX4_reads_14 : decode cX4_reads 14 = .ok (.iconst 0, 1) := dk_3 (dk_at dksX4_reads_0 14 rfl rfl)
theorem dX4_reads_15 : decode cX4_reads 15 = .ok (.putfield 193, 3) := dk_181 0 193 (dk_at dksX4_reads_0 15 rfl rfl)
theorem dX4_reads_18 : decode cX4_reads 18 = .ok (.aload_n 0, 1) := dk_42 (dk_at dksX4_reads_0 18 rfl rfl)
theorem dX4_reads_19 : decode cX4_reads 19 = .ok (.iconst 0, 1) := dk_3 (dk_at dksX4_reads_0 19 rfl rfl)
theorem dX4_reads_20 : decode cX4_reads 20 = .ok (.putfield 202, 3) := dk_181 0 202 (dk_at dksX4_reads_0 20 rfl rfl)
theorem dX4_reads_23 : decode cX4_reads 23 = .ok (.aload_n 0, 1) := dk_42 (dk_at dksX4_reads_0 23 rfl rfl)
theorem dX4_reads_24 : decode cX4_reads 24 = .ok (.iconst (-1), 1) := dk_2 (dk_at dksX4_reads_1 0 rfl rfl)
theorem dX4_reads_25 : decode cX4_reads 25 = .ok (.putfield 186, 3) := dk_181 0 186 (dk_at dksX4_reads_1 1 rfl rfl)
theorem dX4_reads_28 : decode cX4_reads 28 = .ok (.aload_n 0, 1) := dk_42 (dk_at dksX4_reads_1 4 rfl rfl)
theorem dX4_reads_29 : decode cX4_reads 29 = .ok (.invokevirtual 237, 3) := dk_182 0 237 (dk_at dksX4_reads_1 5 rfl rfl)
theorem dX4_reads_32 : decode cX4_reads 32 = .ok (.iconst 1, 1) := dk_4 (dk_at dksX4_reads_1 8 rfl rfl)
theorem dX4_reads_33 : decode cX4_reads 33 = .ok (.istore_n 1, 1) := dk_60 (dk_at dksX4_reads_1 9 rfl rfl)
theorem dX4_reads_34 : decode cX4_reads 34 = .ok (.aload_n 0, 1) := dk_42 (dk_at dksX4_reads_1 10 rfl rfl)
theorem dX4_reads_35 : decode cX4_reads 35 = .ok (.bipush 59, 2) := dk_16 59 (dk_at dksX4_reads_1 11 rfl rfl)
theorem dX4_reads_37 : decode cX4_reads 37 = .ok (.invokestatic 221, 3) := dk_184 0 221 (dk_at dksX4_reads_1 13 rfl rfl)
theorem dX4_reads_40 : decode cX4_reads 40 = .ok (.invokevirtual 196, 3) := dk_182 0 196 (dk_at dksX4_reads_1 16 rfl rfl)
theorem dX4_reads_43 : decode cX4_reads 43 = .ok (.ifCond .eq 30, 3) := dk_153 0 30 (dk_at dksX4_reads_1 19 rfl rfl)
theorem dX4_reads_46 : decode cX4_reads 46 = .ok (.iload_n 1, 1) := dk_27 (dk_at dksX4_reads_1 22 rfl rfl)
theorem dX4_reads_47 : decode cX4_reads 47 = .ok (.bipush 12, 2) := dk_16 12 (dk_at dksX4_reads_2 0 rfl rfl)
theorem dX4_reads_49 : decode cX4_reads 49 = .ok (.if_icmp .ne 7, 3) := dk_160 0 7 (dk_at dksX4_reads_2 2 rfl rfl)
theorem dX4_reads_52 : decode cX4_reads 52 = .ok (.aload_n 0, 1) := dk_42 (dk_at dksX4_reads_2 5 rfl rfl)
theorem dX4_reads_53 : decode cX4_reads 53 = .ok (.invokevirtual 199, 3) := dk_182 0 199 (dk_at dksX4_reads_2 6 rfl rfl)
theorem dX4_reads_56 : decode cX4_reads 56 = .ok (.aload_n 0, 1) := dk_42 (dk_at dksX4_reads_2 9 rfl rfl)
theorem dX4_reads_57 : decode cX4_reads 57 = .ok (.invokevirtual 189, 3) := dk_182 0 189 (dk_at dksX4_reads_2 10 rfl rfl)
theorem dX4_reads_60 : decode cX4_reads 60 = .ok (.ifCond .eq 7, 3) := dk_153 0 7 (dk_at dksX4_reads_2 13 rfl rfl)
theorem dX4_reads_63 : decode cX4_reads 63 = .ok (.aload_n 0, 1) := dk_42 (dk_at dksX4_reads_2 16 rfl rfl)
theorem dX4_reads_64 : decode cX4_reads 64 = .ok (.invokevirtual 237, 3) := dk_182 0 237 (dk_at dksX4_reads_2 17 rfl rfl)
theorem dX4_reads_67 : decode cX4_reads 67 = .ok (.iinc 1 1, 3) := dk_132 1 1 (dk_at dksX4_reads_2 20 rfl rfl)
theorem dX4_reads_70 : decode cX4_reads 70 = .ok (.goto (-36), 3) := dk_167 255 220 (dk_at dksX4_reads_3 0 rfl rfl)
theorem dX4_reads_73 : decode cX4_reads 73 = .ok (.aload_n 0, 1) := dk_42 (dk_at dksX4_reads_3 3 rfl rfl)
theorem dX4_reads_74 : decode cX4_reads 74 = .ok (.invokevirtual 189, 3) := dk_182 0 189 (dk_at dksX4_reads_3 4 rfl rfl)
theorem dX4_reads_77 : decode cX4_reads 77 = .ok (.ifCond .eq 18, 3) := dk_153 0 18 (dk_at dksX4_reads_3 7 rfl rfl)
theorem dX4_reads_80 : decode cX4_reads 80 = .ok (.aload_n 0, 1) := dk_42 (dk_at dksX4_reads_3 10 rfl rfl)
theorem dX4_reads_81 : decode cX4_reads 81 = .ok (.getfield 193, 3) := dk_180 0 193 (dk_at dksX4_reads_3 11 rfl rfl)
theorem dX4_reads_84 : decode cX4_reads 84 = .ok (.aload_n 0, 1) := dk_42 (dk_at dksX4_reads_3 14 rfl rfl)
theorem dX4_reads_85 : decode cX4_reads 85 = .ok (.getfield 173, 3) := dk_180 0 173 (dk_at dksX4_reads_3 15 rfl rfl)
theorem dX4_reads_88 : decode cX4_reads 88 = .ok (.if_icmp .ge 7, 3) := dk_162 0 7 (dk_at dksX4_reads_3 18 rfl rfl)
theorem dX4_reads_91 : decode cX4_reads 91 = .ok (.aload_n 0, 1) := dk_42 (dk_at dksX4_reads_3 21 rfl rfl)
theorem dX4_reads_92 : decode cX4_reads 92 = .ok (.invokevirtual 199, 3) := dk_182 0 199 (dk_at dksX4_reads_4 0 rfl rfl)
theorem dX4_reads_95 : decode cX4_reads 95 = .ok (.aload_n 0, 1) := dk_42 (dk_at dksX4_reads_4 3 rfl rfl)
theorem dX4_reads_96 : decode cX4_reads 96 = .ok (.aload_n 0, 1) := dk_42 (dk_at dksX4_reads_4 4 rfl rfl)
theorem dX4_reads_97 : decode cX4_reads 97 = .ok (.getfield 186, 3) := dk_180 0 186 (dk_at dksX4_reads_4 5 rfl rfl)
theorem dX4_reads_100 : decode cX4_reads 100 = .ok (.putfield 40, 3) := dk_181 0 40 (dk_at dksX4_reads_4 8 rfl rfl)
theorem dX4_reads_103 : decode cX4_reads 103 = .ok (.aload_n 0, 1) := dk_42 (dk_at dksX4_reads_4 11 rfl rfl)
theorem dX4_reads_104 : decode cX4_reads 104 = .ok (.invokevirtual 189, 3) := dk_182 0 189 (dk_at dksX4_reads_4 12 rfl rfl)
theorem dX4_reads_107 : decode cX4_reads 107 = .ok (.ireturn, 1) := dk_172 (dk_at dksX4_reads_4 15 rfl rfl)
abbrev cX4_splits : ByteArray := prog_29_method_25_code
def yX4_splits : MethodName := ⟨RX4, "splits", "(I)V"⟩
def dkwX4_splits_12 : List UInt8 := [3, 79, 42, 180, 0, 46, 42, 180, 0, 173, 3, 79, 177]
abbrev dktX4_splits_12 : List UInt8 := dkwX4_splits_12 ++ []
def dkwX4_splits_11 : List UInt8 := [21, 4, 61, 167, 255, 3, 42, 180, 0, 49, 42, 180, 0, 173, 27, 79, 42, 180, 0, 43, 42, 180, 0, 173]
abbrev dktX4_splits_11 : List UInt8 := dkwX4_splits_11 ++ dktX4_splits_12
def dkwX4_splits_10 : List UInt8 := [21, 5, 51, 96, 16, 48, 100, 79, 132, 5, 1, 167, 255, 181, 42, 89, 180, 0, 173, 4, 96, 181, 0, 173]
abbrev dktX4_splits_10 : List UInt8 := dkwX4_splits_10 ++ dktX4_splits_11
def dkwX4_splits_9 : List UInt8 := [180, 0, 173, 46, 167, 0, 26, 16, 10, 42, 180, 0, 46, 42, 180, 0, 173, 46, 104, 42, 180, 0, 34]
abbrev dktX4_splits_9 : List UInt8 := dkwX4_splits_9 ++ dktX4_splits_10
def dkwX4_splits_8 : List UInt8 := [42, 180, 0, 173, 42, 180, 0, 46, 42, 180, 0, 173, 46, 18, 185, 164, 0, 15, 42, 180, 0, 46, 42]
abbrev dktX4_splits_8 : List UInt8 := dkwX4_splits_8 ++ dktX4_splits_9
def dkwX4_splits_7 : List UInt8 := [126, 96, 79, 28, 54, 5, 21, 5, 21, 4, 162, 0, 74, 29, 184, 0, 179, 153, 0, 67, 42, 180, 0, 46]
abbrev dktX4_splits_7 : List UInt8 := dkwX4_splits_7 ++ dktX4_splits_8
def dkwX4_splits_6 : List UInt8 := [182, 0, 182, 167, 0, 23, 29, 184, 0, 179, 153, 0, 8, 16, 50, 167, 0, 11, 16, 100, 29, 17, 0, 255]
abbrev dktX4_splits_6 : List UInt8 := dkwX4_splits_6 ++ dktX4_splits_7
def dkwX4_splits_5 : List UInt8 := [180, 0, 173, 3, 79, 42, 180, 0, 43, 42, 180, 0, 173, 29, 184, 0, 176, 153, 0, 13, 42, 28, 21, 4]
abbrev dktX4_splits_5 : List UInt8 := dkwX4_splits_5 ++ dktX4_splits_6
def dkwX4_splits_4 : List UInt8 := [153, 0, 9, 132, 4, 1, 167, 255, 234, 42, 180, 0, 49, 42, 180, 0, 173, 28, 79, 42, 180, 0, 46, 42]
abbrev dktX4_splits_4 : List UInt8 := dkwX4_splits_4 ++ dktX4_splits_5
def dkwX4_splits_3 : List UInt8 := [184, 0, 179, 153, 0, 28, 21, 4, 27, 162, 0, 22, 42, 180, 0, 34, 21, 4, 51, 184, 0, 179]
abbrev dktX4_splits_3 : List UInt8 := dkwX4_splits_3 ++ dktX4_splits_4
def dkwX4_splits_2 : List UInt8 := [162, 0, 22, 42, 180, 0, 34, 21, 4, 51, 184, 0, 176, 153, 0, 9, 132, 4, 1, 167, 255, 234, 29]
abbrev dktX4_splits_2 : List UInt8 := dkwX4_splits_2 ++ dktX4_splits_3
def dkwX4_splits_1 : List UInt8 := [160, 0, 9, 132, 2, 1, 167, 255, 235, 28, 4, 96, 54, 4, 29, 184, 0, 176, 153, 0, 28, 21, 4, 27]
abbrev dktX4_splits_1 : List UInt8 := dkwX4_splits_1 ++ dktX4_splits_2
def dkwX4_splits_0 : List UInt8 := [42, 3, 181, 0, 173, 3, 61, 28, 27, 162, 0, 254, 42, 180, 0, 34, 28, 51, 62, 29, 16, 32]
abbrev dktX4_splits_0 : List UInt8 := dkwX4_splits_0 ++ dktX4_splits_1
theorem dksX4_splits_0 : cX4_splits.data.toList.drop 0 = dktX4_splits_0 := by decide +kernel
theorem dksX4_splits_1 : cX4_splits.data.toList.drop 22 = dktX4_splits_1 := dk_seg dksX4_splits_0 22 rfl rfl
theorem dksX4_splits_2 : cX4_splits.data.toList.drop 46 = dktX4_splits_2 := dk_seg dksX4_splits_1 24 rfl rfl
theorem dksX4_splits_3 : cX4_splits.data.toList.drop 69 = dktX4_splits_3 := dk_seg dksX4_splits_2 23 rfl rfl
theorem dksX4_splits_4 : cX4_splits.data.toList.drop 91 = dktX4_splits_4 := dk_seg dksX4_splits_3 22 rfl rfl
theorem dksX4_splits_5 : cX4_splits.data.toList.drop 115 = dktX4_splits_5 := dk_seg dksX4_splits_4 24 rfl rfl
theorem dksX4_splits_6 : cX4_splits.data.toList.drop 139 = dktX4_splits_6 := dk_seg dksX4_splits_5 24 rfl rfl
theorem dksX4_splits_7 : cX4_splits.data.toList.drop 163 = dktX4_splits_7 := dk_seg dksX4_splits_6 24 rfl rfl
theorem dksX4_splits_8 : cX4_splits.data.toList.drop 187 = dktX4_splits_8 := dk_seg dksX4_splits_7 24 rfl rfl
theorem dksX4_splits_9 : cX4_splits.data.toList.drop 210 = dktX4_splits_9 := dk_seg dksX4_splits_8 23 rfl rfl
theorem dksX4_splits_10 : cX4_splits.data.toList.drop 233 = dktX4_splits_10 := dk_seg dksX4_splits_9 23 rfl rfl
theorem dksX4_splits_11 : cX4_splits.data.toList.drop 257 = dktX4_splits_11 := dk_seg dksX4_splits_10 24 rfl rfl
theorem dksX4_splits_12 : cX4_splits.data.toList.drop 281 = dktX4_splits_12 := dk_seg dksX4_splits_11 24 rfl rfl
theorem dX4_splits_0 : decode cX4_splits 0 = .ok (.aload_n 0, 1) := dk_42 (dk_at dksX4_splits_0 0 rfl rfl)
theorem dX4_splits_1 : decode cX4_splits 1 = .ok (.iconst 0, 1) := dk_3 (dk_at dksX4_splits_0 1 rfl rfl)
theorem dX4_splits_2 : decode cX4_splits 2 = .ok (.putfield 173, 3) := dk_181 0 173 (dk_at dksX4_splits_0 2 rfl rfl)
theorem dX4_splits_5 : decode cX4_splits 5 = .ok (.iconst 0, 1) := dk_3 (dk_at dksX4_splits_0 5 rfl rfl)
theorem dX4_splits_6 : decode cX4_splits 6 = .ok (.istore_n 2, 1) := dk_61 (dk_at dksX4_splits_0 6 rfl rfl)
theorem dX4_splits_7 : decode cX4_splits 7 = .ok (.iload_n 2, 1) := dk_28 (dk_at dksX4_splits_0 7 rfl rfl)
theorem dX4_splits_8 : decode cX4_splits 8 = .ok (.iload_n 1, 1) := dk_27 (dk_at dksX4_splits_0 8 rfl rfl)
theorem dX4_splits_9 : decode cX4_splits 9 = .ok (.if_icmp .ge 254, 3) := dk_162 0 254 (dk_at dksX4_splits_0 9 rfl rfl)
theorem dX4_splits_12 : decode cX4_splits 12 = .ok (.aload_n 0, 1) := dk_42 (dk_at dksX4_splits_0 12 rfl rfl)
theorem dX4_splits_13 : decode cX4_splits 13 = .ok (.getfield 34, 3) := dk_180 0 34 (dk_at dksX4_splits_0 13 rfl rfl)
theorem dX4_splits_16 : decode cX4_splits 16 = .ok (.iload_n 2, 1) := dk_28 (dk_at dksX4_splits_0 16 rfl rfl)
theorem dX4_splits_17 : decode cX4_splits 17 = .ok (.baload, 1) := dk_51 (dk_at dksX4_splits_0 17 rfl rfl)
theorem dX4_splits_18 : decode cX4_splits 18 = .ok (.istore_n 3, 1) := dk_62 (dk_at dksX4_splits_0 18 rfl rfl)
theorem dX4_splits_19 : decode cX4_splits 19 = .ok (.iload_n 3, 1) := dk_29 (dk_at dksX4_splits_0 19 rfl rfl)
theorem dX4_splits_20 : decode cX4_splits 20 = .ok (.bipush 32, 2) := dk_16 32 (dk_at dksX4_splits_0 20 rfl rfl)
theorem dX4_splits_22 : decode cX4_splits 22 = .ok (.if_icmp .ne 9, 3) := dk_160 0 9 (dk_at dksX4_splits_1 0 rfl rfl)
theorem dX4_splits_25 : decode cX4_splits 25 = .ok (.iinc 2 1, 3) := dk_132 2 1 (dk_at dksX4_splits_1 3 rfl rfl)
theorem dX4_splits_28 : decode cX4_splits 28 = .ok (.goto (-21), 3) := dk_167 255 235 (dk_at dksX4_splits_1 6 rfl rfl)
theorem dX4_splits_31 : decode cX4_splits 31 = .ok (.iload_n 2, 1) := dk_28 (dk_at dksX4_splits_1 9 rfl rfl)
theorem dX4_splits_32 : decode cX4_splits 32 = .ok (.iconst 1, 1) := dk_4 (dk_at dksX4_splits_1 10 rfl rfl)
theorem dX4_splits_33 : decode cX4_splits 33 = .ok (.iadd, 1) := dk_96 (dk_at dksX4_splits_1 11 rfl rfl)
theorem dX4_splits_34 : decode cX4_splits 34 = .ok (.istore 4, 2) := dk_54 4 (dk_at dksX4_splits_1 12 rfl rfl)
theorem dX4_splits_36 : decode cX4_splits 36 = .ok (.iload_n 3, 1) := dk_29 (dk_at dksX4_splits_1 14 rfl rfl)
theorem dX4_splits_37 : decode cX4_splits 37 = .ok (.invokestatic 176, 3) := dk_184 0 176 (dk_at dksX4_splits_1 15 rfl rfl)
theorem dX4_splits_40 : decode cX4_splits 40 = .ok (.ifCond .eq 28, 3) := dk_153 0 28 (dk_at dksX4_splits_1 18 rfl rfl)
theorem dX4_splits_43 : decode cX4_splits 43 = .ok (.iload 4, 2) := dk_21 4 (dk_at dksX4_splits_1 21 rfl rfl)
theorem dX4_splits_45 : decode cX4_splits 45 = .ok (.iload_n 1, 1) := dk_27 (dk_at dksX4_splits_1 23 rfl rfl)
theorem dX4_splits_46 : decode cX4_splits 46 = .ok (.if_icmp .ge 22, 3) := dk_162 0 22 (dk_at dksX4_splits_2 0 rfl rfl)
theorem dX4_splits_49 : decode cX4_splits 49 = .ok (.aload_n 0, 1) := dk_42 (dk_at dksX4_splits_2 3 rfl rfl)
theorem dX4_splits_50 : decode cX4_splits 50 = .ok (.getfield 34, 3) := dk_180 0 34 (dk_at dksX4_splits_2 4 rfl rfl)
theorem dX4_splits_53 : decode cX4_splits 53 = .ok (.iload 4, 2) := dk_21 4 (dk_at dksX4_splits_2 7 rfl rfl)
theorem dX4_splits_55 : decode cX4_splits 55 = .ok (.baload, 1) := dk_51 (dk_at dksX4_splits_2 9 rfl rfl)
theorem dX4_splits_56 : decode cX4_splits 56 = .ok (.invokestatic 176, 3) := dk_184 0 176 (dk_at dksX4_splits_2 10 rfl rfl)
theorem dX4_splits_59 : decode cX4_splits 59 = .ok (.ifCond .eq 9, 3) := dk_153 0 9 (dk_at dksX4_splits_2 13 rfl rfl)
theorem dX4_splits_62 : decode cX4_splits 62 = .ok (.iinc 4 1, 3) := dk_132 4 1 (dk_at dksX4_splits_2 16 rfl rfl)
theorem dX4_splits_65 : decode cX4_splits 65 = .ok (.goto (-22), 3) := dk_167 255 234 (dk_at dksX4_splits_2 19 rfl rfl)
theorem dX4_splits_68 : decode cX4_splits 68 = .ok (.iload_n 3, 1) := dk_29 (dk_at dksX4_splits_2 22 rfl rfl)
theorem dX4_splits_69 : decode cX4_splits 69 = .ok (.invokestatic 179, 3) := dk_184 0 179 (dk_at dksX4_splits_3 0 rfl rfl)
theorem dX4_splits_72 : decode cX4_splits 72 = .ok (.ifCond .eq 28, 3) := dk_153 0 28 (dk_at dksX4_splits_3 3 rfl rfl)
theorem dX4_splits_75 : decode cX4_splits 75 = .ok (.iload 4, 2) := dk_21 4 (dk_at dksX4_splits_3 6 rfl rfl)
theorem dX4_splits_77 : decode cX4_splits 77 = .ok (.iload_n 1, 1) := dk_27 (dk_at dksX4_splits_3 8 rfl rfl)
theorem dX4_splits_78 : decode cX4_splits 78 = .ok (.if_icmp .ge 22, 3) := dk_162 0 22 (dk_at dksX4_splits_3 9 rfl rfl)
theorem dX4_splits_81 : decode cX4_splits 81 = .ok (.aload_n 0, 1) := dk_42 (dk_at dksX4_splits_3 12 rfl rfl)
theorem dX4_splits_82 : decode cX4_splits 82 = .ok (.getfield 34, 3) := dk_180 0 34 (dk_at dksX4_splits_3 13 rfl rfl)
theorem dX4_splits_85 : decode cX4_splits 85 = .ok (.iload 4, 2) := dk_21 4 (dk_at dksX4_splits_3 16 rfl rfl)
theorem dX4_splits_87 : decode cX4_splits 87 = .ok (.baload, 1) := dk_51 (dk_at dksX4_splits_3 18 rfl rfl)
theorem dX4_splits_88 : decode cX4_splits 88 = .ok (.invokestatic 179, 3) := dk_184 0 179 (dk_at dksX4_splits_3 19 rfl rfl)
theorem dX4_splits_91 : decode cX4_splits 91 = .ok (.ifCond .eq 9, 3) := dk_153 0 9 (dk_at dksX4_splits_4 0 rfl rfl)
theorem dX4_splits_94 : decode cX4_splits 94 = .ok (.iinc 4 1, 3) := dk_132 4 1 (dk_at dksX4_splits_4 3 rfl rfl)
theorem dX4_splits_97 : decode cX4_splits 97 = .ok (.goto (-22), 3) := dk_167 255 234 (dk_at dksX4_splits_4 6 rfl rfl)
theorem dX4_splits_100 : decode cX4_splits 100 = .ok (.aload_n 0, 1) := dk_42 (dk_at dksX4_splits_4 9 rfl rfl)
theorem dX4_splits_101 : decode cX4_splits 101 = .ok (.getfield 49, 3) := dk_180 0 49 (dk_at dksX4_splits_4 10 rfl rfl)
theorem dX4_splits_104 : decode cX4_splits 104 = .ok (.aload_n 0, 1) := dk_42 (dk_at dksX4_splits_4 13 rfl rfl)
theorem dX4_splits_105 : decode cX4_splits 105 = .ok (.getfield 173, 3) := dk_180 0 173 (dk_at dksX4_splits_4 14 rfl rfl)
theorem dX4_splits_108 : decode cX4_splits 108 = .ok (.iload_n 2, 1) := dk_28 (dk_at dksX4_splits_4 17 rfl rfl)
theorem dX4_splits_109 : decode cX4_splits 109 = .ok (.iastore, 1) := dk_79 (dk_at dksX4_splits_4 18 rfl rfl)
theorem dX4_splits_110 : decode cX4_splits 110 = .ok (.aload_n 0, 1) := dk_42 (dk_at dksX4_splits_4 19 rfl rfl)
theorem dX4_splits_111 : decode cX4_splits 111 = .ok (.getfield 46, 3) := dk_180 0 46 (dk_at dksX4_splits_4 20 rfl rfl)
theorem dX4_splits_114 : decode cX4_splits 114 = .ok (.aload_n 0, 1) := dk_42 (dk_at dksX4_splits_4 23 rfl rfl)
theorem dX4_splits_115 : decode cX4_splits 115 = .ok (.getfield 173, 3) := dk_180 0 173 (dk_at dksX4_splits_5 0 rfl rfl)
theorem dX4_splits_118 : decode cX4_splits 118 = .ok (.iconst 0, 1) := dk_3 (dk_at dksX4_splits_5 3 rfl rfl)
theorem dX4_splits_119 : decode cX4_splits 119 = .ok (.iastore, 1) := dk_79 (dk_at dksX4_splits_5 4 rfl rfl)
theorem dX4_splits_120 : decode cX4_splits 120 = .ok (.aload_n 0, 1) := dk_42 (dk_at dksX4_splits_5 5 rfl rfl)
theorem dX4_splits_121 : decode cX4_splits 121 = .ok (.getfield 43, 3) := dk_180 0 43 (dk_at dksX4_splits_5 6 rfl rfl)
theorem dX4_splits_124 : decode cX4_splits 124 = .ok (.aload_n 0, 1) := dk_42 (dk_at dksX4_splits_5 9 rfl rfl)
theorem dX4_splits_125 : decode cX4_splits 125 = .ok (.getfield 173, 3) := dk_180 0 173 (dk_at dksX4_splits_5 10 rfl rfl)
theorem dX4_splits_128 : decode cX4_splits 128 = .ok (.iload_n 3, 1) := dk_29 (dk_at dksX4_splits_5 13 rfl rfl)
theorem dX4_splits_129 : decode cX4_splits 129 = .ok (.invokestatic 176, 3) := dk_184 0 176 (dk_at dksX4_splits_5 14 rfl rfl)
theorem dX4_splits_132 : decode cX4_splits 132 = .ok (.ifCond .eq 13, 3) := dk_153 0 13 (dk_at dksX4_splits_5 17 rfl rfl)
theorem dX4_splits_135 : decode cX4_splits 135 = .ok (.aload_n 0, 1) := dk_42 (dk_at dksX4_splits_5 20 rfl rfl)
theorem dX4_splits_136 : decode cX4_splits 136 = .ok (.iload_n 2, 1) := dk_28 (dk_at dksX4_splits_5 21 rfl rfl)
theorem dX4_splits_137 : decode cX4_splits 137 = .ok (.iload 4, 2) := dk_21 4 (dk_at dksX4_splits_5 22 rfl rfl)
theorem dX4_splits_139 : decode cX4_splits 139 = .ok (.invokevirtual 182, 3) := dk_182 0 182 (dk_at dksX4_splits_6 0 rfl rfl)
theorem dX4_splits_142 : decode cX4_splits 142 = .ok (.goto 23, 3) := dk_167 0 23 (dk_at dksX4_splits_6 3 rfl rfl)
theorem dX4_splits_145 : decode cX4_splits 145 = .ok (.iload_n 3, 1) := dk_29 (dk_at dksX4_splits_6 6 rfl rfl)
theorem dX4_splits_146 : decode cX4_splits 146 = .ok (.invokestatic 179, 3) := dk_184 0 179 (dk_at dksX4_splits_6 7 rfl rfl)
theorem dX4_splits_149 : decode cX4_splits 149 = .ok (.ifCond .eq 8, 3) := dk_153 0 8 (dk_at dksX4_splits_6 10 rfl rfl)
theorem dX4_splits_152 : decode cX4_splits 152 = .ok (.bipush 50, 2) := dk_16 50 (dk_at dksX4_splits_6 13 rfl rfl)
theorem dX4_splits_154 : decode cX4_splits 154 = .ok (.goto 11, 3) := dk_167 0 11 (dk_at dksX4_splits_6 15 rfl rfl)
theorem dX4_splits_157 : decode cX4_splits 157 = .ok (.bipush 100, 2) := dk_16 100 (dk_at dksX4_splits_6 18 rfl rfl)
theorem dX4_splits_159 : decode cX4_splits 159 = .ok (.iload_n 3, 1) := dk_29 (dk_at dksX4_splits_6 20 rfl rfl)
theorem dX4_splits_160 : decode cX4_splits 160 = .ok (.sipush 255, 3) := dk_17 0 255 (dk_at dksX4_splits_6 21 rfl rfl)
theorem dX4_splits_163 : decode cX4_splits 163 = .ok (.iand, 1) := dk_126 (dk_at dksX4_splits_7 0 rfl rfl)
theorem dX4_splits_164 : decode cX4_splits 164 = .ok (.iadd, 1) := dk_96 (dk_at dksX4_splits_7 1 rfl rfl)
theorem dX4_splits_165 : decode cX4_splits 165 = .ok (.iastore, 1) := dk_79 (dk_at dksX4_splits_7 2 rfl rfl)
theorem dX4_splits_166 : decode cX4_splits 166 = .ok (.iload_n 2, 1) := dk_28 (dk_at dksX4_splits_7 3 rfl rfl)
theorem dX4_splits_167 : decode cX4_splits 167 = .ok (.istore 5, 2) := dk_54 5 (dk_at dksX4_splits_7 4 rfl rfl)
theorem dX4_splits_169 : decode cX4_splits 169 = .ok (.iload 5, 2) := dk_21 5 (dk_at dksX4_splits_7 6 rfl rfl)
theorem dX4_splits_171 : decode cX4_splits 171 = .ok (.iload 4, 2) := dk_21 4 (dk_at dksX4_splits_7 8 rfl rfl)
theorem dX4_splits_173 : decode cX4_splits 173 = .ok (.if_icmp .ge 74, 3) := dk_162 0 74 (dk_at dksX4_splits_7 10 rfl rfl)
theorem dX4_splits_176 : decode cX4_splits 176 = .ok (.iload_n 3, 1) := dk_29 (dk_at dksX4_splits_7 13 rfl rfl)
theorem dX4_splits_177 : decode cX4_splits 177 = .ok (.invokestatic 179, 3) := dk_184 0 179 (dk_at dksX4_splits_7 14 rfl rfl)
theorem dX4_splits_180 : decode cX4_splits 180 = .ok (.ifCond .eq 67, 3) := dk_153 0 67 (dk_at dksX4_splits_7 17 rfl rfl)
theorem dX4_splits_183 : decode cX4_splits 183 = .ok (.aload_n 0, 1) := dk_42 (dk_at dksX4_splits_7 20 rfl rfl)
theorem dX4_splits_184 : decode cX4_splits 184 = .ok (.getfield 46, 3) := dk_180 0 46 (dk_at dksX4_splits_7 21 rfl rfl)
theorem dX4_splits_187 : decode cX4_splits 187 = .ok (.aload_n 0, 1) := dk_42 (dk_at dksX4_splits_8 0 rfl rfl)
theorem dX4_splits_188 : decode cX4_splits 188 = .ok (.getfield 173, 3) := dk_180 0 173 (dk_at dksX4_splits_8 1 rfl rfl)
theorem dX4_splits_191 : decode cX4_splits 191 = .ok (.aload_n 0, 1) := dk_42 (dk_at dksX4_splits_8 4 rfl rfl)
theorem dX4_splits_192 : decode cX4_splits 192 = .ok (.getfield 46, 3) := dk_180 0 46 (dk_at dksX4_splits_8 5 rfl rfl)
theorem dX4_splits_195 : decode cX4_splits 195 = .ok (.aload_n 0, 1) := dk_42 (dk_at dksX4_splits_8 8 rfl rfl)
theorem dX4_splits_196 : decode cX4_splits 196 = .ok (.getfield 173, 3) := dk_180 0 173 (dk_at dksX4_splits_8 9 rfl rfl)
theorem dX4_splits_199 : decode cX4_splits 199 = .ok (.iaload, 1) := dk_46 (dk_at dksX4_splits_8 12 rfl rfl)
theorem dX4_splits_200 : decode cX4_splits 200 = .ok (.ldc 185, 2) := dk_18 185 (dk_at dksX4_splits_8 13 rfl rfl)
theorem dX4_splits_202 : decode cX4_splits 202 = .ok (.if_icmp .le 15, 3) := dk_164 0 15 (dk_at dksX4_splits_8 15 rfl rfl)
theorem dX4_splits_205 : decode cX4_splits 205 = .ok (.aload_n 0, 1) := dk_42 (dk_at dksX4_splits_8 18 rfl rfl)
theorem dX4_splits_206 : decode cX4_splits 206 = .ok (.getfield 46, 3) := dk_180 0 46 (dk_at dksX4_splits_8 19 rfl rfl)
theorem dX4_splits_209 : decode cX4_splits 209 = .ok (.aload_n 0, 1) := dk_42 (dk_at dksX4_splits_8 22 rfl rfl)
theorem dX4_splits_210 : decode cX4_splits 210 = .ok (.getfield 173, 3) := dk_180 0 173 (dk_at dksX4_splits_9 0 rfl rfl)
theorem dX4_splits_213 : decode cX4_splits 213 = .ok (.iaload, 1) := dk_46 (dk_at dksX4_splits_9 3 rfl rfl)
theorem dX4_splits_214 : decode cX4_splits 214 = .ok (.goto 26, 3) := dk_167 0 26 (dk_at dksX4_splits_9 4 rfl rfl)
theorem dX4_splits_217 : decode cX4_splits 217 = .ok (.bipush 10, 2) := dk_16 10 (dk_at dksX4_splits_9 7 rfl rfl)
theorem dX4_splits_219 : decode cX4_splits 219 = .ok (.aload_n 0, 1) := dk_42 (dk_at dksX4_splits_9 9 rfl rfl)
theorem dX4_splits_220 : decode cX4_splits 220 = .ok (.getfield 46, 3) := dk_180 0 46 (dk_at dksX4_splits_9 10 rfl rfl)
theorem dX4_splits_223 : decode cX4_splits 223 = .ok (.aload_n 0, 1) := dk_42 (dk_at dksX4_splits_9 13 rfl rfl)
theorem dX4_splits_224 : decode cX4_splits 224 = .ok (.getfield 173, 3) := dk_180 0 173 (dk_at dksX4_splits_9 14 rfl rfl)
theorem dX4_splits_227 : decode cX4_splits 227 = .ok (.iaload, 1) := dk_46 (dk_at dksX4_splits_9 17 rfl rfl)
theorem dX4_splits_228 : decode cX4_splits 228 = .ok (.imul, 1) := dk_104 (dk_at dksX4_splits_9 18 rfl rfl)
theorem dX4_splits_229 : decode cX4_splits 229 = .ok (.aload_n 0, 1) := dk_42 (dk_at dksX4_splits_9 19 rfl rfl)
theorem dX4_splits_230 : decode cX4_splits 230 = .ok (.getfield 34, 3) := dk_180 0 34 (dk_at dksX4_splits_9 20 rfl rfl)
theorem dX4_splits_233 : decode cX4_splits 233 = .ok (.iload 5, 2) := dk_21 5 (dk_at dksX4_splits_10 0 rfl rfl)
theorem dX4_splits_235 : decode cX4_splits 235 = .ok (.baload, 1) := dk_51 (dk_at dksX4_splits_10 2 rfl rfl)
theorem dX4_splits_236 : decode cX4_splits 236 = .ok (.iadd, 1) := dk_96 (dk_at dksX4_splits_10 3 rfl rfl)
theorem dX4_splits_237 : decode cX4_splits 237 = .ok (.bipush 48, 2) := dk_16 48 (dk_at dksX4_splits_10 4 rfl rfl)
theorem dX4_splits_239 : decode cX4_splits 239 = .ok (.isub, 1) := dk_100 (dk_at dksX4_splits_10 6 rfl rfl)
theorem dX4_splits_240 : decode cX4_splits 240 = .ok (.iastore, 1) := dk_79 (dk_at dksX4_splits_10 7 rfl rfl)
theorem dX4_splits_241 : decode cX4_splits 241 = .ok (.iinc 5 1, 3) := dk_132 5 1 (dk_at dksX4_splits_10 8 rfl rfl)
theorem dX4_splits_244 : decode cX4_splits 244 = .ok (.goto (-75), 3) := dk_167 255 181 (dk_at dksX4_splits_10 11 rfl rfl)
theorem dX4_splits_247 : decode cX4_splits 247 = .ok (.aload_n 0, 1) := dk_42 (dk_at dksX4_splits_10 14 rfl rfl)
theorem dX4_splits_248 : decode cX4_splits 248 = .ok (.dup, 1) := dk_89 (dk_at dksX4_splits_10 15 rfl rfl)
theorem dX4_splits_249 : decode cX4_splits 249 = .ok (.getfield 173, 3) := dk_180 0 173 (dk_at dksX4_splits_10 16 rfl rfl)
theorem dX4_splits_252 : decode cX4_splits 252 = .ok (.iconst 1, 1) := dk_4 (dk_at dksX4_splits_10 19 rfl rfl)
theorem dX4_splits_253 : decode cX4_splits 253 = .ok (.iadd, 1) := dk_96 (dk_at dksX4_splits_10 20 rfl rfl)
theorem dX4_splits_254 : decode cX4_splits 254 = .ok (.putfield 173, 3) := dk_181 0 173 (dk_at dksX4_splits_10 21 rfl rfl)
theorem dX4_splits_257 : decode cX4_splits 257 = .ok (.iload 4, 2) := dk_21 4 (dk_at dksX4_splits_11 0 rfl rfl)
theorem dX4_splits_259 : decode cX4_splits 259 = .ok (.istore_n 2, 1) := dk_61 (dk_at dksX4_splits_11 2 rfl rfl)
theorem dX4_splits_260 : decode cX4_splits 260 = .ok (.goto (-253), 3) := dk_167 255 3 (dk_at dksX4_splits_11 3 rfl rfl)
theorem dX4_splits_263 : decode cX4_splits 263 = .ok (.aload_n 0, 1) := dk_42 (dk_at dksX4_splits_11 6 rfl rfl)
theorem dX4_splits_264 : decode cX4_splits 264 = .ok (.getfield 49, 3) := dk_180 0 49 (dk_at dksX4_splits_11 7 rfl rfl)
theorem dX4_splits_267 : decode cX4_splits 267 = .ok (.aload_n 0, 1) := dk_42 (dk_at dksX4_splits_11 10 rfl rfl)
theorem dX4_splits_268 : decode cX4_splits 268 = .ok (.getfield 173, 3) := dk_180 0 173 (dk_at dksX4_splits_11 11 rfl rfl)
theorem dX4_splits_271 : decode cX4_splits 271 = .ok (.iload_n 1, 1) := dk_27 (dk_at dksX4_splits_11 14 rfl rfl)
theorem dX4_splits_272 : decode cX4_splits 272 = .ok (.iastore, 1) := dk_79 (dk_at dksX4_splits_11 15 rfl rfl)
theorem dX4_splits_273 : decode cX4_splits 273 = .ok (.aload_n 0, 1) := dk_42 (dk_at dksX4_splits_11 16 rfl rfl)
theorem dX4_splits_274 : decode cX4_splits 274 = .ok (.getfield 43, 3) := dk_180 0 43 (dk_at dksX4_splits_11 17 rfl rfl)
theorem dX4_splits_277 : decode cX4_splits 277 = .ok (.aload_n 0, 1) := dk_42 (dk_at dksX4_splits_11 20 rfl rfl)
theorem dX4_splits_278 : decode cX4_splits 278 = .ok (.getfield 173, 3) := dk_180 0 173 (dk_at dksX4_splits_11 21 rfl rfl)
theorem dX4_splits_281 : decode cX4_splits 281 = .ok (.iconst 0, 1) := dk_3 (dk_at dksX4_splits_12 0 rfl rfl)
theorem dX4_splits_282 : decode cX4_splits 282 = .ok (.iastore, 1) := dk_79 (dk_at dksX4_splits_12 1 rfl rfl)
theorem dX4_splits_283 : decode cX4_splits 283 = .ok (.aload_n 0, 1) := dk_42 (dk_at dksX4_splits_12 2 rfl rfl)
theorem dX4_splits_284 : decode cX4_splits 284 = .ok (.getfield 46, 3) := dk_180 0 46 (dk_at dksX4_splits_12 3 rfl rfl)
theorem dX4_splits_287 : decode cX4_splits 287 = .ok (.aload_n 0, 1) := dk_42 (dk_at dksX4_splits_12 6 rfl rfl)
theorem dX4_splits_288 : decode cX4_splits 288 = .ok (.getfield 173, 3) := dk_180 0 173 (dk_at dksX4_splits_12 7 rfl rfl)
theorem dX4_splits_291 : decode cX4_splits 291 = .ok (.iconst 0, 1) := dk_3 (dk_at dksX4_splits_12 10 rfl rfl)
theorem dX4_splits_292 : decode cX4_splits 292 = .ok (.iastore, 1) := dk_79 (dk_at dksX4_splits_12 11 rfl rfl)
theorem dX4_splits_293 : decode cX4_splits 293 = .ok (.return_, 1) := dk_177 (dk_at dksX4_splits_12 12 rfl rfl)
abbrev cX4_isSmall : ByteArray := prog_29_method_22_code
def yX4_isSmall : MethodName := ⟨RX4, "isSmall", "(I)Z"⟩
def dkwX4_isSmall_0 : List UInt8 := [26, 16, 97, 161, 0, 13, 26, 16, 122, 163, 0, 7, 4, 167, 0, 4, 3, 172]
abbrev dktX4_isSmall_0 : List UInt8 := dkwX4_isSmall_0 ++ []
theorem dksX4_isSmall_0 : cX4_isSmall.data.toList.drop 0 = dktX4_isSmall_0 := by decide +kernel
theorem dX4_isSmall_0 : decode cX4_isSmall 0 = .ok (.iload_n 0, 1) := dk_26 (dk_at dksX4_isSmall_0 0 rfl rfl)
theorem dX4_isSmall_1 : decode cX4_isSmall 1 = .ok (.bipush 97, 2) := dk_16 97 (dk_at dksX4_isSmall_0 1 rfl rfl)
theorem dX4_isSmall_3 : decode cX4_isSmall 3 = .ok (.if_icmp .lt 13, 3) := dk_161 0 13 (dk_at dksX4_isSmall_0 3 rfl rfl)
theorem dX4_isSmall_6 : decode cX4_isSmall 6 = .ok (.iload_n 0, 1) := dk_26 (dk_at dksX4_isSmall_0 6 rfl rfl)
theorem dX4_isSmall_7 : decode cX4_isSmall 7 = .ok (.bipush 122, 2) := dk_16 122 (dk_at dksX4_isSmall_0 7 rfl rfl)
theorem dX4_isSmall_9 : decode cX4_isSmall 9 = .ok (.if_icmp .gt 7, 3) := dk_163 0 7 (dk_at dksX4_isSmall_0 9 rfl rfl)
theorem dX4_isSmall_12 : decode cX4_isSmall 12 = .ok (.iconst 1, 1) := dk_4 (dk_at dksX4_isSmall_0 12 rfl rfl)
theorem dX4_isSmall_13 : decode cX4_isSmall 13 = .ok (.goto 4, 3) := dk_167 0 4 (dk_at dksX4_isSmall_0 13 rfl rfl)
theorem dX4_isSmall_16 : decode cX4_isSmall 16 = .ok (.iconst 0, 1) := dk_3 (dk_at dksX4_isSmall_0 16 rfl rfl)
theorem dX4_isSmall_17 : decode cX4_isSmall 17 = .ok (.ireturn, 1) := dk_172 (dk_at dksX4_isSmall_0 17 rfl rfl)
abbrev cX4_isDigit : ByteArray := prog_29_method_23_code
def yX4_isDigit : MethodName := ⟨RX4, "isDigit", "(I)Z"⟩
def dkwX4_isDigit_0 : List UInt8 := [26, 16, 48, 161, 0, 13, 26, 16, 57, 163, 0, 7, 4, 167, 0, 4, 3, 172]
abbrev dktX4_isDigit_0 : List UInt8 := dkwX4_isDigit_0 ++ []
theorem dksX4_isDigit_0 : cX4_isDigit.data.toList.drop 0 = dktX4_isDigit_0 := by decide +kernel
theorem dX4_isDigit_0 : decode cX4_isDigit 0 = .ok (.iload_n 0, 1) := dk_26 (dk_at dksX4_isDigit_0 0 rfl rfl)
theorem dX4_isDigit_1 : decode cX4_isDigit 1 = .ok (.bipush 48, 2) := dk_16 48 (dk_at dksX4_isDigit_0 1 rfl rfl)
theorem dX4_isDigit_3 : decode cX4_isDigit 3 = .ok (.if_icmp .lt 13, 3) := dk_161 0 13 (dk_at dksX4_isDigit_0 3 rfl rfl)
theorem dX4_isDigit_6 : decode cX4_isDigit 6 = .ok (.iload_n 0, 1) := dk_26 (dk_at dksX4_isDigit_0 6 rfl rfl)
theorem dX4_isDigit_7 : decode cX4_isDigit 7 = .ok (.bipush 57, 2) := dk_16 57 (dk_at dksX4_isDigit_0 7 rfl rfl)
theorem dX4_isDigit_9 : decode cX4_isDigit 9 = .ok (.if_icmp .gt 7, 3) := dk_163 0 7 (dk_at dksX4_isDigit_0 9 rfl rfl)
theorem dX4_isDigit_12 : decode cX4_isDigit 12 = .ok (.iconst 1, 1) := dk_4 (dk_at dksX4_isDigit_0 12 rfl rfl)
theorem dX4_isDigit_13 : decode cX4_isDigit 13 = .ok (.goto 4, 3) := dk_167 0 4 (dk_at dksX4_isDigit_0 13 rfl rfl)
theorem dX4_isDigit_16 : decode cX4_isDigit 16 = .ok (.iconst 0, 1) := dk_3 (dk_at dksX4_isDigit_0 16 rfl rfl)
theorem dX4_isDigit_17 : decode cX4_isDigit 17 = .ok (.ireturn, 1) := dk_172 (dk_at dksX4_isDigit_0 17 rfl rfl)
abbrev cX4_wordOf : ByteArray := prog_29_method_24_code
def yX4_wordOf : MethodName := ⟨RX4, "wordOf", "(II)I"⟩
def dkwX4_wordOf_5 : List UInt8 := [96, 96, 54, 4, 132, 3, 1, 167, 255, 138, 3, 172]
abbrev dktX4_wordOf_5 : List UInt8 := dkwX4_wordOf_5 ++ []
def dkwX4_wordOf_4 : List UInt8 := [167, 0, 4, 3, 54, 6, 132, 7, 1, 167, 255, 212, 21, 6, 153, 0, 5, 29, 172, 21, 4, 21, 5, 4]
abbrev dktX4_wordOf_4 : List UInt8 := dkwX4_wordOf_4 ++ dktX4_wordOf_5
def dkwX4_wordOf_3 : List UInt8 := [180, 0, 30, 21, 4, 21, 7, 96, 51, 42, 180, 0, 34, 27, 21, 7, 96, 51, 160, 0, 7, 4]
abbrev dktX4_wordOf_3 : List UInt8 := dkwX4_wordOf_3 ++ dktX4_wordOf_4
def dkwX4_wordOf_2 : List UInt8 := [167, 0, 4, 3, 54, 6, 3, 54, 7, 21, 7, 21, 5, 162, 0, 43, 21, 6, 153, 0, 38, 42]
abbrev dktX4_wordOf_2 : List UInt8 := dkwX4_wordOf_2 ++ dktX4_wordOf_3
def dkwX4_wordOf_1 : List UInt8 := [21, 5, 96, 51, 16, 32, 159, 0, 9, 132, 5, 1, 167, 255, 238, 21, 5, 28, 27, 100, 160, 0, 7, 4]
abbrev dktX4_wordOf_1 : List UInt8 := dkwX4_wordOf_1 ++ dktX4_wordOf_2
def dkwX4_wordOf_0 : List UInt8 := [4, 62, 3, 54, 4, 21, 4, 42, 180, 0, 30, 190, 162, 0, 114, 3, 54, 5, 42, 180, 0, 30, 21, 4]
abbrev dktX4_wordOf_0 : List UInt8 := dkwX4_wordOf_0 ++ dktX4_wordOf_1
theorem dksX4_wordOf_0 : cX4_wordOf.data.toList.drop 0 = dktX4_wordOf_0 := by decide +kernel
theorem dksX4_wordOf_1 : cX4_wordOf.data.toList.drop 24 = dktX4_wordOf_1 := dk_seg dksX4_wordOf_0 24 rfl rfl
theorem dksX4_wordOf_2 : cX4_wordOf.data.toList.drop 48 = dktX4_wordOf_2 := dk_seg dksX4_wordOf_1 24 rfl rfl
theorem dksX4_wordOf_3 : cX4_wordOf.data.toList.drop 70 = dktX4_wordOf_3 := dk_seg dksX4_wordOf_2 22 rfl rfl
theorem dksX4_wordOf_4 : cX4_wordOf.data.toList.drop 92 = dktX4_wordOf_4 := dk_seg dksX4_wordOf_3 22 rfl rfl
theorem dksX4_wordOf_5 : cX4_wordOf.data.toList.drop 116 = dktX4_wordOf_5 := dk_seg dksX4_wordOf_4 24 rfl rfl
theorem dX4_wordOf_0 : decode cX4_wordOf 0 = .ok (.iconst 1, 1) := dk_4 (dk_at dksX4_wordOf_0 0 rfl rfl)
theorem dX4_wordOf_1 : decode cX4_wordOf 1 = .ok (.istore_n 3, 1) := dk_62 (dk_at dksX4_wordOf_0 1 rfl rfl)
theorem dX4_wordOf_2 : decode cX4_wordOf 2 = .ok (.iconst 0, 1) := dk_3 (dk_at dksX4_wordOf_0 2 rfl rfl)
theorem dX4_wordOf_3 : decode cX4_wordOf 3 = .ok (.istore 4, 2) := dk_54 4 (dk_at dksX4_wordOf_0 3 rfl rfl)
theorem dX4_wordOf_5 : decode cX4_wordOf 5 = .ok (.iload 4, 2) := dk_21 4 (dk_at dksX4_wordOf_0 5 rfl rfl)
theorem dX4_wordOf_7 : decode cX4_wordOf 7 = .ok (.aload_n 0, 1) := dk_42 (dk_at dksX4_wordOf_0 7 rfl rfl)
theorem dX4_wordOf_8 : decode cX4_wordOf 8 = .ok (.getfield 30, 3) := dk_180 0 30 (dk_at dksX4_wordOf_0 8 rfl rfl)
theorem dX4_wordOf_11 : decode cX4_wordOf 11 = .ok (.arraylength, 1) := dk_190 (dk_at dksX4_wordOf_0 11 rfl rfl)
theorem dX4_wordOf_12 : decode cX4_wordOf 12 = .ok (.if_icmp .ge 114, 3) := dk_162 0 114 (dk_at dksX4_wordOf_0 12 rfl rfl)
theorem dX4_wordOf_15 : decode cX4_wordOf 15 = .ok (.iconst 0, 1) := dk_3 (dk_at dksX4_wordOf_0 15 rfl rfl)
theorem dX4_wordOf_16 : decode cX4_wordOf 16 = .ok (.istore 5, 2) := dk_54 5 (dk_at dksX4_wordOf_0 16 rfl rfl)
theorem dX4_wordOf_18 : decode cX4_wordOf 18 = .ok (.aload_n 0, 1) := dk_42 (dk_at dksX4_wordOf_0 18 rfl rfl)
theorem dX4_wordOf_19 : decode cX4_wordOf 19 = .ok (.getfield 30, 3) := dk_180 0 30 (dk_at dksX4_wordOf_0 19 rfl rfl)
theorem dX4_wordOf_22 : decode cX4_wordOf 22 = .ok (.iload 4, 2) := dk_21 4 (dk_at dksX4_wordOf_0 22 rfl rfl)
theorem dX4_wordOf_24 : decode cX4_wordOf 24 = .ok (.iload 5, 2) := dk_21 5 (dk_at dksX4_wordOf_1 0 rfl rfl)
theorem dX4_wordOf_26 : decode cX4_wordOf 26 = .ok (.iadd, 1) := dk_96 (dk_at dksX4_wordOf_1 2 rfl rfl)
theorem dX4_wordOf_27 : decode cX4_wordOf 27 = .ok (.baload, 1) := dk_51 (dk_at dksX4_wordOf_1 3 rfl rfl)
theorem dX4_wordOf_28 : decode cX4_wordOf 28 = .ok (.bipush 32, 2) := dk_16 32 (dk_at dksX4_wordOf_1 4 rfl rfl)
theorem dX4_wordOf_30 : decode cX4_wordOf 30 = .ok (.if_icmp .eq 9, 3) := dk_159 0 9 (dk_at dksX4_wordOf_1 6 rfl rfl)
theorem dX4_wordOf_33 : decode cX4_wordOf 33 = .ok (.iinc 5 1, 3) := dk_132 5 1 (dk_at dksX4_wordOf_1 9 rfl rfl)
theorem dX4_wordOf_36 : decode cX4_wordOf 36 = .ok (.goto (-18), 3) := dk_167 255 238 (dk_at dksX4_wordOf_1 12 rfl rfl)
theorem dX4_wordOf_39 : decode cX4_wordOf 39 = .ok (.iload 5, 2) := dk_21 5 (dk_at dksX4_wordOf_1 15 rfl rfl)
theorem dX4_wordOf_41 : decode cX4_wordOf 41 = .ok (.iload_n 2, 1) := dk_28 (dk_at dksX4_wordOf_1 17 rfl rfl)
theorem dX4_wordOf_42 : decode cX4_wordOf 42 = .ok (.iload_n 1, 1) := dk_27 (dk_at dksX4_wordOf_1 18 rfl rfl)
theorem dX4_wordOf_43 : decode cX4_wordOf 43 = .ok (.isub, 1) := dk_100 (dk_at dksX4_wordOf_1 19 rfl rfl)
theorem dX4_wordOf_44 : decode cX4_wordOf 44 = .ok (.if_icmp .ne 7, 3) := dk_160 0 7 (dk_at dksX4_wordOf_1 20 rfl rfl)
theorem dX4_wordOf_47 : decode cX4_wordOf 47 = .ok (.iconst 1, 1) := dk_4 (dk_at dksX4_wordOf_1 23 rfl rfl)
theorem dX4_wordOf_48 : decode cX4_wordOf 48 = .ok (.goto 4, 3) := dk_167 0 4 (dk_at dksX4_wordOf_2 0 rfl rfl)
theorem dX4_wordOf_51 : decode cX4_wordOf 51 = .ok (.iconst 0, 1) := dk_3 (dk_at dksX4_wordOf_2 3 rfl rfl)
theorem dX4_wordOf_52 : decode cX4_wordOf 52 = .ok (.istore 6, 2) := dk_54 6 (dk_at dksX4_wordOf_2 4 rfl rfl)
theorem dX4_wordOf_54 : decode cX4_wordOf 54 = .ok (.iconst 0, 1) := dk_3 (dk_at dksX4_wordOf_2 6 rfl rfl)
theorem dX4_wordOf_55 : decode cX4_wordOf 55 = .ok (.istore 7, 2) := dk_54 7 (dk_at dksX4_wordOf_2 7 rfl rfl)
theorem dX4_wordOf_57 : decode cX4_wordOf 57 = .ok (.iload 7, 2) := dk_21 7 (dk_at dksX4_wordOf_2 9 rfl rfl)
theorem dX4_wordOf_59 : decode cX4_wordOf 59 = .ok (.iload 5, 2) := dk_21 5 (dk_at dksX4_wordOf_2 11 rfl rfl)
theorem dX4_wordOf_61 : decode cX4_wordOf 61 = .ok (.if_icmp .ge 43, 3) := dk_162 0 43 (dk_at dksX4_wordOf_2 13 rfl rfl)
theorem dX4_wordOf_64 : decode cX4_wordOf 64 = .ok (.iload 6, 2) := dk_21 6 (dk_at dksX4_wordOf_2 16 rfl rfl)
theorem dX4_wordOf_66 : decode cX4_wordOf 66 = .ok (.ifCond .eq 38, 3) := dk_153 0 38 (dk_at dksX4_wordOf_2 18 rfl rfl)
theorem dX4_wordOf_69 : decode cX4_wordOf 69 = .ok (.aload_n 0, 1) := dk_42 (dk_at dksX4_wordOf_2 21 rfl rfl)
theorem dX4_wordOf_70 : decode cX4_wordOf 70 = .ok (.getfield 30, 3) := dk_180 0 30 (dk_at dksX4_wordOf_3 0 rfl rfl)
theorem dX4_wordOf_73 : decode cX4_wordOf 73 = .ok (.iload 4, 2) := dk_21 4 (dk_at dksX4_wordOf_3 3 rfl rfl)
theorem dX4_wordOf_75 : decode cX4_wordOf 75 = .ok (.iload 7, 2) := dk_21 7 (dk_at dksX4_wordOf_3 5 rfl rfl)
theorem dX4_wordOf_77 : decode cX4_wordOf 77 = .ok (.iadd, 1) := dk_96 (dk_at dksX4_wordOf_3 7 rfl rfl)
theorem dX4_wordOf_78 : decode cX4_wordOf 78 = .ok (.baload, 1) := dk_51 (dk_at dksX4_wordOf_3 8 rfl rfl)
theorem dX4_wordOf_79 : decode cX4_wordOf 79 = .ok (.aload_n 0, 1) := dk_42 (dk_at dksX4_wordOf_3 9 rfl rfl)
theorem dX4_wordOf_80 : decode cX4_wordOf 80 = .ok (.getfield 34, 3) := dk_180 0 34 (dk_at dksX4_wordOf_3 10 rfl rfl)
theorem dX4_wordOf_83 : decode cX4_wordOf 83 = .ok (.iload_n 1, 1) := dk_27 (dk_at dksX4_wordOf_3 13 rfl rfl)
theorem dX4_wordOf_84 : decode cX4_wordOf 84 = .ok (.iload 7, 2) := dk_21 7 (dk_at dksX4_wordOf_3 14 rfl rfl)
theorem dX4_wordOf_86 : decode cX4_wordOf 86 = .ok (.iadd, 1) := dk_96 (dk_at dksX4_wordOf_3 16 rfl rfl)
theorem dX4_wordOf_87 : decode cX4_wordOf 87 = .ok (.baload, 1) := dk_51 (dk_at dksX4_wordOf_3 17 rfl rfl)
theorem dX4_wordOf_88 : decode cX4_wordOf 88 = .ok (.if_icmp .ne 7, 3) := dk_160 0 7 (dk_at dksX4_wordOf_3 18 rfl rfl)
theorem dX4_wordOf_91 : decode cX4_wordOf 91 = .ok (.iconst 1, 1) := dk_4 (dk_at dksX4_wordOf_3 21 rfl rfl)
theorem dX4_wordOf_92 : decode cX4_wordOf 92 = .ok (.goto 4, 3) := dk_167 0 4 (dk_at dksX4_wordOf_4 0 rfl rfl)
theorem dX4_wordOf_95 : decode cX4_wordOf 95 = .ok (.iconst 0, 1) := dk_3 (dk_at dksX4_wordOf_4 3 rfl rfl)
theorem dX4_wordOf_96 : decode cX4_wordOf 96 = .ok (.istore 6, 2) := dk_54 6 (dk_at dksX4_wordOf_4 4 rfl rfl)
theorem dX4_wordOf_98 : decode cX4_wordOf 98 = .ok (.iinc 7 1, 3) := dk_132 7 1 (dk_at dksX4_wordOf_4 6 rfl rfl)
theorem dX4_wordOf_101 : decode cX4_wordOf 101 = .ok (.goto (-44), 3) := dk_167 255 212 (dk_at dksX4_wordOf_4 9 rfl rfl)
theorem dX4_wordOf_104 : decode cX4_wordOf 104 = .ok (.iload 6, 2) := dk_21 6 (dk_at dksX4_wordOf_4 12 rfl rfl)
theorem dX4_wordOf_106 : decode cX4_wordOf 106 = .ok (.ifCond .eq 5, 3) := dk_153 0 5 (dk_at dksX4_wordOf_4 14 rfl rfl)
theorem dX4_wordOf_109 : decode cX4_wordOf 109 = .ok (.iload_n 3, 1) := dk_29 (dk_at dksX4_wordOf_4 17 rfl rfl)
theorem dX4_wordOf_110 : decode cX4_wordOf 110 = .ok (.ireturn, 1) := dk_172 (dk_at dksX4_wordOf_4 18 rfl rfl)
theorem dX4_wordOf_111 : decode cX4_wordOf 111 = .ok (.iload 4, 2) := dk_21 4 (dk_at dksX4_wordOf_4 19 rfl rfl)
theorem dX4_wordOf_113 : decode cX4_wordOf 113 = .ok (.iload 5, 2) := dk_21 5 (dk_at dksX4_wordOf_4 21 rfl rfl)
theorem dX4_wordOf_115 : decode cX4_wordOf 115 = .ok (.iconst 1, 1) := dk_4 (dk_at dksX4_wordOf_4 23 rfl rfl)
theorem dX4_wordOf_116 : decode cX4_wordOf 116 = .ok (.iadd, 1) := dk_96 (dk_at dksX4_wordOf_5 0 rfl rfl)
theorem dX4_wordOf_117 : decode cX4_wordOf 117 = .ok (.iadd, 1) := dk_96 (dk_at dksX4_wordOf_5 1 rfl rfl)
theorem dX4_wordOf_118 : decode cX4_wordOf 118 = .ok (.istore 4, 2) := dk_54 4 (dk_at dksX4_wordOf_5 2 rfl rfl)
theorem dX4_wordOf_120 : decode cX4_wordOf 120 = .ok (.iinc 3 1, 3) := dk_132 3 1 (dk_at dksX4_wordOf_5 4 rfl rfl)
theorem dX4_wordOf_123 : decode cX4_wordOf 123 = .ok (.goto (-118), 3) := dk_167 255 138 (dk_at dksX4_wordOf_5 7 rfl rfl)
theorem dX4_wordOf_126 : decode cX4_wordOf 126 = .ok (.iconst 0, 1) := dk_3 (dk_at dksX4_wordOf_5 10 rfl rfl)
theorem dX4_wordOf_127 : decode cX4_wordOf 127 = .ok (.ireturn, 1) := dk_172 (dk_at dksX4_wordOf_5 11 rfl rfl)
abbrev cX4_readClause : ByteArray := prog_29_method_32_code
def yX4_readClause : MethodName := ⟨RX4, "readClause", "()V"⟩
def dkwX4_readClause_1 : List UInt8 := [182, 0, 209, 42, 7, 182, 0, 196, 153, 0, 8, 42, 3, 182, 0, 212, 177]
abbrev dktX4_readClause_1 : List UInt8 := dkwX4_readClause_1 ++ []
def dkwX4_readClause_0 : List UInt8 := [42, 4, 182, 0, 196, 154, 0, 16, 42, 5, 182, 0, 196, 154, 0, 8, 42, 6, 182, 0, 205, 42, 3]
abbrev dktX4_readClause_0 : List UInt8 := dkwX4_readClause_0 ++ dktX4_readClause_1
theorem dksX4_readClause_0 : cX4_readClause.data.toList.drop 0 = dktX4_readClause_0 := by decide +kernel
theorem dksX4_readClause_1 : cX4_readClause.data.toList.drop 23 = dktX4_readClause_1 := dk_seg dksX4_readClause_0 23 rfl rfl
theorem dX4_readClause_0 : decode cX4_readClause 0 = .ok (.aload_n 0, 1) := dk_42 (dk_at dksX4_readClause_0 0 rfl rfl)
theorem dX4_readClause_1 : decode cX4_readClause 1 = .ok (.iconst 1, 1) := dk_4 (dk_at dksX4_readClause_0 1 rfl rfl)
theorem dX4_readClause_2 : decode cX4_readClause 2 = .ok (.invokevirtual 196, 3) := dk_182 0 196 (dk_at dksX4_readClause_0 2 rfl rfl)
theorem dX4_readClause_5 : decode cX4_readClause 5 = .ok (.ifCond .ne 16, 3) := dk_154 0 16 (dk_at dksX4_readClause_0 5 rfl rfl)
theorem dX4_readClause_8 : decode cX4_readClause 8 = .ok (.aload_n 0, 1) := dk_42 (dk_at dksX4_readClause_0 8 rfl rfl)
theorem dX4_readClause_9 : decode cX4_readClause 9 = .ok (.iconst 2, 1) := dk_5 (dk_at dksX4_readClause_0 9 rfl rfl)
theorem dX4_readClause_10 : decode cX4_readClause 10 = .ok (.invokevirtual 196, 3) := dk_182 0 196 (dk_at dksX4_readClause_0 10 rfl rfl)
theorem dX4_readClause_13 : decode cX4_readClause 13 = .ok (.ifCond .ne 8, 3) := dk_154 0 8 (dk_at dksX4_readClause_0 13 rfl rfl)
theorem dX4_readClause_16 : decode cX4_readClause 16 = .ok (.aload_n 0, 1) := dk_42 (dk_at dksX4_readClause_0 16 rfl rfl)
theorem dX4_readClause_17 : decode cX4_readClause 17 = .ok (.iconst 3, 1) := dk_6 (dk_at dksX4_readClause_0 17 rfl rfl)
theorem dX4_readClause_18 : decode cX4_readClause 18 = .ok (.invokevirtual 205, 3) := dk_182 0 205 (dk_at dksX4_readClause_0 18 rfl rfl)
theorem dX4_readClause_21 : decode cX4_readClause 21 = .ok (.aload_n 0, 1) := dk_42 (dk_at dksX4_readClause_0 21 rfl rfl)
theorem dX4_readClause_22 : decode cX4_readClause 22 = .ok (.iconst 0, 1) := dk_3 (dk_at dksX4_readClause_0 22 rfl rfl)
theorem dX4_readClause_23 : decode cX4_readClause 23 = .ok (.invokevirtual 209, 3) := dk_182 0 209 (dk_at dksX4_readClause_1 0 rfl rfl)
theorem dX4_readClause_26 : decode cX4_readClause 26 = .ok (.aload_n 0, 1) := dk_42 (dk_at dksX4_readClause_1 3 rfl rfl)
theorem dX4_readClause_27 : decode cX4_readClause 27 = .ok (.iconst 4, 1) := dk_7 (dk_at dksX4_readClause_1 4 rfl rfl)
theorem dX4_readClause_28 : decode cX4_readClause 28 = .ok (.invokevirtual 196, 3) := dk_182 0 196 (dk_at dksX4_readClause_1 5 rfl rfl)
theorem dX4_readClause_31 : decode cX4_readClause 31 = .ok (.ifCond .eq 8, 3) := dk_153 0 8 (dk_at dksX4_readClause_1 8 rfl rfl)
theorem dX4_readClause_34 : decode cX4_readClause 34 = .ok (.aload_n 0, 1) := dk_42 (dk_at dksX4_readClause_1 11 rfl rfl)
theorem dX4_readClause_35 : decode cX4_readClause 35 = .ok (.iconst 0, 1) := dk_3 (dk_at dksX4_readClause_1 12 rfl rfl)
theorem dX4_readClause_36 : decode cX4_readClause 36 = .ok (.invokevirtual 212, 3) := dk_182 0 212 (dk_at dksX4_readClause_1 13 rfl rfl)
theorem dX4_readClause_39 : decode cX4_readClause 39 = .ok (.return_, 1) := dk_177 (dk_at dksX4_readClause_1 16 rfl rfl)
abbrev cX4_takes0 : ByteArray := prog_29_method_28_code
def yX4_takes0 : MethodName := ⟨RX4, "takes0", "(I)Z"⟩
def dkwX4_takes0_1 : List UInt8 := [3, 61, 28, 153, 0, 13, 42, 89, 180, 0, 193, 4, 96, 181, 0, 193, 28, 172]
abbrev dktX4_takes0_1 : List UInt8 := dkwX4_takes0_1 ++ []
def dkwX4_takes0_0 : List UInt8 := [42, 182, 0, 189, 153, 0, 20, 42, 180, 0, 43, 42, 180, 0, 193, 46, 27, 160, 0, 7, 4, 167, 0, 4]
abbrev dktX4_takes0_0 : List UInt8 := dkwX4_takes0_0 ++ dktX4_takes0_1
theorem dksX4_takes0_0 : cX4_takes0.data.toList.drop 0 = dktX4_takes0_0 := by decide +kernel
theorem dksX4_takes0_1 : cX4_takes0.data.toList.drop 24 = dktX4_takes0_1 := dk_seg dksX4_takes0_0 24 rfl rfl
theorem dX4_takes0_0 : decode cX4_takes0 0 = .ok (.aload_n 0, 1) := dk_42 (dk_at dksX4_takes0_0 0 rfl rfl)
theorem dX4_takes0_1 : decode cX4_takes0 1 = .ok (.invokevirtual 189, 3) := dk_182 0 189 (dk_at dksX4_takes0_0 1 rfl rfl)
theorem dX4_takes0_4 : decode cX4_takes0 4 = .ok (.ifCond .eq 20, 3) := dk_153 0 20 (dk_at dksX4_takes0_0 4 rfl rfl)
theorem dX4_takes0_7 : decode cX4_takes0 7 = .ok (.aload_n 0, 1) := dk_42 (dk_at dksX4_takes0_0 7 rfl rfl)
theorem dX4_takes0_8 : decode cX4_takes0 8 = .ok (.getfield 43, 3) := dk_180 0 43 (dk_at dksX4_takes0_0 8 rfl rfl)
theorem dX4_takes0_11 : decode cX4_takes0 11 = .ok (.aload_n 0, 1) := dk_42 (dk_at dksX4_takes0_0 11 rfl rfl)
theorem dX4_takes0_12 : decode cX4_takes0 12 = .ok (.getfield 193, 3) := dk_180 0 193 (dk_at dksX4_takes0_0 12 rfl rfl)
theorem dX4_takes0_15 : decode cX4_takes0 15 = .ok (.iaload, 1) := dk_46 (dk_at dksX4_takes0_0 15 rfl rfl)
theorem dX4_takes0_16 : decode cX4_takes0 16 = .ok (.iload_n 1, 1) := dk_27 (dk_at dksX4_takes0_0 16 rfl rfl)
theorem dX4_takes0_17 : decode cX4_takes0 17 = .ok (.if_icmp .ne 7, 3) := dk_160 0 7 (dk_at dksX4_takes0_0 17 rfl rfl)
theorem dX4_takes0_20 : decode cX4_takes0 20 = .ok (.iconst 1, 1) := dk_4 (dk_at dksX4_takes0_0 20 rfl rfl)
theorem dX4_takes0_21 : decode cX4_takes0 21 = .ok (.goto 4, 3) := dk_167 0 4 (dk_at dksX4_takes0_0 21 rfl rfl)
theorem dX4_takes0_24 : decode cX4_takes0 24 = .ok (.iconst 0, 1) := dk_3 (dk_at dksX4_takes0_1 0 rfl rfl)
theorem dX4_takes0_25 : decode cX4_takes0 25 = .ok (.istore_n 2, 1) := dk_61 (dk_at dksX4_takes0_1 1 rfl rfl)
theorem dX4_takes0_26 : decode cX4_takes0 26 = .ok (.iload_n 2, 1) := dk_28 (dk_at dksX4_takes0_1 2 rfl rfl)
theorem dX4_takes0_27 : decode cX4_takes0 27 = .ok (.ifCond .eq 13, 3) := dk_153 0 13 (dk_at dksX4_takes0_1 3 rfl rfl)
theorem dX4_takes0_30 : decode cX4_takes0 30 = .ok (.aload_n 0, 1) := dk_42 (dk_at dksX4_takes0_1 6 rfl rfl)
theorem dX4_takes0_31 : decode cX4_takes0 31 = .ok (.dup, 1) := dk_89 (dk_at dksX4_takes0_1 7 rfl rfl)
theorem dX4_takes0_32 : decode cX4_takes0 32 = .ok (.getfield 193, 3) := dk_180 0 193 (dk_at dksX4_takes0_1 8 rfl rfl)
theorem dX4_takes0_35 : decode cX4_takes0 35 = .ok (.iconst 1, 1) := dk_4 (dk_at dksX4_takes0_1 11 rfl rfl)
theorem dX4_takes0_36 : decode cX4_takes0 36 = .ok (.iadd, 1) := dk_96 (dk_at dksX4_takes0_1 12 rfl rfl)
theorem dX4_takes0_37 : decode cX4_takes0 37 = .ok (.putfield 193, 3) := dk_181 0 193 (dk_at dksX4_takes0_1 13 rfl rfl)
theorem dX4_takes0_40 : decode cX4_takes0 40 = .ok (.iload_n 2, 1) := dk_28 (dk_at dksX4_takes0_1 16 rfl rfl)
theorem dX4_takes0_41 : decode cX4_takes0 41 = .ok (.ireturn, 1) := dk_172 (dk_at dksX4_takes0_1 17 rfl rfl)
abbrev cX4_fine : ByteArray := prog_29_method_26_code
def yX4_fine : MethodName := ⟨RX4, "fine", "()Z"⟩
def dkwX4_fine_0 : List UInt8 := [42, 180, 0, 186, 2, 160, 0, 7, 4, 167, 0, 4, 3, 172]
abbrev dktX4_fine_0 : List UInt8 := dkwX4_fine_0 ++ []
theorem dksX4_fine_0 : cX4_fine.data.toList.drop 0 = dktX4_fine_0 := by decide +kernel
theorem dX4_fine_0 : decode cX4_fine 0 = .ok (.aload_n 0, 1) := dk_42 (dk_at dksX4_fine_0 0 rfl rfl)
theorem dX4_fine_1 : decode cX4_fine 1 = .ok (.getfield 186, 3) := dk_180 0 186 (dk_at dksX4_fine_0 1 rfl rfl)
theorem dX4_fine_4 : decode cX4_fine 4 = .ok (.iconst (-1), 1) := dk_2 (dk_at dksX4_fine_0 4 rfl rfl)
theorem dX4_fine_5 : decode cX4_fine 5 = .ok (.if_icmp .ne 7, 3) := dk_160 0 7 (dk_at dksX4_fine_0 5 rfl rfl)
theorem dX4_fine_8 : decode cX4_fine 8 = .ok (.iconst 1, 1) := dk_4 (dk_at dksX4_fine_0 8 rfl rfl)
theorem dX4_fine_9 : decode cX4_fine 9 = .ok (.goto 4, 3) := dk_167 0 4 (dk_at dksX4_fine_0 9 rfl rfl)
theorem dX4_fine_12 : decode cX4_fine 12 = .ok (.iconst 0, 1) := dk_3 (dk_at dksX4_fine_0 12 rfl rfl)
theorem dX4_fine_13 : decode cX4_fine 13 = .ok (.ireturn, 1) := dk_172 (dk_at dksX4_fine_0 13 rfl rfl)
abbrev cX4_must : ByteArray := prog_29_method_29_code
def yX4_must : MethodName := ⟨RX4, "must", "(I)V"⟩
def dkwX4_must_0 : List UInt8 := [42, 27, 182, 0, 196, 154, 0, 7, 42, 182, 0, 199, 177]
abbrev dktX4_must_0 : List UInt8 := dkwX4_must_0 ++ []
theorem dksX4_must_0 : cX4_must.data.toList.drop 0 = dktX4_must_0 := by decide +kernel
theorem dX4_must_0 : decode cX4_must 0 = .ok (.aload_n 0, 1) := dk_42 (dk_at dksX4_must_0 0 rfl rfl)
theorem dX4_must_1 : decode cX4_must 1 = .ok (.iload_n 1, 1) := dk_27 (dk_at dksX4_must_0 1 rfl rfl)
theorem dX4_must_2 : decode cX4_must 2 = .ok (.invokevirtual 196, 3) := dk_182 0 196 (dk_at dksX4_must_0 2 rfl rfl)
theorem dX4_must_5 : decode cX4_must 5 = .ok (.ifCond .ne 7, 3) := dk_154 0 7 (dk_at dksX4_must_0 5 rfl rfl)
theorem dX4_must_8 : decode cX4_must 8 = .ok (.aload_n 0, 1) := dk_42 (dk_at dksX4_must_0 8 rfl rfl)
theorem dX4_must_9 : decode cX4_must 9 = .ok (.invokevirtual 199, 3) := dk_182 0 199 (dk_at dksX4_must_0 9 rfl rfl)
theorem dX4_must_12 : decode cX4_must 12 = .ok (.return_, 1) := dk_177 (dk_at dksX4_must_0 12 rfl rfl)
abbrev cX4_faults : ByteArray := prog_29_method_27_code
def yX4_faults : MethodName := ⟨RX4, "faults", "()V"⟩
def dkwX4_faults_0 : List UInt8 := [42, 182, 0, 189, 153, 0, 16, 42, 42, 180, 0, 49, 42, 180, 0, 193, 46, 181, 0, 186, 177]
abbrev dktX4_faults_0 : List UInt8 := dkwX4_faults_0 ++ []
theorem dksX4_faults_0 : cX4_faults.data.toList.drop 0 = dktX4_faults_0 := by decide +kernel
theorem dX4_faults_0 : decode cX4_faults 0 = .ok (.aload_n 0, 1) := dk_42 (dk_at dksX4_faults_0 0 rfl rfl)
theorem dX4_faults_1 : decode cX4_faults 1 = .ok (.invokevirtual 189, 3) := dk_182 0 189 (dk_at dksX4_faults_0 1 rfl rfl)
theorem dX4_faults_4 : decode cX4_faults 4 = .ok (.ifCond .eq 16, 3) := dk_153 0 16 (dk_at dksX4_faults_0 4 rfl rfl)
theorem dX4_faults_7 : decode cX4_faults 7 = .ok (.aload_n 0, 1) := dk_42 (dk_at dksX4_faults_0 7 rfl rfl)
theorem dX4_faults_8 : decode cX4_faults 8 = .ok (.aload_n 0, 1) := dk_42 (dk_at dksX4_faults_0 8 rfl rfl)
theorem dX4_faults_9 : decode cX4_faults 9 = .ok (.getfield 49, 3) := dk_180 0 49 (dk_at dksX4_faults_0 9 rfl rfl)
theorem dX4_faults_12 : decode cX4_faults 12 = .ok (.aload_n 0, 1) := dk_42 (dk_at dksX4_faults_0 12 rfl rfl)
theorem dX4_faults_13 : decode cX4_faults 13 = .ok (.getfield 193, 3) := dk_180 0 193 (dk_at dksX4_faults_0 13 rfl rfl)
theorem dX4_faults_16 : decode cX4_faults 16 = .ok (.iaload, 1) := dk_46 (dk_at dksX4_faults_0 16 rfl rfl)
theorem dX4_faults_17 : decode cX4_faults 17 = .ok (.putfield 186, 3) := dk_181 0 186 (dk_at dksX4_faults_0 17 rfl rfl)
theorem dX4_faults_20 : decode cX4_faults 20 = .ok (.return_, 1) := dk_177 (dk_at dksX4_faults_0 20 rfl rfl)
abbrev cX4_readSum : ByteArray := prog_29_method_36_code
def yX4_readSum : MethodName := ⟨RX4, "readSum", "(I)V"⟩
def dkwX4_readSum_1 : List UInt8 := [182, 0, 196, 153, 0, 11, 42, 27, 182, 0, 225, 167, 255, 227, 177]
abbrev dktX4_readSum_1 : List UInt8 := dkwX4_readSum_1 ++ []
def dkwX4_readSum_0 : List UInt8 := [42, 27, 182, 0, 225, 42, 16, 43, 184, 0, 221, 182, 0, 196, 154, 0, 15, 42, 16, 45, 184, 0, 221]
abbrev dktX4_readSum_0 : List UInt8 := dkwX4_readSum_0 ++ dktX4_readSum_1
theorem dksX4_readSum_0 : cX4_readSum.data.toList.drop 0 = dktX4_readSum_0 := by decide +kernel
theorem dksX4_readSum_1 : cX4_readSum.data.toList.drop 23 = dktX4_readSum_1 := dk_seg dksX4_readSum_0 23 rfl rfl
theorem dX4_readSum_0 : decode cX4_readSum 0 = .ok (.aload_n 0, 1) := dk_42 (dk_at dksX4_readSum_0 0 rfl rfl)
theorem dX4_readSum_1 : decode cX4_readSum 1 = .ok (.iload_n 1, 1) := dk_27 (dk_at dksX4_readSum_0 1 rfl rfl)
theorem dX4_readSum_2 : decode cX4_readSum 2 = .ok (.invokevirtual 225, 3) := dk_182 0 225 (dk_at dksX4_readSum_0 2 rfl rfl)
theorem dX4_readSum_5 : decode cX4_readSum 5 = .ok (.aload_n 0, 1) := dk_42 (dk_at dksX4_readSum_0 5 rfl rfl)
theorem dX4_readSum_6 : decode cX4_readSum 6 = .ok (.bipush 43, 2) := dk_16 43 (dk_at dksX4_readSum_0 6 rfl rfl)
theorem dX4_readSum_8 : decode cX4_readSum 8 = .ok (.invokestatic 221, 3) := dk_184 0 221 (dk_at dksX4_readSum_0 8 rfl rfl)
theorem dX4_readSum_11 : decode cX4_readSum 11 = .ok (.invokevirtual 196, 3) := dk_182 0 196 (dk_at dksX4_readSum_0 11 rfl rfl)
theorem dX4_readSum_14 : decode cX4_readSum 14 = .ok (.ifCond .ne 15, 3) := dk_154 0 15 (dk_at dksX4_readSum_0 14 rfl rfl)
theorem dX4_readSum_17 : decode cX4_readSum 17 = .ok (.aload_n 0, 1) := dk_42 (dk_at dksX4_readSum_0 17 rfl rfl)
theorem dX4_readSum_18 : decode cX4_readSum 18 = .ok (.bipush 45, 2) := dk_16 45 (dk_at dksX4_readSum_0 18 rfl rfl)
theorem dX4_readSum_20 : decode cX4_readSum 20 = .ok (.invokestatic 221, 3) := dk_184 0 221 (dk_at dksX4_readSum_0 20 rfl rfl)
theorem dX4_readSum_23 : decode cX4_readSum 23 = .ok (.invokevirtual 196, 3) := dk_182 0 196 (dk_at dksX4_readSum_1 0 rfl rfl)
theorem dX4_readSum_26 : decode cX4_readSum 26 = .ok (.ifCond .eq 11, 3) := dk_153 0 11 (dk_at dksX4_readSum_1 3 rfl rfl)
theorem dX4_readSum_29 : decode cX4_readSum 29 = .ok (.aload_n 0, 1) := dk_42 (dk_at dksX4_readSum_1 6 rfl rfl)
theorem dX4_readSum_30 : decode cX4_readSum 30 = .ok (.iload_n 1, 1) := dk_27 (dk_at dksX4_readSum_1 7 rfl rfl)
theorem dX4_readSum_31 : decode cX4_readSum 31 = .ok (.invokevirtual 225, 3) := dk_182 0 225 (dk_at dksX4_readSum_1 8 rfl rfl)
theorem dX4_readSum_34 : decode cX4_readSum 34 = .ok (.goto (-29), 3) := dk_167 255 227 (dk_at dksX4_readSum_1 11 rfl rfl)
theorem dX4_readSum_37 : decode cX4_readSum 37 = .ok (.return_, 1) := dk_177 (dk_at dksX4_readSum_1 14 rfl rfl)
abbrev cX4_readTerm : ByteArray := prog_29_method_37_code
def yX4_readTerm : MethodName := ⟨RX4, "readTerm", "(I)V"⟩
def dkwX4_readTerm_1 : List UInt8 := [182, 0, 196, 153, 0, 11, 42, 27, 182, 0, 228, 167, 255, 227, 177]
abbrev dktX4_readTerm_1 : List UInt8 := dkwX4_readTerm_1 ++ []
def dkwX4_readTerm_0 : List UInt8 := [42, 27, 182, 0, 228, 42, 16, 42, 184, 0, 221, 182, 0, 196, 154, 0, 15, 42, 16, 47, 184, 0, 221]
abbrev dktX4_readTerm_0 : List UInt8 := dkwX4_readTerm_0 ++ dktX4_readTerm_1
theorem dksX4_readTerm_0 : cX4_readTerm.data.toList.drop 0 = dktX4_readTerm_0 := by decide +kernel
theorem dksX4_readTerm_1 : cX4_readTerm.data.toList.drop 23 = dktX4_readTerm_1 := dk_seg dksX4_readTerm_0 23 rfl rfl
theorem dX4_readTerm_0 : decode cX4_readTerm 0 = .ok (.aload_n 0, 1) := dk_42 (dk_at dksX4_readTerm_0 0 rfl rfl)
theorem dX4_readTerm_1 : decode cX4_readTerm 1 = .ok (.iload_n 1, 1) := dk_27 (dk_at dksX4_readTerm_0 1 rfl rfl)
theorem dX4_readTerm_2 : decode cX4_readTerm 2 = .ok (.invokevirtual 228, 3) := dk_182 0 228 (dk_at dksX4_readTerm_0 2 rfl rfl)
theorem dX4_readTerm_5 : decode cX4_readTerm 5 = .ok (.aload_n 0, 1) := dk_42 (dk_at dksX4_readTerm_0 5 rfl rfl)
theorem dX4_readTerm_6 : decode cX4_readTerm 6 = .ok (.bipush 42, 2) := dk_16 42 (dk_at dksX4_readTerm_0 6 rfl rfl)
theorem dX4_readTerm_8 : decode cX4_readTerm 8 = .ok (.invokestatic 221, 3) := dk_184 0 221 (dk_at dksX4_readTerm_0 8 rfl rfl)
theorem dX4_readTerm_11 : decode cX4_readTerm 11 = .ok (.invokevirtual 196, 3) := dk_182 0 196 (dk_at dksX4_readTerm_0 11 rfl rfl)
theorem dX4_readTerm_14 : decode cX4_readTerm 14 = .ok (.ifCond .ne 15, 3) := dk_154 0 15 (dk_at dksX4_readTerm_0 14 rfl rfl)
theorem dX4_readTerm_17 : decode cX4_readTerm 17 = .ok (.aload_n 0, 1) := dk_42 (dk_at dksX4_readTerm_0 17 rfl rfl)
theorem dX4_readTerm_18 : decode cX4_readTerm 18 = .ok (.bipush 47, 2) := dk_16 47 (dk_at dksX4_readTerm_0 18 rfl rfl)
theorem dX4_readTerm_20 : decode cX4_readTerm 20 = .ok (.invokestatic 221, 3) := dk_184 0 221 (dk_at dksX4_readTerm_0 20 rfl rfl)
theorem dX4_readTerm_23 : decode cX4_readTerm 23 = .ok (.invokevirtual 196, 3) := dk_182 0 196 (dk_at dksX4_readTerm_1 0 rfl rfl)
theorem dX4_readTerm_26 : decode cX4_readTerm 26 = .ok (.ifCond .eq 11, 3) := dk_153 0 11 (dk_at dksX4_readTerm_1 3 rfl rfl)
theorem dX4_readTerm_29 : decode cX4_readTerm 29 = .ok (.aload_n 0, 1) := dk_42 (dk_at dksX4_readTerm_1 6 rfl rfl)
theorem dX4_readTerm_30 : decode cX4_readTerm 30 = .ok (.iload_n 1, 1) := dk_27 (dk_at dksX4_readTerm_1 7 rfl rfl)
theorem dX4_readTerm_31 : decode cX4_readTerm 31 = .ok (.invokevirtual 228, 3) := dk_182 0 228 (dk_at dksX4_readTerm_1 8 rfl rfl)
theorem dX4_readTerm_34 : decode cX4_readTerm 34 = .ok (.goto (-29), 3) := dk_167 255 227 (dk_at dksX4_readTerm_1 11 rfl rfl)
theorem dX4_readTerm_37 : decode cX4_readTerm 37 = .ok (.return_, 1) := dk_177 (dk_at dksX4_readTerm_1 14 rfl rfl)
abbrev cX4_readPart : ByteArray := prog_29_method_38_code
def yX4_readPart : MethodName := ⟨RX4, "readPart", "(I)V"⟩
def dkwX4_readPart_4 : List UInt8 := [28, 16, 8, 161, 0, 16, 28, 16, 14, 163, 0, 10, 42, 182, 0, 231, 167, 0, 7, 42, 182, 0, 199, 177]
abbrev dktX4_readPart_4 : List UInt8 := dkwX4_readPart_4 ++ []
def dkwX4_readPart_3 : List UInt8 := [167, 0, 47, 28, 16, 50, 160, 0, 18, 42, 180, 0, 46, 42, 180, 0, 193, 46, 17, 3, 232, 164, 0, 15]
abbrev dktX4_readPart_3 : List UInt8 := dkwX4_readPart_3 ++ dktX4_readPart_4
def dkwX4_readPart_2 : List UInt8 := [180, 0, 193, 4, 96, 181, 0, 193, 42, 27, 4, 96, 182, 0, 209, 42, 16, 93, 184, 0, 221, 182, 0, 205]
abbrev dktX4_readPart_2 : List UInt8 := dkwX4_readPart_2 ++ dktX4_readPart_3
def dkwX4_readPart_1 : List UInt8 := [160, 0, 50, 27, 16, 8, 160, 0, 7, 42, 182, 0, 199, 42, 182, 0, 189, 154, 0, 4, 177, 42, 89]
abbrev dktX4_readPart_1 : List UInt8 := dkwX4_readPart_1 ++ dktX4_readPart_2
def dkwX4_readPart_0 : List UInt8 := [42, 182, 0, 189, 154, 0, 4, 177, 42, 180, 0, 43, 42, 180, 0, 193, 46, 61, 28, 16, 91, 184, 0, 221]
abbrev dktX4_readPart_0 : List UInt8 := dkwX4_readPart_0 ++ dktX4_readPart_1
theorem dksX4_readPart_0 : cX4_readPart.data.toList.drop 0 = dktX4_readPart_0 := by decide +kernel
theorem dksX4_readPart_1 : cX4_readPart.data.toList.drop 24 = dktX4_readPart_1 := dk_seg dksX4_readPart_0 24 rfl rfl
theorem dksX4_readPart_2 : cX4_readPart.data.toList.drop 47 = dktX4_readPart_2 := dk_seg dksX4_readPart_1 23 rfl rfl
theorem dksX4_readPart_3 : cX4_readPart.data.toList.drop 71 = dktX4_readPart_3 := dk_seg dksX4_readPart_2 24 rfl rfl
theorem dksX4_readPart_4 : cX4_readPart.data.toList.drop 95 = dktX4_readPart_4 := dk_seg dksX4_readPart_3 24 rfl rfl
theorem dX4_readPart_0 : decode cX4_readPart 0 = .ok (.aload_n 0, 1) := dk_42 (dk_at dksX4_readPart_0 0 rfl rfl)
theorem dX4_readPart_1 : decode cX4_readPart 1 = .ok (.invokevirtual 189, 3) := dk_182 0 189 (dk_at dksX4_readPart_0 1 rfl rfl)
theorem dX4_readPart_4 : decode cX4_readPart 4 = .ok (.ifCond .ne 4, 3) := dk_154 0 4 (dk_at dksX4_readPart_0 4 rfl rfl)
theorem dX4_readPart_7 : decode cX4_readPart 7 = .ok (.return_, 1) := dk_177 (dk_at dksX4_readPart_0 7 rfl rfl)
theorem dX4_readPart_8 : decode cX4_readPart 8 = .ok (.aload_n 0, 1) := dk_42 (dk_at dksX4_readPart_0 8 rfl rfl)
theorem dX4_readPart_9 : decode cX4_readPart 9 = .ok (.getfield 43, 3) := dk_180 0 43 (dk_at dksX4_readPart_0 9 rfl rfl)
theorem dX4_readPart_12 : decode cX4_readPart 12 = .ok (.aload_n 0, 1) := dk_42 (dk_at dksX4_readPart_0 12 rfl rfl)
theorem dX4_readPart_13 : decode cX4_readPart 13 = .ok (.getfield 193, 3) := dk_180 0 193 (dk_at dksX4_readPart_0 13 rfl rfl)
theorem dX4_readPart_16 : decode cX4_readPart 16 = .ok (.iaload, 1) := dk_46 (dk_at dksX4_readPart_0 16 rfl rfl)
theorem dX4_readPart_17 : decode cX4_readPart 17 = .ok (.istore_n 2, 1) := dk_61 (dk_at dksX4_readPart_0 17 rfl rfl)
theorem dX4_readPart_18 : decode cX4_readPart 18 = .ok (.iload_n 2, 1) := dk_28 (dk_at dksX4_readPart_0 18 rfl rfl)
theorem dX4_readPart_19 : decode cX4_readPart 19 = .ok (.bipush 91, 2) := dk_16 91 (dk_at dksX4_readPart_0 19 rfl rfl)
theorem dX4_readPart_21 : decode cX4_readPart 21 = .ok (.invokestatic 221, 3) := dk_184 0 221 (dk_at dksX4_readPart_0 21 rfl rfl)
theorem dX4_readPart_24 : decode cX4_readPart 24 = .ok (.if_icmp .ne 50, 3) := dk_160 0 50 (dk_at dksX4_readPart_1 0 rfl rfl)
theorem dX4_readPart_27 : decode cX4_readPart 27 = .ok (.iload_n 1, 1) := dk_27 (dk_at dksX4_readPart_1 3 rfl rfl)
theorem dX4_readPart_28 : decode cX4_readPart 28 = .ok (.bipush 8, 2) := dk_16 8 (dk_at dksX4_readPart_1 4 rfl rfl)
theorem dX4_readPart_30 : decode cX4_readPart 30 = .ok (.if_icmp .ne 7, 3) := dk_160 0 7 (dk_at dksX4_readPart_1 6 rfl rfl)
theorem dX4_readPart_33 : decode cX4_readPart 33 = .ok (.aload_n 0, 1) := dk_42 (dk_at dksX4_readPart_1 9 rfl rfl)
theorem dX4_readPart_34 : decode cX4_readPart 34 = .ok (.invokevirtual 199, 3) := dk_182 0 199 (dk_at dksX4_readPart_1 10 rfl rfl)
theorem dX4_readPart_37 : decode cX4_readPart 37 = .ok (.aload_n 0, 1) := dk_42 (dk_at dksX4_readPart_1 13 rfl rfl)
theorem dX4_readPart_38 : decode cX4_readPart 38 = .ok (.invokevirtual 189, 3) := dk_182 0 189 (dk_at dksX4_readPart_1 14 rfl rfl)
theorem dX4_readPart_41 : decode cX4_readPart 41 = .ok (.ifCond .ne 4, 3) := dk_154 0 4 (dk_at dksX4_readPart_1 17 rfl rfl)
theorem dX4_readPart_44 : decode cX4_readPart 44 = .ok (.return_, 1) := dk_177 (dk_at dksX4_readPart_1 20 rfl rfl)
theorem dX4_readPart_45 : decode cX4_readPart 45 = .ok (.aload_n 0, 1) := dk_42 (dk_at dksX4_readPart_1 21 rfl rfl)
theorem dX4_readPart_46 : decode cX4_readPart 46 = .ok (.dup, 1) := dk_89 (dk_at dksX4_readPart_1 22 rfl rfl)
theorem dX4_readPart_47 : decode cX4_readPart 47 = .ok (.getfield 193, 3) := dk_180 0 193 (dk_at dksX4_readPart_2 0 rfl rfl)
theorem dX4_readPart_50 : decode cX4_readPart 50 = .ok (.iconst 1, 1) := dk_4 (dk_at dksX4_readPart_2 3 rfl rfl)
theorem dX4_readPart_51 : decode cX4_readPart 51 = .ok (.iadd, 1) := dk_96 (dk_at dksX4_readPart_2 4 rfl rfl)
theorem dX4_readPart_52 : decode cX4_readPart 52 = .ok (.putfield 193, 3) := dk_181 0 193 (dk_at dksX4_readPart_2 5 rfl rfl)
theorem dX4_readPart_55 : decode cX4_readPart 55 = .ok (.aload_n 0, 1) := dk_42 (dk_at dksX4_readPart_2 8 rfl rfl)
theorem dX4_readPart_56 : decode cX4_readPart 56 = .ok (.iload_n 1, 1) := dk_27 (dk_at dksX4_readPart_2 9 rfl rfl)
theorem dX4_readPart_57 : decode cX4_readPart 57 = .ok (.iconst 1, 1) := dk_4 (dk_at dksX4_readPart_2 10 rfl rfl)
theorem dX4_readPart_58 : decode cX4_readPart 58 = .ok (.iadd, 1) := dk_96 (dk_at dksX4_readPart_2 11 rfl rfl)
theorem dX4_readPart_59 : decode cX4_readPart 59 = .ok (.invokevirtual 209, 3) := dk_182 0 209 (dk_at dksX4_readPart_2 12 rfl rfl)
theorem dX4_readPart_62 : decode cX4_readPart 62 = .ok (.aload_n 0, 1) := dk_42 (dk_at dksX4_readPart_2 15 rfl rfl)
theorem dX4_readPart_63 : decode cX4_readPart 63 = .ok (.bipush 93, 2) := dk_16 93 (dk_at dksX4_readPart_2 16 rfl rfl)
theorem dX4_readPart_65 : decode cX4_readPart 65 = .ok (.invokestatic 221, 3) := dk_184 0 221 (dk_at dksX4_readPart_2 18 rfl rfl)
theorem dX4_readPart_68 : decode cX4_readPart 68 = .ok (.invokevirtual 205, 3) := dk_182 0 205 (dk_at dksX4_readPart_2 21 rfl rfl)
theorem dX4_readPart_71 : decode cX4_readPart 71 = .ok (.goto 47, 3) := dk_167 0 47 (dk_at dksX4_readPart_3 0 rfl rfl)
theorem dX4_readPart_74 : decode cX4_readPart 74 = .ok (.iload_n 2, 1) := dk_28 (dk_at dksX4_readPart_3 3 rfl rfl)
theorem dX4_readPart_75 : decode cX4_readPart 75 = .ok (.bipush 50, 2) := dk_16 50 (dk_at dksX4_readPart_3 4 rfl rfl)
theorem dX4_readPart_77 : decode cX4_readPart 77 = .ok (.if_icmp .ne 18, 3) := dk_160 0 18 (dk_at dksX4_readPart_3 6 rfl rfl)
theorem dX4_readPart_80 : decode cX4_readPart 80 = .ok (.aload_n 0, 1) := dk_42 (dk_at dksX4_readPart_3 9 rfl rfl)
theorem dX4_readPart_81 : decode cX4_readPart 81 = .ok (.getfield 46, 3) := dk_180 0 46 (dk_at dksX4_readPart_3 10 rfl rfl)
theorem dX4_readPart_84 : decode cX4_readPart 84 = .ok (.aload_n 0, 1) := dk_42 (dk_at dksX4_readPart_3 13 rfl rfl)
theorem dX4_readPart_85 : decode cX4_readPart 85 = .ok (.getfield 193, 3) := dk_180 0 193 (dk_at dksX4_readPart_3 14 rfl rfl)
theorem dX4_readPart_88 : decode cX4_readPart 88 = .ok (.iaload, 1) := dk_46 (dk_at dksX4_readPart_3 17 rfl rfl)
theorem dX4_readPart_89 : decode cX4_readPart 89 = .ok (.sipush 1000, 3) := dk_17 3 232 (dk_at dksX4_readPart_3 18 rfl rfl)
theorem dX4_readPart_92 : decode cX4_readPart 92 = .ok (.if_icmp .le 15, 3) := dk_164 0 15 (dk_at dksX4_readPart_3 21 rfl rfl)
theorem dX4_readPart_95 : decode cX4_readPart 95 = .ok (.iload_n 2, 1) := dk_28 (dk_at dksX4_readPart_4 0 rfl rfl)
theorem dX4_readPart_96 : decode cX4_readPart 96 = .ok (.bipush 8, 2) := dk_16 8 (dk_at dksX4_readPart_4 1 rfl rfl)
theorem dX4_readPart_98 : decode cX4_readPart 98 = .ok (.if_icmp .lt 16, 3) := dk_161 0 16 (dk_at dksX4_readPart_4 3 rfl rfl)
theorem dX4_readPart_101 : decode cX4_readPart 101 = .ok (.iload_n 2, 1) := dk_28 (dk_at dksX4_readPart_4 6 rfl rfl)
theorem dX4_readPart_102 : decode cX4_readPart 102 = .ok (.bipush 14, 2) := dk_16 14 (dk_at dksX4_readPart_4 7 rfl rfl)
theorem dX4_readPart_104 : decode cX4_readPart 104 = .ok (.if_icmp .gt 10, 3) := dk_163 0 10 (dk_at dksX4_readPart_4 9 rfl rfl)
theorem dX4_readPart_107 : decode cX4_readPart 107 = .ok (.aload_n 0, 1) := dk_42 (dk_at dksX4_readPart_4 12 rfl rfl)
theorem dX4_readPart_108 : decode cX4_readPart 108 = .ok (.invokevirtual 231, 3) := dk_182 0 231 (dk_at dksX4_readPart_4 13 rfl rfl)
theorem dX4_readPart_111 : decode cX4_readPart 111 = .ok (.goto 7, 3) := dk_167 0 7 (dk_at dksX4_readPart_4 16 rfl rfl)
theorem dX4_readPart_114 : decode cX4_readPart 114 = .ok (.aload_n 0, 1) := dk_42 (dk_at dksX4_readPart_4 19 rfl rfl)
theorem dX4_readPart_115 : decode cX4_readPart 115 = .ok (.invokevirtual 199, 3) := dk_182 0 199 (dk_at dksX4_readPart_4 20 rfl rfl)
theorem dX4_readPart_118 : decode cX4_readPart 118 = .ok (.return_, 1) := dk_177 (dk_at dksX4_readPart_4 23 rfl rfl)
abbrev cX4_sign : ByteArray := prog_29_method_31_code
def yX4_sign : MethodName := ⟨RX4, "sign", "(C)I"⟩
def dkwX4_sign_0 : List UInt8 := [16, 100, 26, 96, 172]
abbrev dktX4_sign_0 : List UInt8 := dkwX4_sign_0 ++ []
theorem dksX4_sign_0 : cX4_sign.data.toList.drop 0 = dktX4_sign_0 := by decide +kernel
theorem dX4_sign_0 : decode cX4_sign 0 = .ok (.bipush 100, 2) := dk_16 100 (dk_at dksX4_sign_0 0 rfl rfl)
theorem dX4_sign_2 : decode cX4_sign 2 = .ok (.iload_n 0, 1) := dk_26 (dk_at dksX4_sign_0 2 rfl rfl)
theorem dX4_sign_3 : decode cX4_sign 3 = .ok (.iadd, 1) := dk_96 (dk_at dksX4_sign_0 3 rfl rfl)
theorem dX4_sign_4 : decode cX4_sign 4 = .ok (.ireturn, 1) := dk_172 (dk_at dksX4_sign_0 4 rfl rfl)
abbrev cX4_leaf : ByteArray := prog_29_method_30_code
def yX4_leaf : MethodName := ⟨RX4, "leaf", "()V"⟩
def dkwX4_leaf_1 : List UInt8 := [182, 0, 189, 153, 0, 13, 42, 89, 180, 0, 193, 4, 96, 181, 0, 193, 177]
abbrev dktX4_leaf_1 : List UInt8 := dkwX4_leaf_1 ++ []
def dkwX4_leaf_0 : List UInt8 := [42, 180, 0, 202, 16, 50, 160, 0, 7, 42, 182, 0, 199, 42, 89, 180, 0, 202, 4, 96, 181, 0, 202, 42]
abbrev dktX4_leaf_0 : List UInt8 := dkwX4_leaf_0 ++ dktX4_leaf_1
theorem dksX4_leaf_0 : cX4_leaf.data.toList.drop 0 = dktX4_leaf_0 := by decide +kernel
theorem dksX4_leaf_1 : cX4_leaf.data.toList.drop 24 = dktX4_leaf_1 := dk_seg dksX4_leaf_0 24 rfl rfl
theorem dX4_leaf_0 : decode cX4_leaf 0 = .ok (.aload_n 0, 1) := dk_42 (dk_at dksX4_leaf_0 0 rfl rfl)
theorem dX4_leaf_1 : decode cX4_leaf 1 = .ok (.getfield 202, 3) := dk_180 0 202 (dk_at dksX4_leaf_0 1 rfl rfl)
theorem dX4_leaf_4 : decode cX4_leaf 4 = .ok (.bipush 50, 2) := dk_16 50 (dk_at dksX4_leaf_0 4 rfl rfl)
theorem dX4_leaf_6 : decode cX4_leaf 6 = .ok (.if_icmp .ne 7, 3) := dk_160 0 7 (dk_at dksX4_leaf_0 6 rfl rfl)
theorem dX4_leaf_9 : decode cX4_leaf 9 = .ok (.aload_n 0, 1) := dk_42 (dk_at dksX4_leaf_0 9 rfl rfl)
theorem dX4_leaf_10 : decode cX4_leaf 10 = .ok (.invokevirtual 199, 3) := dk_182 0 199 (dk_at dksX4_leaf_0 10 rfl rfl)
theorem dX4_leaf_13 : decode cX4_leaf 13 = .ok (.aload_n 0, 1) := dk_42 (dk_at dksX4_leaf_0 13 rfl rfl)
theorem dX4_leaf_14 : decode cX4_leaf 14 = .ok (.dup, 1) := dk_89 (dk_at dksX4_leaf_0 14 rfl rfl)
theorem dX4_leaf_15 : decode cX4_leaf 15 = .ok (.getfield 202, 3) := dk_180 0 202 (dk_at dksX4_leaf_0 15 rfl rfl)
theorem dX4_leaf_18 : decode cX4_leaf 18 = .ok (.iconst 1, 1) := dk_4 (dk_at dksX4_leaf_0 18 rfl rfl)
theorem dX4_leaf_19 : decode cX4_leaf 19 = .ok (.iadd, 1) := dk_96 (dk_at dksX4_leaf_0 19 rfl rfl)
theorem dX4_leaf_20 : decode cX4_leaf 20 = .ok (.putfield 202, 3) := dk_181 0 202 (dk_at dksX4_leaf_0 20 rfl rfl)
theorem dX4_leaf_23 : decode cX4_leaf 23 = .ok (.aload_n 0, 1) := dk_42 (dk_at dksX4_leaf_0 23 rfl rfl)
theorem dX4_leaf_24 : decode cX4_leaf 24 = .ok (.invokevirtual 189, 3) := dk_182 0 189 (dk_at dksX4_leaf_1 0 rfl rfl)
theorem dX4_leaf_27 : decode cX4_leaf 27 = .ok (.ifCond .eq 13, 3) := dk_153 0 13 (dk_at dksX4_leaf_1 3 rfl rfl)
theorem dX4_leaf_30 : decode cX4_leaf 30 = .ok (.aload_n 0, 1) := dk_42 (dk_at dksX4_leaf_1 6 rfl rfl)
theorem dX4_leaf_31 : decode cX4_leaf 31 = .ok (.dup, 1) := dk_89 (dk_at dksX4_leaf_1 7 rfl rfl)
theorem dX4_leaf_32 : decode cX4_leaf 32 = .ok (.getfield 193, 3) := dk_180 0 193 (dk_at dksX4_leaf_1 8 rfl rfl)
theorem dX4_leaf_35 : decode cX4_leaf 35 = .ok (.iconst 1, 1) := dk_4 (dk_at dksX4_leaf_1 11 rfl rfl)
theorem dX4_leaf_36 : decode cX4_leaf 36 = .ok (.iadd, 1) := dk_96 (dk_at dksX4_leaf_1 12 rfl rfl)
theorem dX4_leaf_37 : decode cX4_leaf 37 = .ok (.putfield 193, 3) := dk_181 0 193 (dk_at dksX4_leaf_1 13 rfl rfl)
theorem dX4_leaf_40 : decode cX4_leaf 40 = .ok (.return_, 1) := dk_177 (dk_at dksX4_leaf_1 16 rfl rfl)
abbrev cX4_readTest : ByteArray := prog_29_method_33_code
def yX4_readTest : MethodName := ⟨RX4, "readTest", "(I)V"⟩
def dkwX4_readTest_0 : List UInt8 := [42, 27, 182, 0, 215, 42, 8, 182, 0, 196, 153, 0, 11, 42, 27, 182, 0, 215, 167, 255, 243, 177]
abbrev dktX4_readTest_0 : List UInt8 := dkwX4_readTest_0 ++ []
theorem dksX4_readTest_0 : cX4_readTest.data.toList.drop 0 = dktX4_readTest_0 := by decide +kernel
theorem dX4_readTest_0 : decode cX4_readTest 0 = .ok (.aload_n 0, 1) := dk_42 (dk_at dksX4_readTest_0 0 rfl rfl)
theorem dX4_readTest_1 : decode cX4_readTest 1 = .ok (.iload_n 1, 1) := dk_27 (dk_at dksX4_readTest_0 1 rfl rfl)
theorem dX4_readTest_2 : decode cX4_readTest 2 = .ok (.invokevirtual 215, 3) := dk_182 0 215 (dk_at dksX4_readTest_0 2 rfl rfl)
theorem dX4_readTest_5 : decode cX4_readTest 5 = .ok (.aload_n 0, 1) := dk_42 (dk_at dksX4_readTest_0 5 rfl rfl)
theorem dX4_readTest_6 : decode cX4_readTest 6 = .ok (.iconst 5, 1) := dk_8 (dk_at dksX4_readTest_0 6 rfl rfl)
theorem dX4_readTest_7 : decode cX4_readTest 7 = .ok (.invokevirtual 196, 3) := dk_182 0 196 (dk_at dksX4_readTest_0 7 rfl rfl)
theorem dX4_readTest_10 : decode cX4_readTest 10 = .ok (.ifCond .eq 11, 3) := dk_153 0 11 (dk_at dksX4_readTest_0 10 rfl rfl)
theorem dX4_readTest_13 : decode cX4_readTest 13 = .ok (.aload_n 0, 1) := dk_42 (dk_at dksX4_readTest_0 13 rfl rfl)
theorem dX4_readTest_14 : decode cX4_readTest 14 = .ok (.iload_n 1, 1) := dk_27 (dk_at dksX4_readTest_0 14 rfl rfl)
theorem dX4_readTest_15 : decode cX4_readTest 15 = .ok (.invokevirtual 215, 3) := dk_182 0 215 (dk_at dksX4_readTest_0 15 rfl rfl)
theorem dX4_readTest_18 : decode cX4_readTest 18 = .ok (.goto (-13), 3) := dk_167 255 243 (dk_at dksX4_readTest_0 18 rfl rfl)
theorem dX4_readTest_21 : decode cX4_readTest 21 = .ok (.return_, 1) := dk_177 (dk_at dksX4_readTest_0 21 rfl rfl)
abbrev cX4_readBoth : ByteArray := prog_29_method_34_code
def yX4_readBoth : MethodName := ⟨RX4, "readBoth", "(I)V"⟩
def dkwX4_readBoth_0 : List UInt8 := [42, 27, 182, 0, 218, 42, 16, 6, 182, 0, 196, 153, 0, 11, 42, 27, 182, 0, 218, 167, 255, 242, 177]
abbrev dktX4_readBoth_0 : List UInt8 := dkwX4_readBoth_0 ++ []
theorem dksX4_readBoth_0 : cX4_readBoth.data.toList.drop 0 = dktX4_readBoth_0 := by decide +kernel
theorem dX4_readBoth_0 : decode cX4_readBoth 0 = .ok (.aload_n 0, 1) := dk_42 (dk_at dksX4_readBoth_0 0 rfl rfl)
theorem dX4_readBoth_1 : decode cX4_readBoth 1 = .ok (.iload_n 1, 1) := dk_27 (dk_at dksX4_readBoth_0 1 rfl rfl)
theorem dX4_readBoth_2 : decode cX4_readBoth 2 = .ok (.invokevirtual 218, 3) := dk_182 0 218 (dk_at dksX4_readBoth_0 2 rfl rfl)
theorem dX4_readBoth_5 : decode cX4_readBoth 5 = .ok (.aload_n 0, 1) := dk_42 (dk_at dksX4_readBoth_0 5 rfl rfl)
theorem dX4_readBoth_6 : decode cX4_readBoth 6 = .ok (.bipush 6, 2) := dk_16 6 (dk_at dksX4_readBoth_0 6 rfl rfl)
theorem dX4_readBoth_8 : decode cX4_readBoth 8 = .ok (.invokevirtual 196, 3) := dk_182 0 196 (dk_at dksX4_readBoth_0 8 rfl rfl)
theorem dX4_readBoth_11 : decode cX4_readBoth 11 = .ok (.ifCond .eq 11, 3) := dk_153 0 11 (dk_at dksX4_readBoth_0 11 rfl rfl)
theorem dX4_readBoth_14 : decode cX4_readBoth 14 = .ok (.aload_n 0, 1) := dk_42 (dk_at dksX4_readBoth_0 14 rfl rfl)
theorem dX4_readBoth_15 : decode cX4_readBoth 15 = .ok (.iload_n 1, 1) := dk_27 (dk_at dksX4_readBoth_0 15 rfl rfl)
theorem dX4_readBoth_16 : decode cX4_readBoth 16 = .ok (.invokevirtual 218, 3) := dk_182 0 218 (dk_at dksX4_readBoth_0 16 rfl rfl)
theorem dX4_readBoth_19 : decode cX4_readBoth 19 = .ok (.goto (-14), 3) := dk_167 255 242 (dk_at dksX4_readBoth_0 19 rfl rfl)
theorem dX4_readBoth_22 : decode cX4_readBoth 22 = .ok (.return_, 1) := dk_177 (dk_at dksX4_readBoth_0 22 rfl rfl)
abbrev cX4_readPlain : ByteArray := prog_29_method_35_code
def yX4_readPlain : MethodName := ⟨RX4, "readPlain", "(I)V"⟩
def dkwX4_readPlain_5 : List UInt8 := [154, 0, 12, 42, 16, 61, 184, 0, 221, 182, 0, 205, 42, 27, 182, 0, 209, 177]
abbrev dktX4_readPlain_5 : List UInt8 := dkwX4_readPlain_5 ++ []
def dkwX4_readPlain_4 : List UInt8 := [182, 0, 209, 42, 16, 60, 184, 0, 221, 182, 0, 196, 154, 0, 24, 42, 16, 62, 184, 0, 221, 182, 0, 196]
abbrev dktX4_readPlain_4 : List UInt8 := dkwX4_readPlain_4 ++ dktX4_readPlain_5
def dkwX4_readPlain_3 : List UInt8 := [181, 0, 193, 42, 27, 4, 96, 182, 0, 212, 42, 16, 41, 184, 0, 221, 182, 0, 205, 167, 0, 46, 42, 27]
abbrev dktX4_readPlain_3 : List UInt8 := dkwX4_readPlain_3 ++ dktX4_readPlain_4
def dkwX4_readPlain_2 : List UInt8 := [160, 0, 7, 42, 182, 0, 199, 42, 182, 0, 189, 154, 0, 4, 177, 42, 89, 180, 0, 193, 4, 96]
abbrev dktX4_readPlain_2 : List UInt8 := dkwX4_readPlain_2 ++ dktX4_readPlain_3
def dkwX4_readPlain_1 : List UInt8 := [42, 180, 0, 43, 42, 180, 0, 193, 46, 62, 29, 16, 40, 184, 0, 221, 160, 0, 50, 27, 16, 8]
abbrev dktX4_readPlain_1 : List UInt8 := dkwX4_readPlain_1 ++ dktX4_readPlain_2
def dkwX4_readPlain_0 : List UInt8 := [4, 61, 28, 153, 0, 13, 42, 16, 7, 182, 0, 196, 61, 167, 255, 245, 42, 182, 0, 189, 154, 0, 4, 177]
abbrev dktX4_readPlain_0 : List UInt8 := dkwX4_readPlain_0 ++ dktX4_readPlain_1
theorem dksX4_readPlain_0 : cX4_readPlain.data.toList.drop 0 = dktX4_readPlain_0 := by decide +kernel
theorem dksX4_readPlain_1 : cX4_readPlain.data.toList.drop 24 = dktX4_readPlain_1 := dk_seg dksX4_readPlain_0 24 rfl rfl
theorem dksX4_readPlain_2 : cX4_readPlain.data.toList.drop 46 = dktX4_readPlain_2 := dk_seg dksX4_readPlain_1 22 rfl rfl
theorem dksX4_readPlain_3 : cX4_readPlain.data.toList.drop 68 = dktX4_readPlain_3 := dk_seg dksX4_readPlain_2 22 rfl rfl
theorem dksX4_readPlain_4 : cX4_readPlain.data.toList.drop 92 = dktX4_readPlain_4 := dk_seg dksX4_readPlain_3 24 rfl rfl
theorem dksX4_readPlain_5 : cX4_readPlain.data.toList.drop 116 = dktX4_readPlain_5 := dk_seg dksX4_readPlain_4 24 rfl rfl
theorem dX4_readPlain_0 : decode cX4_readPlain 0 = .ok (.iconst 1, 1) := dk_4 (dk_at dksX4_readPlain_0 0 rfl rfl)
theorem dX4_readPlain_1 : decode cX4_readPlain 1 = .ok (.istore_n 2, 1) := dk_61 (dk_at dksX4_readPlain_0 1 rfl rfl)
theorem dX4_readPlain_2 : decode cX4_readPlain 2 = .ok (.iload_n 2, 1) := dk_28 (dk_at dksX4_readPlain_0 2 rfl rfl)
theorem dX4_readPlain_3 : decode cX4_readPlain 3 = .ok (.ifCond .eq 13, 3) := dk_153 0 13 (dk_at dksX4_readPlain_0 3 rfl rfl)
theorem dX4_readPlain_6 : decode cX4_readPlain 6 = .ok (.aload_n 0, 1) := dk_42 (dk_at dksX4_readPlain_0 6 rfl rfl)
theorem dX4_readPlain_7 : decode cX4_readPlain 7 = .ok (.bipush 7, 2) := dk_16 7 (dk_at dksX4_readPlain_0 7 rfl rfl)
theorem dX4_readPlain_9 : decode cX4_readPlain 9 = .ok (.invokevirtual 196, 3) := dk_182 0 196 (dk_at dksX4_readPlain_0 9 rfl rfl)
theorem dX4_readPlain_12 : decode cX4_readPlain 12 = .ok (.istore_n 2, 1) := dk_61 (dk_at dksX4_readPlain_0 12 rfl rfl)
theorem dX4_readPlain_13 : decode cX4_readPlain 13 = .ok (.goto (-11), 3) := dk_167 255 245 (dk_at dksX4_readPlain_0 13 rfl rfl)
theorem dX4_readPlain_16 : decode cX4_readPlain 16 = .ok (.aload_n 0, 1) := dk_42 (dk_at dksX4_readPlain_0 16 rfl rfl)
theorem dX4_readPlain_17 : decode cX4_readPlain 17 = .ok (.invokevirtual 189, 3) := dk_182 0 189 (dk_at dksX4_readPlain_0 17 rfl rfl)
theorem dX4_readPlain_20 : decode cX4_readPlain 20 = .ok (.ifCond .ne 4, 3) := dk_154 0 4 (dk_at dksX4_readPlain_0 20 rfl rfl)
theorem dX4_readPlain_23 : decode cX4_readPlain 23 = .ok (.return_, 1) := dk_177 (dk_at dksX4_readPlain_0 23 rfl rfl)
theorem dX4_readPlain_24 : decode cX4_readPlain 24 = .ok (.aload_n 0, 1) := dk_42 (dk_at dksX4_readPlain_1 0 rfl rfl)
theorem dX4_readPlain_25 : decode cX4_readPlain 25 = .ok (.getfield 43, 3) := dk_180 0 43 (dk_at dksX4_readPlain_1 1 rfl rfl)
theorem dX4_readPlain_28 : decode cX4_readPlain 28 = .ok (.aload_n 0, 1) := dk_42 (dk_at dksX4_readPlain_1 4 rfl rfl)
theorem dX4_readPlain_29 : decode cX4_readPlain 29 = .ok (.getfield 193, 3) := dk_180 0 193 (dk_at dksX4_readPlain_1 5 rfl rfl)
theorem dX4_readPlain_32 : decode cX4_readPlain 32 = .ok (.iaload, 1) := dk_46 (dk_at dksX4_readPlain_1 8 rfl rfl)
theorem dX4_readPlain_33 : decode cX4_readPlain 33 = .ok (.istore_n 3, 1) := dk_62 (dk_at dksX4_readPlain_1 9 rfl rfl)
theorem dX4_readPlain_34 : decode cX4_readPlain 34 = .ok (.iload_n 3, 1) := dk_29 (dk_at dksX4_readPlain_1 10 rfl rfl)
theorem dX4_readPlain_35 : decode cX4_readPlain 35 = .ok (.bipush 40, 2) := dk_16 40 (dk_at dksX4_readPlain_1 11 rfl rfl)
theorem dX4_readPlain_37 : decode cX4_readPlain 37 = .ok (.invokestatic 221, 3) := dk_184 0 221 (dk_at dksX4_readPlain_1 13 rfl rfl)
theorem dX4_readPlain_40 : decode cX4_readPlain 40 = .ok (.if_icmp .ne 50, 3) := dk_160 0 50 (dk_at dksX4_readPlain_1 16 rfl rfl)
theorem dX4_readPlain_43 : decode cX4_readPlain 43 = .ok (.iload_n 1, 1) := dk_27 (dk_at dksX4_readPlain_1 19 rfl rfl)
theorem dX4_readPlain_44 : decode cX4_readPlain 44 = .ok (.bipush 8, 2) := dk_16 8 (dk_at dksX4_readPlain_1 20 rfl rfl)
theorem dX4_readPlain_46 : decode cX4_readPlain 46 = .ok (.if_icmp .ne 7, 3) := dk_160 0 7 (dk_at dksX4_readPlain_2 0 rfl rfl)
theorem dX4_readPlain_49 : decode cX4_readPlain 49 = .ok (.aload_n 0, 1) := dk_42 (dk_at dksX4_readPlain_2 3 rfl rfl)
theorem dX4_readPlain_50 : decode cX4_readPlain 50 = .ok (.invokevirtual 199, 3) := dk_182 0 199 (dk_at dksX4_readPlain_2 4 rfl rfl)
theorem dX4_readPlain_53 : decode cX4_readPlain 53 = .ok (.aload_n 0, 1) := dk_42 (dk_at dksX4_readPlain_2 7 rfl rfl)
theorem dX4_readPlain_54 : decode cX4_readPlain 54 = .ok (.invokevirtual 189, 3) := dk_182 0 189 (dk_at dksX4_readPlain_2 8 rfl rfl)
theorem dX4_readPlain_57 : decode cX4_readPlain 57 = .ok (.ifCond .ne 4, 3) := dk_154 0 4 (dk_at dksX4_readPlain_2 11 rfl rfl)
theorem dX4_readPlain_60 : decode cX4_readPlain 60 = .ok (.return_, 1) := dk_177 (dk_at dksX4_readPlain_2 14 rfl rfl)
theorem dX4_readPlain_61 : decode cX4_readPlain 61 = .ok (.aload_n 0, 1) := dk_42 (dk_at dksX4_readPlain_2 15 rfl rfl)
theorem dX4_readPlain_62 : decode cX4_readPlain 62 = .ok (.dup, 1) := dk_89 (dk_at dksX4_readPlain_2 16 rfl rfl)
theorem dX4_readPlain_63 : decode cX4_readPlain 63 = .ok (.getfield 193, 3) := dk_180 0 193 (dk_at dksX4_readPlain_2 17 rfl rfl)
theorem dX4_readPlain_66 : decode cX4_readPlain 66 = .ok (.iconst 1, 1) := dk_4 (dk_at dksX4_readPlain_2 20 rfl rfl)
theorem dX4_readPlain_67 : decode cX4_readPlain 67 = .ok (.iadd, 1) := dk_96 (dk_at dksX4_readPlain_2 21 rfl rfl)
theorem dX4_readPlain_68 : decode cX4_readPlain 68 = .ok (.putfield 193, 3) := dk_181 0 193 (dk_at dksX4_readPlain_3 0 rfl rfl)
theorem dX4_readPlain_71 : decode cX4_readPlain 71 = .ok (.aload_n 0, 1) := dk_42 (dk_at dksX4_readPlain_3 3 rfl rfl)
theorem dX4_readPlain_72 : decode cX4_readPlain 72 = .ok (.iload_n 1, 1) := dk_27 (dk_at dksX4_readPlain_3 4 rfl rfl)
theorem dX4_readPlain_73 : decode cX4_readPlain 73 = .ok (.iconst 1, 1) := dk_4 (dk_at dksX4_readPlain_3 5 rfl rfl)
theorem dX4_readPlain_74 : decode cX4_readPlain 74 = .ok (.iadd, 1) := dk_96 (dk_at dksX4_readPlain_3 6 rfl rfl)
theorem dX4_readPlain_75 : decode cX4_readPlain 75 = .ok (.invokevirtual 212, 3) := dk_182 0 212 (dk_at dksX4_readPlain_3 7 rfl rfl)
theorem dX4_readPlain_78 : decode cX4_readPlain 78 = .ok (.aload_n 0, 1) := dk_42 (dk_at dksX4_readPlain_3 10 rfl rfl)
theorem dX4_readPlain_79 : decode cX4_readPlain 79 = .ok (.bipush 41, 2) := dk_16 41 (dk_at dksX4_readPlain_3 11 rfl rfl)
theorem dX4_readPlain_81 : decode cX4_readPlain 81 = .ok (.invokestatic 221, 3) := dk_184 0 221 (dk_at dksX4_readPlain_3 13 rfl rfl)
theorem dX4_readPlain_84 : decode cX4_readPlain 84 = .ok (.invokevirtual 205, 3) := dk_182 0 205 (dk_at dksX4_readPlain_3 16 rfl rfl)
theorem dX4_readPlain_87 : decode cX4_readPlain 87 = .ok (.goto 46, 3) := dk_167 0 46 (dk_at dksX4_readPlain_3 19 rfl rfl)
theorem dX4_readPlain_90 : decode cX4_readPlain 90 = .ok (.aload_n 0, 1) := dk_42 (dk_at dksX4_readPlain_3 22 rfl rfl)
theorem dX4_readPlain_91 : decode cX4_readPlain 91 = .ok (.iload_n 1, 1) := dk_27 (dk_at dksX4_readPlain_3 23 rfl rfl)
theorem dX4_readPlain_92 : decode cX4_readPlain 92 = .ok (.invokevirtual 209, 3) := dk_182 0 209 (dk_at dksX4_readPlain_4 0 rfl rfl)
theorem dX4_readPlain_95 : decode cX4_readPlain 95 = .ok (.aload_n 0, 1) := dk_42 (dk_at dksX4_readPlain_4 3 rfl rfl)
theorem dX4_readPlain_96 : decode cX4_readPlain 96 = .ok (.bipush 60, 2) := dk_16 60 (dk_at dksX4_readPlain_4 4 rfl rfl)
theorem dX4_readPlain_98 : decode cX4_readPlain 98 = .ok (.invokestatic 221, 3) := dk_184 0 221 (dk_at dksX4_readPlain_4 6 rfl rfl)
theorem dX4_readPlain_101 : decode cX4_readPlain 101 = .ok (.invokevirtual 196, 3) := dk_182 0 196 (dk_at dksX4_readPlain_4 9 rfl rfl)
theorem dX4_readPlain_104 : decode cX4_readPlain 104 = .ok (.ifCond .ne 24, 3) := dk_154 0 24 (dk_at dksX4_readPlain_4 12 rfl rfl)
theorem dX4_readPlain_107 : decode cX4_readPlain 107 = .ok (.aload_n 0, 1) := dk_42 (dk_at dksX4_readPlain_4 15 rfl rfl)
theorem dX4_readPlain_108 : decode cX4_readPlain 108 = .ok (.bipush 62, 2) := dk_16 62 (dk_at dksX4_readPlain_4 16 rfl rfl)
theorem dX4_readPlain_110 : decode cX4_readPlain 110 = .ok (.invokestatic 221, 3) := dk_184 0 221 (dk_at dksX4_readPlain_4 18 rfl rfl)
theorem dX4_readPlain_113 : decode cX4_readPlain 113 = .ok (.invokevirtual 196, 3) := dk_182 0 196 (dk_at dksX4_readPlain_4 21 rfl rfl)
theorem dX4_readPlain_116 : decode cX4_readPlain 116 = .ok (.ifCond .ne 12, 3) := dk_154 0 12 (dk_at dksX4_readPlain_5 0 rfl rfl)
theorem dX4_readPlain_119 : decode cX4_readPlain 119 = .ok (.aload_n 0, 1) := dk_42 (dk_at dksX4_readPlain_5 3 rfl rfl)
theorem dX4_readPlain_120 : decode cX4_readPlain 120 = .ok (.bipush 61, 2) := dk_16 61 (dk_at dksX4_readPlain_5 4 rfl rfl)
theorem dX4_readPlain_122 : decode cX4_readPlain 122 = .ok (.invokestatic 221, 3) := dk_184 0 221 (dk_at dksX4_readPlain_5 6 rfl rfl)
theorem dX4_readPlain_125 : decode cX4_readPlain 125 = .ok (.invokevirtual 205, 3) := dk_182 0 205 (dk_at dksX4_readPlain_5 9 rfl rfl)
theorem dX4_readPlain_128 : decode cX4_readPlain 128 = .ok (.aload_n 0, 1) := dk_42 (dk_at dksX4_readPlain_5 12 rfl rfl)
theorem dX4_readPlain_129 : decode cX4_readPlain 129 = .ok (.iload_n 1, 1) := dk_27 (dk_at dksX4_readPlain_5 13 rfl rfl)
theorem dX4_readPlain_130 : decode cX4_readPlain 130 = .ok (.invokevirtual 209, 3) := dk_182 0 209 (dk_at dksX4_readPlain_5 14 rfl rfl)
theorem dX4_readPlain_133 : decode cX4_readPlain 133 = .ok (.return_, 1) := dk_177 (dk_at dksX4_readPlain_5 17 rfl rfl)
abbrev cX4_fault : ByteArray := prog_29_method_41_code
def yX4_fault : MethodName := ⟨RX4, "fault", "()I"⟩
theorem dX4_fault_0 : decode cX4_fault 0 = .ok (.aload_n 0, 1) := by decide +kernel
theorem dX4_fault_1 : decode cX4_fault 1 = .ok (.getfield 40, 3) := by decide +kernel
theorem dX4_fault_4 : decode cX4_fault 4 = .ok (.ireturn, 1) := by decide +kernel
abbrev cX4_use : ByteArray := prog_29_method_42_code
def yX4_use : MethodName := ⟨RX4, "use", "(I)I"⟩
def dkwX4_use_1 : List UInt8 := [16, 254, 182, 0, 139, 172, 42, 17, 1, 138, 27, 182, 0, 161, 172]
abbrev dktX4_use_1 : List UInt8 := dkwX4_use_1 ++ []
def dkwX4_use_0 : List UInt8 := [27, 2, 159, 0, 28, 27, 3, 42, 180, 0, 20, 17, 1, 137, 46, 4, 100, 184, 0, 135, 154, 0, 10, 42]
abbrev dktX4_use_0 : List UInt8 := dkwX4_use_0 ++ dktX4_use_1
theorem dksX4_use_0 : cX4_use.data.toList.drop 0 = dktX4_use_0 := by decide +kernel
theorem dksX4_use_1 : cX4_use.data.toList.drop 24 = dktX4_use_1 := dk_seg dksX4_use_0 24 rfl rfl
theorem dX4_use_0 : decode cX4_use 0 = .ok (.iload_n 1, 1) := dk_27 (dk_at dksX4_use_0 0 rfl rfl)
theorem dX4_use_1 : decode cX4_use 1 = .ok (.iconst (-1), 1) := dk_2 (dk_at dksX4_use_0 1 rfl rfl)
theorem dX4_use_2 : decode cX4_use 2 = .ok (.if_icmp .eq 28, 3) := dk_159 0 28 (dk_at dksX4_use_0 2 rfl rfl)
theorem dX4_use_5 : decode cX4_use 5 = .ok (.iload_n 1, 1) := dk_27 (dk_at dksX4_use_0 5 rfl rfl)
theorem dX4_use_6 : decode cX4_use 6 = .ok (.iconst 0, 1) := dk_3 (dk_at dksX4_use_0 6 rfl rfl)
theorem dX4_use_7 : decode cX4_use 7 = .ok (.aload_n 0, 1) := dk_42 (dk_at dksX4_use_0 7 rfl rfl)
theorem dX4_use_8 : decode cX4_use 8 = .ok (.getfield 20, 3) := dk_180 0 20 (dk_at dksX4_use_0 8 rfl rfl)
theorem dX4_use_11 : decode cX4_use 11 = .ok (.sipush 393, 3) := dk_17 1 137 (dk_at dksX4_use_0 11 rfl rfl)
theorem dX4_use_14 : decode cX4_use 14 = .ok (.iaload, 1) := dk_46 (dk_at dksX4_use_0 14 rfl rfl)
theorem dX4_use_15 : decode cX4_use 15 = .ok (.iconst 1, 1) := dk_4 (dk_at dksX4_use_0 15 rfl rfl)
theorem dX4_use_16 : decode cX4_use 16 = .ok (.isub, 1) := dk_100 (dk_at dksX4_use_0 16 rfl rfl)
theorem dX4_use_17 : decode cX4_use 17 = .ok (.invokestatic 135, 3) := dk_184 0 135 (dk_at dksX4_use_0 17 rfl rfl)
theorem dX4_use_20 : decode cX4_use 20 = .ok (.ifCond .ne 10, 3) := dk_154 0 10 (dk_at dksX4_use_0 20 rfl rfl)
theorem dX4_use_23 : decode cX4_use 23 = .ok (.aload_n 0, 1) := dk_42 (dk_at dksX4_use_0 23 rfl rfl)
theorem dX4_use_24 : decode cX4_use 24 = .ok (.bipush (-2), 2) := dk_16 254 (dk_at dksX4_use_1 0 rfl rfl)
theorem dX4_use_26 : decode cX4_use 26 = .ok (.invokevirtual 139, 3) := dk_182 0 139 (dk_at dksX4_use_1 2 rfl rfl)
theorem dX4_use_29 : decode cX4_use 29 = .ok (.ireturn, 1) := dk_172 (dk_at dksX4_use_1 5 rfl rfl)
theorem dX4_use_30 : decode cX4_use 30 = .ok (.aload_n 0, 1) := dk_42 (dk_at dksX4_use_1 6 rfl rfl)
theorem dX4_use_31 : decode cX4_use 31 = .ok (.sipush 394, 3) := dk_17 1 138 (dk_at dksX4_use_1 7 rfl rfl)
theorem dX4_use_34 : decode cX4_use 34 = .ok (.iload_n 1, 1) := dk_27 (dk_at dksX4_use_1 10 rfl rfl)
theorem dX4_use_35 : decode cX4_use 35 = .ok (.invokevirtual 161, 3) := dk_182 0 161 (dk_at dksX4_use_1 11 rfl rfl)
theorem dX4_use_38 : decode cX4_use 38 = .ok (.ireturn, 1) := dk_172 (dk_at dksX4_use_1 14 rfl rfl)
abbrev cX4_takes : ByteArray := prog_29_method_56_code
def yX4_takes : MethodName := ⟨RX4, "takes", "(III)I"⟩
def dkwX4_takes_2 : List UInt8 := [167, 0, 4, 3, 3, 182, 1, 42, 172]
abbrev dktX4_takes_2 : List UInt8 := dkwX4_takes_2 ++ []
def dkwX4_takes_1 : List UInt8 := [154, 0, 5, 2, 172, 28, 6, 160, 0, 7, 4, 167, 0, 20, 42, 27, 28, 29, 4, 160, 0, 7, 4]
abbrev dktX4_takes_1 : List UInt8 := dkwX4_takes_1 ++ dktX4_takes_2
def dkwX4_takes_0 : List UInt8 := [42, 27, 182, 0, 158, 153, 0, 21, 28, 4, 6, 184, 0, 135, 153, 0, 12, 29, 3, 4, 184, 0, 135]
abbrev dktX4_takes_0 : List UInt8 := dkwX4_takes_0 ++ dktX4_takes_1
theorem dksX4_takes_0 : cX4_takes.data.toList.drop 0 = dktX4_takes_0 := by decide +kernel
theorem dksX4_takes_1 : cX4_takes.data.toList.drop 23 = dktX4_takes_1 := dk_seg dksX4_takes_0 23 rfl rfl
theorem dksX4_takes_2 : cX4_takes.data.toList.drop 46 = dktX4_takes_2 := dk_seg dksX4_takes_1 23 rfl rfl
theorem dX4_takes_0 : decode cX4_takes 0 = .ok (.aload_n 0, 1) := dk_42 (dk_at dksX4_takes_0 0 rfl rfl)
theorem dX4_takes_1 : decode cX4_takes 1 = .ok (.iload_n 1, 1) := dk_27 (dk_at dksX4_takes_0 1 rfl rfl)
theorem dX4_takes_2 : decode cX4_takes 2 = .ok (.invokevirtual 158, 3) := dk_182 0 158 (dk_at dksX4_takes_0 2 rfl rfl)
theorem dX4_takes_5 : decode cX4_takes 5 = .ok (.ifCond .eq 21, 3) := dk_153 0 21 (dk_at dksX4_takes_0 5 rfl rfl)
theorem dX4_takes_8 : decode cX4_takes 8 = .ok (.iload_n 2, 1) := dk_28 (dk_at dksX4_takes_0 8 rfl rfl)
theorem dX4_takes_9 : decode cX4_takes 9 = .ok (.iconst 1, 1) := dk_4 (dk_at dksX4_takes_0 9 rfl rfl)
theorem dX4_takes_10 : decode cX4_takes 10 = .ok (.iconst 3, 1) := dk_6 (dk_at dksX4_takes_0 10 rfl rfl)
theorem dX4_takes_11 : decode cX4_takes 11 = .ok (.invokestatic 135, 3) := dk_184 0 135 (dk_at dksX4_takes_0 11 rfl rfl)
theorem dX4_takes_14 : decode cX4_takes 14 = .ok (.ifCond .eq 12, 3) := dk_153 0 12 (dk_at dksX4_takes_0 14 rfl rfl)
theorem dX4_takes_17 : decode cX4_takes 17 = .ok (.iload_n 3, 1) := dk_29 (dk_at dksX4_takes_0 17 rfl rfl)
theorem dX4_takes_18 : decode cX4_takes 18 = .ok (.iconst 0, 1) := dk_3 (dk_at dksX4_takes_0 18 rfl rfl)
theorem dX4_takes_19 : decode cX4_takes 19 = .ok (.iconst 1, 1) := dk_4 (dk_at dksX4_takes_0 19 rfl rfl)
theorem dX4_takes_20 : decode cX4_takes 20 = .ok (.invokestatic 135, 3) := dk_184 0 135 (dk_at dksX4_takes_0 20 rfl rfl)
theorem dX4_takes_23 : decode cX4_takes 23 = .ok (.ifCond .ne 5, 3) := dk_154 0 5 (dk_at dksX4_takes_1 0 rfl rfl)
theorem dX4_takes_26 : decode cX4_takes 26 = .ok (.iconst (-1), 1) := dk_2 (dk_at dksX4_takes_1 3 rfl rfl)
theorem dX4_takes_27 : decode cX4_takes 27 = .ok (.ireturn, 1) := dk_172 (dk_at dksX4_takes_1 4 rfl rfl)
theorem dX4_takes_28 : decode cX4_takes 28 = .ok (.iload_n 2, 1) := dk_28 (dk_at dksX4_takes_1 5 rfl rfl)
theorem dX4_takes_29 : decode cX4_takes 29 = .ok (.iconst 3, 1) := dk_6 (dk_at dksX4_takes_1 6 rfl rfl)
theorem dX4_takes_30 : decode cX4_takes 30 = .ok (.if_icmp .ne 7, 3) := dk_160 0 7 (dk_at dksX4_takes_1 7 rfl rfl)
theorem dX4_takes_33 : decode cX4_takes 33 = .ok (.iconst 1, 1) := dk_4 (dk_at dksX4_takes_1 10 rfl rfl)
theorem dX4_takes_34 : decode cX4_takes 34 = .ok (.goto 20, 3) := dk_167 0 20 (dk_at dksX4_takes_1 11 rfl rfl)
theorem dX4_takes_37 : decode cX4_takes 37 = .ok (.aload_n 0, 1) := dk_42 (dk_at dksX4_takes_1 14 rfl rfl)
theorem dX4_takes_38 : decode cX4_takes 38 = .ok (.iload_n 1, 1) := dk_27 (dk_at dksX4_takes_1 15 rfl rfl)
theorem dX4_takes_39 : decode cX4_takes 39 = .ok (.iload_n 2, 1) := dk_28 (dk_at dksX4_takes_1 16 rfl rfl)
theorem dX4_takes_40 : decode cX4_takes 40 = .ok (.iload_n 3, 1) := dk_29 (dk_at dksX4_takes_1 17 rfl rfl)
theorem dX4_takes_41 : decode cX4_takes 41 = .ok (.iconst 1, 1) := dk_4 (dk_at dksX4_takes_1 18 rfl rfl)
theorem dX4_takes_42 : decode cX4_takes 42 = .ok (.if_icmp .ne 7, 3) := dk_160 0 7 (dk_at dksX4_takes_1 19 rfl rfl)
theorem dX4_takes_45 : decode cX4_takes 45 = .ok (.iconst 1, 1) := dk_4 (dk_at dksX4_takes_1 22 rfl rfl)
theorem dX4_takes_46 : decode cX4_takes 46 = .ok (.goto 4, 3) := dk_167 0 4 (dk_at dksX4_takes_2 0 rfl rfl)
theorem dX4_takes_49 : decode cX4_takes 49 = .ok (.iconst 0, 1) := dk_3 (dk_at dksX4_takes_2 3 rfl rfl)
theorem dX4_takes_50 : decode cX4_takes 50 = .ok (.iconst 0, 1) := dk_3 (dk_at dksX4_takes_2 4 rfl rfl)
theorem dX4_takes_51 : decode cX4_takes 51 = .ok (.invokevirtual 298, 3) := dk_182 1 42 (dk_at dksX4_takes_2 5 rfl rfl)
theorem dX4_takes_54 : decode cX4_takes 54 = .ok (.ireturn, 1) := dk_172 (dk_at dksX4_takes_2 8 rfl rfl)
abbrev cX4_takesOf : ByteArray := prog_29_method_55_code
def yX4_takesOf : MethodName := ⟨RX4, "takesOf", "(IIZI)I"⟩
def dkwX4_takesOf_1 : List UInt8 := [182, 1, 38, 172]
abbrev dktX4_takesOf_1 : List UInt8 := dkwX4_takesOf_1 ++ []
def dkwX4_takesOf_0 : List UInt8 := [42, 27, 28, 29, 153, 0, 7, 4, 167, 0, 4, 3, 21, 4, 182, 1, 34, 42, 4, 4, 16, 20, 7]
abbrev dktX4_takesOf_0 : List UInt8 := dkwX4_takesOf_0 ++ dktX4_takesOf_1
theorem dksX4_takesOf_0 : cX4_takesOf.data.toList.drop 0 = dktX4_takesOf_0 := by decide +kernel
theorem dksX4_takesOf_1 : cX4_takesOf.data.toList.drop 23 = dktX4_takesOf_1 := dk_seg dksX4_takesOf_0 23 rfl rfl
theorem dX4_takesOf_0 : decode cX4_takesOf 0 = .ok (.aload_n 0, 1) := dk_42 (dk_at dksX4_takesOf_0 0 rfl rfl)
theorem dX4_takesOf_1 : decode cX4_takesOf 1 = .ok (.iload_n 1, 1) := dk_27 (dk_at dksX4_takesOf_0 1 rfl rfl)
theorem dX4_takesOf_2 : decode cX4_takesOf 2 = .ok (.iload_n 2, 1) := dk_28 (dk_at dksX4_takesOf_0 2 rfl rfl)
theorem dX4_takesOf_3 : decode cX4_takesOf 3 = .ok (.iload_n 3, 1) := dk_29 (dk_at dksX4_takesOf_0 3 rfl rfl)
theorem dX4_takesOf_4 : decode cX4_takesOf 4 = .ok (.ifCond .eq 7, 3) := dk_153 0 7 (dk_at dksX4_takesOf_0 4 rfl rfl)
theorem dX4_takesOf_7 : decode cX4_takesOf 7 = .ok (.iconst 1, 1) := dk_4 (dk_at dksX4_takesOf_0 7 rfl rfl)
theorem dX4_takesOf_8 : decode cX4_takesOf 8 = .ok (.goto 4, 3) := dk_167 0 4 (dk_at dksX4_takesOf_0 8 rfl rfl)
theorem dX4_takesOf_11 : decode cX4_takesOf 11 = .ok (.iconst 0, 1) := dk_3 (dk_at dksX4_takesOf_0 11 rfl rfl)
theorem dX4_takesOf_12 : decode cX4_takesOf 12 = .ok (.iload 4, 2) := dk_21 4 (dk_at dksX4_takesOf_0 12 rfl rfl)
theorem dX4_takesOf_14 : decode cX4_takesOf 14 = .ok (.invokevirtual 290, 3) := dk_182 1 34 (dk_at dksX4_takesOf_0 14 rfl rfl)
theorem dX4_takesOf_17 : decode cX4_takesOf 17 = .ok (.aload_n 0, 1) := dk_42 (dk_at dksX4_takesOf_0 17 rfl rfl)
theorem dX4_takesOf_18 : decode cX4_takesOf 18 = .ok (.iconst 1, 1) := dk_4 (dk_at dksX4_takesOf_0 18 rfl rfl)
theorem dX4_takesOf_19 : decode cX4_takesOf 19 = .ok (.iconst 1, 1) := dk_4 (dk_at dksX4_takesOf_0 19 rfl rfl)
theorem dX4_takesOf_20 : decode cX4_takesOf 20 = .ok (.bipush 20, 2) := dk_16 20 (dk_at dksX4_takesOf_0 20 rfl rfl)
theorem dX4_takesOf_22 : decode cX4_takesOf 22 = .ok (.iconst 4, 1) := dk_7 (dk_at dksX4_takesOf_0 22 rfl rfl)
theorem dX4_takesOf_23 : decode cX4_takesOf 23 = .ok (.invokevirtual 294, 3) := dk_182 1 38 (dk_at dksX4_takesOf_1 0 rfl rfl)
theorem dX4_takesOf_26 : decode cX4_takesOf 26 = .ok (.ireturn, 1) := dk_172 (dk_at dksX4_takesOf_1 3 rfl rfl)
abbrev cX4_asksOf : ByteArray := prog_29_method_54_code
def yX4_asksOf : MethodName := ⟨RX4, "asksOf", "(IIII)V"⟩
def dkwX4_asksOf_2 : List UInt8 := [182, 0, 150, 79, 42, 180, 0, 52, 8, 21, 4, 79, 42, 180, 0, 52, 16, 6, 27, 79, 177]
abbrev dktX4_asksOf_2 : List UInt8 := dkwX4_asksOf_2 ++ []
def dkwX4_asksOf_1 : List UInt8 := [42, 180, 0, 52, 5, 28, 79, 42, 180, 0, 52, 6, 29, 79, 42, 180, 0, 52, 7, 42, 27, 6]
abbrev dktX4_asksOf_1 : List UInt8 := dkwX4_asksOf_1 ++ dktX4_asksOf_2
def dkwX4_asksOf_0 : List UInt8 := [42, 180, 0, 52, 3, 42, 27, 3, 182, 0, 150, 79, 42, 180, 0, 52, 4, 42, 27, 4, 182, 0, 150, 79]
abbrev dktX4_asksOf_0 : List UInt8 := dkwX4_asksOf_0 ++ dktX4_asksOf_1
theorem dksX4_asksOf_0 : cX4_asksOf.data.toList.drop 0 = dktX4_asksOf_0 := by decide +kernel
theorem dksX4_asksOf_1 : cX4_asksOf.data.toList.drop 24 = dktX4_asksOf_1 := dk_seg dksX4_asksOf_0 24 rfl rfl
theorem dksX4_asksOf_2 : cX4_asksOf.data.toList.drop 46 = dktX4_asksOf_2 := dk_seg dksX4_asksOf_1 22 rfl rfl
theorem dX4_asksOf_0 : decode cX4_asksOf 0 = .ok (.aload_n 0, 1) := dk_42 (dk_at dksX4_asksOf_0 0 rfl rfl)
theorem dX4_asksOf_1 : decode cX4_asksOf 1 = .ok (.getfield 52, 3) := dk_180 0 52 (dk_at dksX4_asksOf_0 1 rfl rfl)
theorem dX4_asksOf_4 : decode cX4_asksOf 4 = .ok (.iconst 0, 1) := dk_3 (dk_at dksX4_asksOf_0 4 rfl rfl)
theorem dX4_asksOf_5 : decode cX4_asksOf 5 = .ok (.aload_n 0, 1) := dk_42 (dk_at dksX4_asksOf_0 5 rfl rfl)
theorem dX4_asksOf_6 : decode cX4_asksOf 6 = .ok (.iload_n 1, 1) := dk_27 (dk_at dksX4_asksOf_0 6 rfl rfl)
theorem dX4_asksOf_7 : decode cX4_asksOf 7 = .ok (.iconst 0, 1) := dk_3 (dk_at dksX4_asksOf_0 7 rfl rfl)
theorem dX4_asksOf_8 : decode cX4_asksOf 8 = .ok (.invokevirtual 150, 3) := dk_182 0 150 (dk_at dksX4_asksOf_0 8 rfl rfl)
theorem dX4_asksOf_11 : decode cX4_asksOf 11 = .ok (.iastore, 1) := dk_79 (dk_at dksX4_asksOf_0 11 rfl rfl)
theorem dX4_asksOf_12 : decode cX4_asksOf 12 = .ok (.aload_n 0, 1) := dk_42 (dk_at dksX4_asksOf_0 12 rfl rfl)
theorem dX4_asksOf_13 : decode cX4_asksOf 13 = .ok (.getfield 52, 3) := dk_180 0 52 (dk_at dksX4_asksOf_0 13 rfl rfl)
theorem dX4_asksOf_16 : decode cX4_asksOf 16 = .ok (.iconst 1, 1) := dk_4 (dk_at dksX4_asksOf_0 16 rfl rfl)
theorem dX4_asksOf_17 : decode cX4_asksOf 17 = .ok (.aload_n 0, 1) := dk_42 (dk_at dksX4_asksOf_0 17 rfl rfl)
theorem dX4_asksOf_18 : decode cX4_asksOf 18 = .ok (.iload_n 1, 1) := dk_27 (dk_at dksX4_asksOf_0 18 rfl rfl)
theorem dX4_asksOf_19 : decode cX4_asksOf 19 = .ok (.iconst 1, 1) := dk_4 (dk_at dksX4_asksOf_0 19 rfl rfl)
theorem dX4_asksOf_20 : decode cX4_asksOf 20 = .ok (.invokevirtual 150, 3) := dk_182 0 150 (dk_at dksX4_asksOf_0 20 rfl rfl)
theorem dX4_asksOf_23 : decode cX4_asksOf 23 = .ok (.iastore, 1) := dk_79 (dk_at dksX4_asksOf_0 23 rfl rfl)
theorem dX4_asksOf_24 : decode cX4_asksOf 24 = .ok (.aload_n 0, 1) := dk_42 (dk_at dksX4_asksOf_1 0 rfl rfl)
theorem dX4_asksOf_25 : decode cX4_asksOf 25 = .ok (.getfield 52, 3) := dk_180 0 52 (dk_at dksX4_asksOf_1 1 rfl rfl)
theorem dX4_asksOf_28 : decode cX4_asksOf 28 = .ok (.iconst 2, 1) := dk_5 (dk_at dksX4_asksOf_1 4 rfl rfl)
theorem dX4_asksOf_29 : decode cX4_asksOf 29 = .ok (.iload_n 2, 1) := dk_28 (dk_at dksX4_asksOf_1 5 rfl rfl)
theorem dX4_asksOf_30 : decode cX4_asksOf 30 = .ok (.iastore, 1) := dk_79 (dk_at dksX4_asksOf_1 6 rfl rfl)
theorem dX4_asksOf_31 : decode cX4_asksOf 31 = .ok (.aload_n 0, 1) := dk_42 (dk_at dksX4_asksOf_1 7 rfl rfl)
theorem dX4_asksOf_32 : decode cX4_asksOf 32 = .ok (.getfield 52, 3) := dk_180 0 52 (dk_at dksX4_asksOf_1 8 rfl rfl)
theorem dX4_asksOf_35 : decode cX4_asksOf 35 = .ok (.iconst 3, 1) := dk_6 (dk_at dksX4_asksOf_1 11 rfl rfl)
theorem dX4_asksOf_36 : decode cX4_asksOf 36 = .ok (.iload_n 3, 1) := dk_29 (dk_at dksX4_asksOf_1 12 rfl rfl)
theorem dX4_asksOf_37 : decode cX4_asksOf 37 = .ok (.iastore, 1) := dk_79 (dk_at dksX4_asksOf_1 13 rfl rfl)
theorem dX4_asksOf_38 : decode cX4_asksOf 38 = .ok (.aload_n 0, 1) := dk_42 (dk_at dksX4_asksOf_1 14 rfl rfl)
theorem dX4_asksOf_39 : decode cX4_asksOf 39 = .ok (.getfield 52, 3) := dk_180 0 52 (dk_at dksX4_asksOf_1 15 rfl rfl)
theorem dX4_asksOf_42 : decode cX4_asksOf 42 = .ok (.iconst 4, 1) := dk_7 (dk_at dksX4_asksOf_1 18 rfl rfl)
theorem dX4_asksOf_43 : decode cX4_asksOf 43 = .ok (.aload_n 0, 1) := dk_42 (dk_at dksX4_asksOf_1 19 rfl rfl)
theorem dX4_asksOf_44 : decode cX4_asksOf 44 = .ok (.iload_n 1, 1) := dk_27 (dk_at dksX4_asksOf_1 20 rfl rfl)
theorem dX4_asksOf_45 : decode cX4_asksOf 45 = .ok (.iconst 3, 1) := dk_6 (dk_at dksX4_asksOf_1 21 rfl rfl)
theorem dX4_asksOf_46 : decode cX4_asksOf 46 = .ok (.invokevirtual 150, 3) := dk_182 0 150 (dk_at dksX4_asksOf_2 0 rfl rfl)
theorem dX4_asksOf_49 : decode cX4_asksOf 49 = .ok (.iastore, 1) := dk_79 (dk_at dksX4_asksOf_2 3 rfl rfl)
theorem dX4_asksOf_50 : decode cX4_asksOf 50 = .ok (.aload_n 0, 1) := dk_42 (dk_at dksX4_asksOf_2 4 rfl rfl)
theorem dX4_asksOf_51 : decode cX4_asksOf 51 = .ok (.getfield 52, 3) := dk_180 0 52 (dk_at dksX4_asksOf_2 5 rfl rfl)
theorem dX4_asksOf_54 : decode cX4_asksOf 54 = .ok (.iconst 5, 1) := dk_8 (dk_at dksX4_asksOf_2 8 rfl rfl)
theorem dX4_asksOf_55 : decode cX4_asksOf 55 = .ok (.iload 4, 2) := dk_21 4 (dk_at dksX4_asksOf_2 9 rfl rfl)
theorem dX4_asksOf_57 : decode cX4_asksOf 57 = .ok (.iastore, 1) := dk_79 (dk_at dksX4_asksOf_2 11 rfl rfl)
theorem dX4_asksOf_58 : decode cX4_asksOf 58 = .ok (.aload_n 0, 1) := dk_42 (dk_at dksX4_asksOf_2 12 rfl rfl)
theorem dX4_asksOf_59 : decode cX4_asksOf 59 = .ok (.getfield 52, 3) := dk_180 0 52 (dk_at dksX4_asksOf_2 13 rfl rfl)
theorem dX4_asksOf_62 : decode cX4_asksOf 62 = .ok (.bipush 6, 2) := dk_16 6 (dk_at dksX4_asksOf_2 16 rfl rfl)
theorem dX4_asksOf_64 : decode cX4_asksOf 64 = .ok (.iload_n 1, 1) := dk_27 (dk_at dksX4_asksOf_2 18 rfl rfl)
theorem dX4_asksOf_65 : decode cX4_asksOf 65 = .ok (.iastore, 1) := dk_79 (dk_at dksX4_asksOf_2 19 rfl rfl)
theorem dX4_asksOf_66 : decode cX4_asksOf 66 = .ok (.return_, 1) := dk_177 (dk_at dksX4_asksOf_2 20 rfl rfl)
abbrev cX4_told : ByteArray := prog_29_method_53_code
def yX4_told : MethodName := ⟨RX4, "told", "(IIII)I"⟩
def dkwX4_told_9 : List UInt8 := [54, 5, 167, 255, 105, 21, 5, 172]
abbrev dktX4_told_9 : List UInt8 := dkwX4_told_9 ++ []
def dkwX4_told_8 : List UInt8 := [133, 148, 156, 0, 7, 28, 167, 0, 18, 22, 7, 29, 133, 148, 158, 0, 7, 29, 167, 0, 6, 22, 7, 136]
abbrev dktX4_told_8 : List UInt8 := dkwX4_told_8 ++ dktX4_told_9
def dkwX4_told_7 : List UInt8 := [167, 0, 4, 3, 54, 10, 42, 89, 180, 0, 246, 4, 96, 181, 0, 246, 21, 10, 153, 0, 32, 22, 7, 28]
abbrev dktX4_told_7 : List UInt8 := dkwX4_told_7 ++ dktX4_told_8
def dkwX4_told_6 : List UInt8 := [153, 0, 25, 42, 180, 1, 0, 154, 0, 18, 21, 9, 154, 0, 13, 21, 6, 27, 160, 0, 7, 4]
abbrev dktX4_told_6 : List UInt8 := dkwX4_told_6 ++ dktX4_told_7
def dkwX4_told_5 : List UInt8 := [182, 1, 15, 153, 0, 11, 42, 4, 182, 1, 31, 153, 0, 7, 4, 167, 0, 4, 3, 54, 10, 21, 10]
abbrev dktX4_told_5 : List UInt8 := dkwX4_told_5 ++ dktX4_told_6
def dkwX4_told_4 : List UInt8 := [96, 181, 0, 246, 42, 4, 182, 1, 18, 55, 7, 42, 180, 1, 0, 54, 9, 42, 3, 181, 1, 0, 42, 7]
abbrev dktX4_told_4 : List UInt8 := dkwX4_told_4 ++ dktX4_told_5
def dkwX4_told_3 : List UInt8 := [162, 0, 146, 42, 3, 181, 1, 0, 42, 42, 180, 0, 246, 182, 0, 249, 54, 6, 42, 89, 180, 0, 246, 4]
abbrev dktX4_told_3 : List UInt8 := dkwX4_told_3 ++ dktX4_told_4
def dkwX4_told_2 : List UInt8 := [17, 1, 138, 46, 96, 46, 96, 181, 0, 243, 21, 4, 54, 5, 42, 180, 0, 246, 42, 180, 0, 243]
abbrev dktX4_told_2 : List UInt8 := dkwX4_told_2 ++ dktX4_told_3
def dkwX4_told_1 : List UInt8 := [17, 1, 138, 46, 104, 181, 0, 246, 42, 42, 180, 0, 246, 42, 180, 0, 20, 17, 1, 139, 42, 180, 0, 20]
abbrev dktX4_told_1 : List UInt8 := dkwX4_told_1 ++ dktX4_told_2
def dkwX4_told_0 : List UInt8 := [42, 180, 0, 20, 17, 1, 138, 46, 2, 160, 0, 6, 21, 4, 172, 42, 17, 1, 144, 42, 180, 0, 20]
abbrev dktX4_told_0 : List UInt8 := dkwX4_told_0 ++ dktX4_told_1
theorem dksX4_told_0 : cX4_told.data.toList.drop 0 = dktX4_told_0 := by decide +kernel
theorem dksX4_told_1 : cX4_told.data.toList.drop 23 = dktX4_told_1 := dk_seg dksX4_told_0 23 rfl rfl
theorem dksX4_told_2 : cX4_told.data.toList.drop 47 = dktX4_told_2 := dk_seg dksX4_told_1 24 rfl rfl
theorem dksX4_told_3 : cX4_told.data.toList.drop 69 = dktX4_told_3 := dk_seg dksX4_told_2 22 rfl rfl
theorem dksX4_told_4 : cX4_told.data.toList.drop 93 = dktX4_told_4 := dk_seg dksX4_told_3 24 rfl rfl
theorem dksX4_told_5 : cX4_told.data.toList.drop 117 = dktX4_told_5 := dk_seg dksX4_told_4 24 rfl rfl
theorem dksX4_told_6 : cX4_told.data.toList.drop 140 = dktX4_told_6 := dk_seg dksX4_told_5 23 rfl rfl
theorem dksX4_told_7 : cX4_told.data.toList.drop 162 = dktX4_told_7 := dk_seg dksX4_told_6 22 rfl rfl
theorem dksX4_told_8 : cX4_told.data.toList.drop 186 = dktX4_told_8 := dk_seg dksX4_told_7 24 rfl rfl
theorem dksX4_told_9 : cX4_told.data.toList.drop 210 = dktX4_told_9 := dk_seg dksX4_told_8 24 rfl rfl
theorem dX4_told_0 : decode cX4_told 0 = .ok (.aload_n 0, 1) := dk_42 (dk_at dksX4_told_0 0 rfl rfl)
theorem dX4_told_1 : decode cX4_told 1 = .ok (.getfield 20, 3) := dk_180 0 20 (dk_at dksX4_told_0 1 rfl rfl)
theorem dX4_told_4 : decode cX4_told 4 = .ok (.sipush 394, 3) := dk_17 1 138 (dk_at dksX4_told_0 4 rfl rfl)
theorem dX4_told_7 : decode cX4_told 7 = .ok (.iaload, 1) := dk_46 (dk_at dksX4_told_0 7 rfl rfl)
theorem dX4_told_8 : decode cX4_told 8 = .ok (.iconst (-1), 1) := dk_2 (dk_at dksX4_told_0 8 rfl rfl)
theorem dX4_told_9 : decode cX4_told 9 = .ok (.if_icmp .ne 6, 3) := dk_160 0 6 (dk_at dksX4_told_0 9 rfl rfl)
theorem dX4_told_12 : decode cX4_told 12 = .ok (.iload 4, 2) := dk_21 4 (dk_at dksX4_told_0 12 rfl rfl)
theorem dX4_told_14 : decode cX4_told 14 = .ok (.ireturn, 1) := dk_172 (dk_at dksX4_told_0 14 rfl rfl)
theorem dX4_told_15 : decode cX4_told 15 = .ok (.aload_n 0, 1) := dk_42 (dk_at dksX4_told_0 15 rfl rfl)
theorem dX4_told_16 : decode cX4_told 16 = .ok (.sipush 400, 3) := dk_17 1 144 (dk_at dksX4_told_0 16 rfl rfl)
theorem dX4_told_19 : decode cX4_told 19 = .ok (.aload_n 0, 1) := dk_42 (dk_at dksX4_told_0 19 rfl rfl)
theorem dX4_told_20 : decode cX4_told 20 = .ok (.getfield 20, 3) := dk_180 0 20 (dk_at dksX4_told_0 20 rfl rfl)
theorem dX4_told_23 : decode cX4_told 23 = .ok (.sipush 394, 3) := dk_17 1 138 (dk_at dksX4_told_1 0 rfl rfl)
theorem dX4_told_26 : decode cX4_told 26 = .ok (.iaload, 1) := dk_46 (dk_at dksX4_told_1 3 rfl rfl)
theorem dX4_told_27 : decode cX4_told 27 = .ok (.imul, 1) := dk_104 (dk_at dksX4_told_1 4 rfl rfl)
theorem dX4_told_28 : decode cX4_told 28 = .ok (.putfield 246, 3) := dk_181 0 246 (dk_at dksX4_told_1 5 rfl rfl)
theorem dX4_told_31 : decode cX4_told 31 = .ok (.aload_n 0, 1) := dk_42 (dk_at dksX4_told_1 8 rfl rfl)
theorem dX4_told_32 : decode cX4_told 32 = .ok (.aload_n 0, 1) := dk_42 (dk_at dksX4_told_1 9 rfl rfl)
theorem dX4_told_33 : decode cX4_told 33 = .ok (.getfield 246, 3) := dk_180 0 246 (dk_at dksX4_told_1 10 rfl rfl)
theorem dX4_told_36 : decode cX4_told 36 = .ok (.aload_n 0, 1) := dk_42 (dk_at dksX4_told_1 13 rfl rfl)
theorem dX4_told_37 : decode cX4_told 37 = .ok (.getfield 20, 3) := dk_180 0 20 (dk_at dksX4_told_1 14 rfl rfl)
theorem dX4_told_40 : decode cX4_told 40 = .ok (.sipush 395, 3) := dk_17 1 139 (dk_at dksX4_told_1 17 rfl rfl)
theorem dX4_told_43 : decode cX4_told 43 = .ok (.aload_n 0, 1) := dk_42 (dk_at dksX4_told_1 20 rfl rfl)
theorem dX4_told_44 : decode cX4_told 44 = .ok (.getfield 20, 3) := dk_180 0 20 (dk_at dksX4_told_1 21 rfl rfl)
theorem dX4_told_47 : decode cX4_told 47 = .ok (.sipush 394, 3) := dk_17 1 138 (dk_at dksX4_told_2 0 rfl rfl)
theorem dX4_told_50 : decode cX4_told 50 = .ok (.iaload, 1) := dk_46 (dk_at dksX4_told_2 3 rfl rfl)
theorem dX4_told_51 : decode cX4_told 51 = .ok (.iadd, 1) := dk_96 (dk_at dksX4_told_2 4 rfl rfl)
theorem dX4_told_52 : decode cX4_told 52 = .ok (.iaload, 1) := dk_46 (dk_at dksX4_told_2 5 rfl rfl)
theorem dX4_told_53 : decode cX4_told 53 = .ok (.iadd, 1) := dk_96 (dk_at dksX4_told_2 6 rfl rfl)
theorem dX4_told_54 : decode cX4_told 54 = .ok (.putfield 243, 3) := dk_181 0 243 (dk_at dksX4_told_2 7 rfl rfl)
theorem dX4_told_57 : decode cX4_told 57 = .ok (.iload 4, 2) := dk_21 4 (dk_at dksX4_told_2 10 rfl rfl)
theorem dX4_told_59 : decode cX4_told 59 = .ok (.istore 5, 2) := dk_54 5 (dk_at dksX4_told_2 12 rfl rfl)
theorem dX4_told_61 : decode cX4_told 61 = .ok (.aload_n 0, 1) := dk_42 (dk_at dksX4_told_2 14 rfl rfl)
theorem dX4_told_62 : decode cX4_told 62 = .ok (.getfield 246, 3) := dk_180 0 246 (dk_at dksX4_told_2 15 rfl rfl)
theorem dX4_told_65 : decode cX4_told 65 = .ok (.aload_n 0, 1) := dk_42 (dk_at dksX4_told_2 18 rfl rfl)
theorem dX4_told_66 : decode cX4_told 66 = .ok (.getfield 243, 3) := dk_180 0 243 (dk_at dksX4_told_2 19 rfl rfl)
theorem dX4_told_69 : decode cX4_told 69 = .ok (.if_icmp .ge 146, 3) := dk_162 0 146 (dk_at dksX4_told_3 0 rfl rfl)
theorem dX4_told_72 : decode cX4_told 72 = .ok (.aload_n 0, 1) := dk_42 (dk_at dksX4_told_3 3 rfl rfl)
theorem dX4_told_73 : decode cX4_told 73 = .ok (.iconst 0, 1) := dk_3 (dk_at dksX4_told_3 4 rfl rfl)
theorem dX4_told_74 : decode cX4_told 74 = .ok (.putfield 256, 3) := dk_181 1 0 (dk_at dksX4_told_3 5 rfl rfl)
theorem dX4_told_77 : decode cX4_told 77 = .ok (.aload_n 0, 1) := dk_42 (dk_at dksX4_told_3 8 rfl rfl)
theorem dX4_told_78 : decode cX4_told 78 = .ok (.aload_n 0, 1) := dk_42 (dk_at dksX4_told_3 9 rfl rfl)
theorem dX4_told_79 : decode cX4_told 79 = .ok (.getfield 246, 3) := dk_180 0 246 (dk_at dksX4_told_3 10 rfl rfl)
theorem dX4_told_82 : decode cX4_told 82 = .ok (.invokevirtual 249, 3) := dk_182 0 249 (dk_at dksX4_told_3 13 rfl rfl)
theorem dX4_told_85 : decode cX4_told 85 = .ok (.istore 6, 2) := dk_54 6 (dk_at dksX4_told_3 16 rfl rfl)
theorem dX4_told_87 : decode cX4_told 87 = .ok (.aload_n 0, 1) := dk_42 (dk_at dksX4_told_3 18 rfl rfl)
theorem dX4_told_88 : decode cX4_told 88 = .ok (.dup, 1) := dk_89 (dk_at dksX4_told_3 19 rfl rfl)
theorem dX4_told_89 : decode cX4_told 89 = .ok (.getfield 246, 3) := dk_180 0 246 (dk_at dksX4_told_3 20 rfl rfl)
theorem dX4_told_92 : decode cX4_told 92 = .ok (.iconst 1, 1) := dk_4 (dk_at dksX4_told_3 23 rfl rfl)
theorem dX4_told_93 : decode cX4_told 93 = .ok (.iadd, 1) := dk_96 (dk_at dksX4_told_4 0 rfl rfl)
theorem dX4_told_94 : decode cX4_told 94 = .ok (.putfield 246, 3) := dk_181 0 246 (dk_at dksX4_told_4 1 rfl rfl)
theorem dX4_told_97 : decode cX4_told 97 = .ok (.aload_n 0, 1) := dk_42 (dk_at dksX4_told_4 4 rfl rfl)
theorem dX4_told_98 : decode cX4_told 98 = .ok (.iconst 1, 1) := dk_4 (dk_at dksX4_told_4 5 rfl rfl)
theorem dX4_told_99 : decode cX4_told 99 = .ok (.invokevirtual 274, 3) := dk_182 1 18 (dk_at dksX4_told_4 6 rfl rfl)
theorem dX4_told_102 : decode cX4_told 102 = .ok (.lstore 7, 2) := dk_55 7 (dk_at dksX4_told_4 9 rfl rfl)
theorem dX4_told_104 : decode cX4_told 104 = .ok (.aload_n 0, 1) := dk_42 (dk_at dksX4_told_4 11 rfl rfl)
theorem dX4_told_105 : decode cX4_told 105 = .ok (.getfield 256, 3) := dk_180 1 0 (dk_at dksX4_told_4 12 rfl rfl)
theorem dX4_told_108 : decode cX4_told 108 = .ok (.istore 9, 2) := dk_54 9 (dk_at dksX4_told_4 15 rfl rfl)
theorem dX4_told_110 : decode cX4_told 110 = .ok (.aload_n 0, 1) := dk_42 (dk_at dksX4_told_4 17 rfl rfl)
theorem dX4_told_111 : decode cX4_told 111 = .ok (.iconst 0, 1) := dk_3 (dk_at dksX4_told_4 18 rfl rfl)
theorem dX4_told_112 : decode cX4_told 112 = .ok (.putfield 256, 3) := dk_181 1 0 (dk_at dksX4_told_4 19 rfl rfl)
theorem dX4_told_115 : decode cX4_told 115 = .ok (.aload_n 0, 1) := dk_42 (dk_at dksX4_told_4 22 rfl rfl)
theorem dX4_told_116 : decode cX4_told 116 = .ok (.iconst 4, 1) := dk_7 (dk_at dksX4_told_4 23 rfl rfl)
theorem dX4_told_117 : decode cX4_told 117 = .ok (.invokevirtual 271, 3) := dk_182 1 15 (dk_at dksX4_told_5 0 rfl rfl)
theorem dX4_told_120 : decode cX4_told 120 = .ok (.ifCond .eq 11, 3) := dk_153 0 11 (dk_at dksX4_told_5 3 rfl rfl)
theorem dX4_told_123 : decode cX4_told 123 = .ok (.aload_n 0, 1) := dk_42 (dk_at dksX4_told_5 6 rfl rfl)
theorem dX4_told_124 : decode cX4_told 124 = .ok (.iconst 1, 1) := dk_4 (dk_at dksX4_told_5 7 rfl rfl)
theorem dX4_told_125 : decode cX4_told 125 = .ok (.invokevirtual 287, 3) := dk_182 1 31 (dk_at dksX4_told_5 8 rfl rfl)
theorem dX4_told_128 : decode cX4_told 128 = .ok (.ifCond .eq 7, 3) := dk_153 0 7 (dk_at dksX4_told_5 11 rfl rfl)
theorem dX4_told_131 : decode cX4_told 131 = .ok (.iconst 1, 1) := dk_4 (dk_at dksX4_told_5 14 rfl rfl)
theorem dX4_told_132 : decode cX4_told 132 = .ok (.goto 4, 3) := dk_167 0 4 (dk_at dksX4_told_5 15 rfl rfl)
theorem dX4_told_135 : decode cX4_told 135 = .ok (.iconst 0, 1) := dk_3 (dk_at dksX4_told_5 18 rfl rfl)
theorem dX4_told_136 : decode cX4_told 136 = .ok (.istore 10, 2) := dk_54 10 (dk_at dksX4_told_5 19 rfl rfl)
theorem dX4_told_138 : decode cX4_told 138 = .ok (.iload 10, 2) := dk_21 10 (dk_at dksX4_told_5 21 rfl rfl)
theorem dX4_told_140 : decode cX4_told 140 = .ok (.ifCond .eq 25, 3) := dk_153 0 25 (dk_at dksX4_told_6 0 rfl rfl)
theorem dX4_told_143 : decode cX4_told 143 = .ok (.aload_n 0, 1) := dk_42 (dk_at dksX4_told_6 3 rfl rfl)
theorem dX4_told_144 : decode cX4_told 144 = .ok (.getfield 256, 3) := dk_180 1 0 (dk_at dksX4_told_6 4 rfl rfl)
theorem dX4_told_147 : decode cX4_told 147 = .ok (.ifCond .ne 18, 3) := dk_154 0 18 (dk_at dksX4_told_6 7 rfl rfl)
theorem dX4_told_150 : decode cX4_told 150 = .ok (.iload 9, 2) := dk_21 9 (dk_at dksX4_told_6 10 rfl rfl)
theorem dX4_told_152 : decode cX4_told 152 = .ok (.ifCond .ne 13, 3) := dk_154 0 13 (dk_at dksX4_told_6 12 rfl rfl)
theorem dX4_told_155 : decode cX4_told 155 = .ok (.iload 6, 2) := dk_21 6 (dk_at dksX4_told_6 15 rfl rfl)
theorem dX4_told_157 : decode cX4_told 157 = .ok (.iload_n 1, 1) := dk_27 (dk_at dksX4_told_6 17 rfl rfl)
theorem dX4_told_158 : decode cX4_told 158 = .ok (.if_icmp .ne 7, 3) := dk_160 0 7 (dk_at dksX4_told_6 18 rfl rfl)
theorem dX4_told_161 : decode cX4_told 161 = .ok (.iconst 1, 1) := dk_4 (dk_at dksX4_told_6 21 rfl rfl)
theorem dX4_told_162 : decode cX4_told 162 = .ok (.goto 4, 3) := dk_167 0 4 (dk_at dksX4_told_7 0 rfl rfl)
theorem dX4_told_165 : decode cX4_told 165 = .ok (.iconst 0, 1) := dk_3 (dk_at dksX4_told_7 3 rfl rfl)
theorem dX4_told_166 : decode cX4_told 166 = .ok (.istore 10, 2) := dk_54 10 (dk_at dksX4_told_7 4 rfl rfl)
theorem dX4_told_168 : decode cX4_told 168 = .ok (.aload_n 0, 1) := dk_42 (dk_at dksX4_told_7 6 rfl rfl)
theorem dX4_told_169 : decode cX4_told 169 = .ok (.dup, 1) := dk_89 (dk_at dksX4_told_7 7 rfl rfl)
theorem dX4_told_170 : decode cX4_told 170 = .ok (.getfield 246, 3) := dk_180 0 246 (dk_at dksX4_told_7 8 rfl rfl)
theorem dX4_told_173 : decode cX4_told 173 = .ok (.iconst 1, 1) := dk_4 (dk_at dksX4_told_7 11 rfl rfl)
theorem dX4_told_174 : decode cX4_told 174 = .ok (.iadd, 1) := dk_96 (dk_at dksX4_told_7 12 rfl rfl)
theorem dX4_told_175 : decode cX4_told 175 = .ok (.putfield 246, 3) := dk_181 0 246 (dk_at dksX4_told_7 13 rfl rfl)
theorem dX4_told_178 : decode cX4_told 178 = .ok (.iload 10, 2) := dk_21 10 (dk_at dksX4_told_7 16 rfl rfl)
theorem dX4_told_180 : decode cX4_told 180 = .ok (.ifCond .eq 32, 3) := dk_153 0 32 (dk_at dksX4_told_7 18 rfl rfl)
theorem dX4_told_183 : decode cX4_told 183 = .ok (.lload 7, 2) := dk_22 7 (dk_at dksX4_told_7 21 rfl rfl)
theorem dX4_told_185 : decode cX4_told 185 = .ok (.iload_n 2, 1) := dk_28 (dk_at dksX4_told_7 23 rfl rfl)
theorem dX4_told_186 : decode cX4_told 186 = .ok (.i2l, 1) := dk_133 (dk_at dksX4_told_8 0 rfl rfl)
theorem dX4_told_187 : decode cX4_told 187 = .ok (.lcmp, 1) := dk_148 (dk_at dksX4_told_8 1 rfl rfl)
theorem dX4_told_188 : decode cX4_told 188 = .ok (.ifCond .ge 7, 3) := dk_156 0 7 (dk_at dksX4_told_8 2 rfl rfl)
theorem dX4_told_191 : decode cX4_told 191 = .ok (.iload_n 2, 1) := dk_28 (dk_at dksX4_told_8 5 rfl rfl)
theorem dX4_told_192 : decode cX4_told 192 = .ok (.goto 18, 3) := dk_167 0 18 (dk_at dksX4_told_8 6 rfl rfl)
theorem dX4_told_195 : decode cX4_told 195 = .ok (.lload 7, 2) := dk_22 7 (dk_at dksX4_told_8 9 rfl rfl)
theorem dX4_told_197 : decode cX4_told 197 = .ok (.iload_n 3, 1) := dk_29 (dk_at dksX4_told_8 11 rfl rfl)
theorem dX4_told_198 : decode cX4_told 198 = .ok (.i2l, 1) := dk_133 (dk_at dksX4_told_8 12 rfl rfl)
theorem dX4_told_199 : decode cX4_told 199 = .ok (.lcmp, 1) := dk_148 (dk_at dksX4_told_8 13 rfl rfl)
theorem dX4_told_200 : decode cX4_told 200 = .ok (.ifCond .le 7, 3) := dk_158 0 7 (dk_at dksX4_told_8 14 rfl rfl)
theorem dX4_told_203 : decode cX4_told 203 = .ok (.iload_n 3, 1) := dk_29 (dk_at dksX4_told_8 17 rfl rfl)
theorem dX4_told_204 : decode cX4_told 204 = .ok (.goto 6, 3) := dk_167 0 6 (dk_at dksX4_told_8 18 rfl rfl)
theorem dX4_told_207 : decode cX4_told 207 = .ok (.lload 7, 2) := dk_22 7 (dk_at dksX4_told_8 21 rfl rfl)
theorem dX4_told_209 : decode cX4_told 209 = .ok (.l2i, 1) := dk_136 (dk_at dksX4_told_8 23 rfl rfl)
theorem dX4_told_210 : decode cX4_told 210 = .ok (.istore 5, 2) := dk_54 5 (dk_at dksX4_told_9 0 rfl rfl)
theorem dX4_told_212 : decode cX4_told 212 = .ok (.goto (-151), 3) := dk_167 255 105 (dk_at dksX4_told_9 2 rfl rfl)
theorem dX4_told_215 : decode cX4_told 215 = .ok (.iload 5, 2) := dk_21 5 (dk_at dksX4_told_9 5 rfl rfl)
theorem dX4_told_217 : decode cX4_told 217 = .ok (.ireturn, 1) := dk_172 (dk_at dksX4_told_9 7 rfl rfl)
abbrev cX4_codeAt : ByteArray := prog_29_method_43_code
def yX4_codeAt : MethodName := ⟨RX4, "codeAt", "(I)I"⟩
def dkwX4_codeAt_0 : List UInt8 := [27, 42, 180, 0, 243, 162, 0, 16, 42, 180, 0, 20, 17, 1, 145, 27, 96, 46, 167, 0, 4, 3, 172]
abbrev dktX4_codeAt_0 : List UInt8 := dkwX4_codeAt_0 ++ []
theorem dksX4_codeAt_0 : cX4_codeAt.data.toList.drop 0 = dktX4_codeAt_0 := by decide +kernel
theorem dX4_codeAt_0 : decode cX4_codeAt 0 = .ok (.iload_n 1, 1) := dk_27 (dk_at dksX4_codeAt_0 0 rfl rfl)
theorem dX4_codeAt_1 : decode cX4_codeAt 1 = .ok (.aload_n 0, 1) := dk_42 (dk_at dksX4_codeAt_0 1 rfl rfl)
theorem dX4_codeAt_2 : decode cX4_codeAt 2 = .ok (.getfield 243, 3) := dk_180 0 243 (dk_at dksX4_codeAt_0 2 rfl rfl)
theorem dX4_codeAt_5 : decode cX4_codeAt 5 = .ok (.if_icmp .ge 16, 3) := dk_162 0 16 (dk_at dksX4_codeAt_0 5 rfl rfl)
theorem dX4_codeAt_8 : decode cX4_codeAt 8 = .ok (.aload_n 0, 1) := dk_42 (dk_at dksX4_codeAt_0 8 rfl rfl)
theorem dX4_codeAt_9 : decode cX4_codeAt 9 = .ok (.getfield 20, 3) := dk_180 0 20 (dk_at dksX4_codeAt_0 9 rfl rfl)
theorem dX4_codeAt_12 : decode cX4_codeAt 12 = .ok (.sipush 401, 3) := dk_17 1 145 (dk_at dksX4_codeAt_0 12 rfl rfl)
theorem dX4_codeAt_15 : decode cX4_codeAt 15 = .ok (.iload_n 1, 1) := dk_27 (dk_at dksX4_codeAt_0 15 rfl rfl)
theorem dX4_codeAt_16 : decode cX4_codeAt 16 = .ok (.iadd, 1) := dk_96 (dk_at dksX4_codeAt_0 16 rfl rfl)
theorem dX4_codeAt_17 : decode cX4_codeAt 17 = .ok (.iaload, 1) := dk_46 (dk_at dksX4_codeAt_0 17 rfl rfl)
theorem dX4_codeAt_18 : decode cX4_codeAt 18 = .ok (.goto 4, 3) := dk_167 0 4 (dk_at dksX4_codeAt_0 18 rfl rfl)
theorem dX4_codeAt_21 : decode cX4_codeAt 21 = .ok (.iconst 0, 1) := dk_3 (dk_at dksX4_codeAt_0 21 rfl rfl)
theorem dX4_codeAt_22 : decode cX4_codeAt 22 = .ok (.ireturn, 1) := dk_172 (dk_at dksX4_codeAt_0 22 rfl rfl)
abbrev cX4_sumOf : ByteArray := prog_29_method_46_code
def yX4_sumOf : MethodName := ⟨RX4, "sumOf", "(Z)J"⟩
def dkwX4_sumOf_4 : List UInt8 := [182, 1, 8, 65, 167, 255, 162, 32, 173]
abbrev dktX4_sumOf_4 : List UInt8 := dkwX4_sumOf_4 ++ []
def dkwX4_sumOf_3 : List UInt8 := [27, 182, 1, 4, 55, 5, 42, 21, 4, 153, 0, 10, 32, 22, 5, 97, 167, 0, 7, 32, 22, 5, 101, 27]
abbrev dktX4_sumOf_3 : List UInt8 := dkwX4_sumOf_3 ++ dktX4_sumOf_4
def dkwX4_sumOf_2 : List UInt8 := [184, 0, 221, 160, 0, 7, 4, 167, 0, 4, 3, 54, 4, 42, 89, 180, 0, 246, 4, 96, 181, 0, 246, 42]
abbrev dktX4_sumOf_2 : List UInt8 := dkwX4_sumOf_2 ++ dktX4_sumOf_3
def dkwX4_sumOf_1 : List UInt8 := [180, 0, 246, 182, 0, 249, 16, 45, 184, 0, 221, 160, 0, 68, 42, 42, 180, 0, 246, 182, 0, 249, 16, 43]
abbrev dktX4_sumOf_1 : List UInt8 := dkwX4_sumOf_1 ++ dktX4_sumOf_2
def dkwX4_sumOf_0 : List UInt8 := [42, 27, 182, 1, 4, 65, 42, 42, 180, 0, 246, 182, 0, 249, 16, 43, 184, 0, 221, 159, 0, 19, 42, 42]
abbrev dktX4_sumOf_0 : List UInt8 := dkwX4_sumOf_0 ++ dktX4_sumOf_1
theorem dksX4_sumOf_0 : cX4_sumOf.data.toList.drop 0 = dktX4_sumOf_0 := by decide +kernel
theorem dksX4_sumOf_1 : cX4_sumOf.data.toList.drop 24 = dktX4_sumOf_1 := dk_seg dksX4_sumOf_0 24 rfl rfl
theorem dksX4_sumOf_2 : cX4_sumOf.data.toList.drop 48 = dktX4_sumOf_2 := dk_seg dksX4_sumOf_1 24 rfl rfl
theorem dksX4_sumOf_3 : cX4_sumOf.data.toList.drop 72 = dktX4_sumOf_3 := dk_seg dksX4_sumOf_2 24 rfl rfl
theorem dksX4_sumOf_4 : cX4_sumOf.data.toList.drop 96 = dktX4_sumOf_4 := dk_seg dksX4_sumOf_3 24 rfl rfl
theorem dX4_sumOf_0 : decode cX4_sumOf 0 = .ok (.aload_n 0, 1) := dk_42 (dk_at dksX4_sumOf_0 0 rfl rfl)
theorem dX4_sumOf_1 : decode cX4_sumOf 1 = .ok (.iload_n 1, 1) := dk_27 (dk_at dksX4_sumOf_0 1 rfl rfl)
theorem dX4_sumOf_2 : decode cX4_sumOf 2 = .ok (.invokevirtual 260, 3) := dk_182 1 4 (dk_at dksX4_sumOf_0 2 rfl rfl)
theorem dX4_sumOf_5 : decode cX4_sumOf 5 = .ok (.lstore_n 2, 1) := dk_65 (dk_at dksX4_sumOf_0 5 rfl rfl)
theorem dX4_sumOf_6 : decode cX4_sumOf 6 = .ok (.aload_n 0, 1) := dk_42 (dk_at dksX4_sumOf_0 6 rfl rfl)
theorem dX4_sumOf_7 : decode cX4_sumOf 7 = .ok (.aload_n 0, 1) := dk_42 (dk_at dksX4_sumOf_0 7 rfl rfl)
theorem dX4_sumOf_8 : decode cX4_sumOf 8 = .ok (.getfield 246, 3) := dk_180 0 246 (dk_at dksX4_sumOf_0 8 rfl rfl)
theorem dX4_sumOf_11 : decode cX4_sumOf 11 = .ok (.invokevirtual 249, 3) := dk_182 0 249 (dk_at dksX4_sumOf_0 11 rfl rfl)
theorem dX4_sumOf_14 : decode cX4_sumOf 14 = .ok (.bipush 43, 2) := dk_16 43 (dk_at dksX4_sumOf_0 14 rfl rfl)
theorem dX4_sumOf_16 : decode cX4_sumOf 16 = .ok (.invokestatic 221, 3) := dk_184 0 221 (dk_at dksX4_sumOf_0 16 rfl rfl)
theorem dX4_sumOf_19 : decode cX4_sumOf 19 = .ok (.if_icmp .eq 19, 3) := dk_159 0 19 (dk_at dksX4_sumOf_0 19 rfl rfl)
theorem dX4_sumOf_22 : decode cX4_sumOf 22 = .ok (.aload_n 0, 1) := dk_42 (dk_at dksX4_sumOf_0 22 rfl rfl)
theorem dX4_sumOf_23 : decode cX4_sumOf 23 = .ok (.aload_n 0, 1) := dk_42 (dk_at dksX4_sumOf_0 23 rfl rfl)
theorem dX4_sumOf_24 : decode cX4_sumOf 24 = .ok (.getfield 246, 3) := dk_180 0 246 (dk_at dksX4_sumOf_1 0 rfl rfl)
theorem dX4_sumOf_27 : decode cX4_sumOf 27 = .ok (.invokevirtual 249, 3) := dk_182 0 249 (dk_at dksX4_sumOf_1 3 rfl rfl)
theorem dX4_sumOf_30 : decode cX4_sumOf 30 = .ok (.bipush 45, 2) := dk_16 45 (dk_at dksX4_sumOf_1 6 rfl rfl)
theorem dX4_sumOf_32 : decode cX4_sumOf 32 = .ok (.invokestatic 221, 3) := dk_184 0 221 (dk_at dksX4_sumOf_1 8 rfl rfl)
theorem dX4_sumOf_35 : decode cX4_sumOf 35 = .ok (.if_icmp .ne 68, 3) := dk_160 0 68 (dk_at dksX4_sumOf_1 11 rfl rfl)
theorem dX4_sumOf_38 : decode cX4_sumOf 38 = .ok (.aload_n 0, 1) := dk_42 (dk_at dksX4_sumOf_1 14 rfl rfl)
theorem dX4_sumOf_39 : decode cX4_sumOf 39 = .ok (.aload_n 0, 1) := dk_42 (dk_at dksX4_sumOf_1 15 rfl rfl)
theorem dX4_sumOf_40 : decode cX4_sumOf 40 = .ok (.getfield 246, 3) := dk_180 0 246 (dk_at dksX4_sumOf_1 16 rfl rfl)
theorem dX4_sumOf_43 : decode cX4_sumOf 43 = .ok (.invokevirtual 249, 3) := dk_182 0 249 (dk_at dksX4_sumOf_1 19 rfl rfl)
theorem dX4_sumOf_46 : decode cX4_sumOf 46 = .ok (.bipush 43, 2) := dk_16 43 (dk_at dksX4_sumOf_1 22 rfl rfl)
theorem dX4_sumOf_48 : decode cX4_sumOf 48 = .ok (.invokestatic 221, 3) := dk_184 0 221 (dk_at dksX4_sumOf_2 0 rfl rfl)
theorem dX4_sumOf_51 : decode cX4_sumOf 51 = .ok (.if_icmp .ne 7, 3) := dk_160 0 7 (dk_at dksX4_sumOf_2 3 rfl rfl)
theorem dX4_sumOf_54 : decode cX4_sumOf 54 = .ok (.iconst 1, 1) := dk_4 (dk_at dksX4_sumOf_2 6 rfl rfl)
theorem dX4_sumOf_55 : decode cX4_sumOf 55 = .ok (.goto 4, 3) := dk_167 0 4 (dk_at dksX4_sumOf_2 7 rfl rfl)
theorem dX4_sumOf_58 : decode cX4_sumOf 58 = .ok (.iconst 0, 1) := dk_3 (dk_at dksX4_sumOf_2 10 rfl rfl)
theorem dX4_sumOf_59 : decode cX4_sumOf 59 = .ok (.istore 4, 2) := dk_54 4 (dk_at dksX4_sumOf_2 11 rfl rfl)
theorem dX4_sumOf_61 : decode cX4_sumOf 61 = .ok (.aload_n 0, 1) := dk_42 (dk_at dksX4_sumOf_2 13 rfl rfl)
theorem dX4_sumOf_62 : decode cX4_sumOf 62 = .ok (.dup, 1) := dk_89 (dk_at dksX4_sumOf_2 14 rfl rfl)
theorem dX4_sumOf_63 : decode cX4_sumOf 63 = .ok (.getfield 246, 3) := dk_180 0 246 (dk_at dksX4_sumOf_2 15 rfl rfl)
theorem dX4_sumOf_66 : decode cX4_sumOf 66 = .ok (.iconst 1, 1) := dk_4 (dk_at dksX4_sumOf_2 18 rfl rfl)
theorem dX4_sumOf_67 : decode cX4_sumOf 67 = .ok (.iadd, 1) := dk_96 (dk_at dksX4_sumOf_2 19 rfl rfl)
theorem dX4_sumOf_68 : decode cX4_sumOf 68 = .ok (.putfield 246, 3) := dk_181 0 246 (dk_at dksX4_sumOf_2 20 rfl rfl)
theorem dX4_sumOf_71 : decode cX4_sumOf 71 = .ok (.aload_n 0, 1) := dk_42 (dk_at dksX4_sumOf_2 23 rfl rfl)
theorem dX4_sumOf_72 : decode cX4_sumOf 72 = .ok (.iload_n 1, 1) := dk_27 (dk_at dksX4_sumOf_3 0 rfl rfl)
theorem dX4_sumOf_73 : decode cX4_sumOf 73 = .ok (.invokevirtual 260, 3) := dk_182 1 4 (dk_at dksX4_sumOf_3 1 rfl rfl)
theorem dX4_sumOf_76 : decode cX4_sumOf 76 = .ok (.lstore 5, 2) := dk_55 5 (dk_at dksX4_sumOf_3 4 rfl rfl)
theorem dX4_sumOf_78 : decode cX4_sumOf 78 = .ok (.aload_n 0, 1) := dk_42 (dk_at dksX4_sumOf_3 6 rfl rfl)
theorem dX4_sumOf_79 : decode cX4_sumOf 79 = .ok (.iload 4, 2) := dk_21 4 (dk_at dksX4_sumOf_3 7 rfl rfl)
theorem dX4_sumOf_81 : decode cX4_sumOf 81 = .ok (.ifCond .eq 10, 3) := dk_153 0 10 (dk_at dksX4_sumOf_3 9 rfl rfl)
theorem dX4_sumOf_84 : decode cX4_sumOf 84 = .ok (.lload_n 2, 1) := dk_32 (dk_at dksX4_sumOf_3 12 rfl rfl)
theorem dX4_sumOf_85 : decode cX4_sumOf 85 = .ok (.lload 5, 2) := dk_22 5 (dk_at dksX4_sumOf_3 13 rfl rfl)
theorem dX4_sumOf_87 : decode cX4_sumOf 87 = .ok (.ladd, 1) := dk_97 (dk_at dksX4_sumOf_3 15 rfl rfl)
theorem dX4_sumOf_88 : decode cX4_sumOf 88 = .ok (.goto 7, 3) := dk_167 0 7 (dk_at dksX4_sumOf_3 16 rfl rfl)
theorem dX4_sumOf_91 : decode cX4_sumOf 91 = .ok (.lload_n 2, 1) := dk_32 (dk_at dksX4_sumOf_3 19 rfl rfl)
theorem dX4_sumOf_92 : decode cX4_sumOf 92 = .ok (.lload 5, 2) := dk_22 5 (dk_at dksX4_sumOf_3 20 rfl rfl)
theorem dX4_sumOf_94 : decode cX4_sumOf 94 = .ok (.lsub, 1) := dk_101 (dk_at dksX4_sumOf_3 22 rfl rfl)
theorem dX4_sumOf_95 : decode cX4_sumOf 95 = .ok (.iload_n 1, 1) := dk_27 (dk_at dksX4_sumOf_3 23 rfl rfl)
theorem dX4_sumOf_96 : decode cX4_sumOf 96 = .ok (.invokevirtual 264, 3) := dk_182 1 8 (dk_at dksX4_sumOf_4 0 rfl rfl)
theorem dX4_sumOf_99 : decode cX4_sumOf 99 = .ok (.lstore_n 2, 1) := dk_65 (dk_at dksX4_sumOf_4 3 rfl rfl)
theorem dX4_sumOf_100 : decode cX4_sumOf 100 = .ok (.goto (-94), 3) := dk_167 255 162 (dk_at dksX4_sumOf_4 4 rfl rfl)
theorem dX4_sumOf_103 : decode cX4_sumOf 103 = .ok (.lload_n 2, 1) := dk_32 (dk_at dksX4_sumOf_4 7 rfl rfl)
theorem dX4_sumOf_104 : decode cX4_sumOf 104 = .ok (.lreturn, 1) := dk_173 (dk_at dksX4_sumOf_4 8 rfl rfl)
abbrev cX4_termOf : ByteArray := prog_29_method_47_code
def yX4_termOf : MethodName := ⟨RX4, "termOf", "(Z)J"⟩
def dkwX4_termOf_5 : List UInt8 := [32, 22, 5, 105, 167, 0, 7, 32, 22, 5, 109, 27, 182, 1, 8, 65, 167, 255, 127, 32, 173]
abbrev dktX4_termOf_5 : List UInt8 := dkwX4_termOf_5 ++ []
def dkwX4_termOf_4 : List UInt8 := [154, 0, 7, 27, 153, 0, 7, 4, 167, 0, 4, 3, 181, 1, 0, 10, 55, 5, 42, 21, 4, 153, 0, 10]
abbrev dktX4_termOf_4 : List UInt8 := dkwX4_termOf_4 ++ dktX4_termOf_5
def dkwX4_termOf_3 : List UInt8 := [27, 182, 1, 12, 55, 5, 21, 4, 154, 0, 33, 22, 5, 9, 148, 154, 0, 26, 42, 42, 180, 1, 0]
abbrev dktX4_termOf_3 : List UInt8 := dkwX4_termOf_3 ++ dktX4_termOf_4
def dkwX4_termOf_2 : List UInt8 := [184, 0, 221, 160, 0, 7, 4, 167, 0, 4, 3, 54, 4, 42, 89, 180, 0, 246, 4, 96, 181, 0, 246, 42]
abbrev dktX4_termOf_2 : List UInt8 := dkwX4_termOf_2 ++ dktX4_termOf_3
def dkwX4_termOf_1 : List UInt8 := [180, 0, 246, 182, 0, 249, 16, 47, 184, 0, 221, 160, 0, 103, 42, 42, 180, 0, 246, 182, 0, 249, 16, 42]
abbrev dktX4_termOf_1 : List UInt8 := dkwX4_termOf_1 ++ dktX4_termOf_2
def dkwX4_termOf_0 : List UInt8 := [42, 27, 182, 1, 12, 65, 42, 42, 180, 0, 246, 182, 0, 249, 16, 42, 184, 0, 221, 159, 0, 19, 42, 42]
abbrev dktX4_termOf_0 : List UInt8 := dkwX4_termOf_0 ++ dktX4_termOf_1
theorem dksX4_termOf_0 : cX4_termOf.data.toList.drop 0 = dktX4_termOf_0 := by decide +kernel
theorem dksX4_termOf_1 : cX4_termOf.data.toList.drop 24 = dktX4_termOf_1 := dk_seg dksX4_termOf_0 24 rfl rfl
theorem dksX4_termOf_2 : cX4_termOf.data.toList.drop 48 = dktX4_termOf_2 := dk_seg dksX4_termOf_1 24 rfl rfl
theorem dksX4_termOf_3 : cX4_termOf.data.toList.drop 72 = dktX4_termOf_3 := dk_seg dksX4_termOf_2 24 rfl rfl
theorem dksX4_termOf_4 : cX4_termOf.data.toList.drop 95 = dktX4_termOf_4 := dk_seg dksX4_termOf_3 23 rfl rfl
theorem dksX4_termOf_5 : cX4_termOf.data.toList.drop 119 = dktX4_termOf_5 := dk_seg dksX4_termOf_4 24 rfl rfl
theorem dX4_termOf_0 : decode cX4_termOf 0 = .ok (.aload_n 0, 1) := dk_42 (dk_at dksX4_termOf_0 0 rfl rfl)
theorem dX4_termOf_1 : decode cX4_termOf 1 = .ok (.iload_n 1, 1) := dk_27 (dk_at dksX4_termOf_0 1 rfl rfl)
theorem dX4_termOf_2 : decode cX4_termOf 2 = .ok (.invokevirtual 268, 3) := dk_182 1 12 (dk_at dksX4_termOf_0 2 rfl rfl)
theorem dX4_termOf_5 : decode cX4_termOf 5 = .ok (.lstore_n 2, 1) := dk_65 (dk_at dksX4_termOf_0 5 rfl rfl)
theorem dX4_termOf_6 : decode cX4_termOf 6 = .ok (.aload_n 0, 1) := dk_42 (dk_at dksX4_termOf_0 6 rfl rfl)
theorem dX4_termOf_7 : decode cX4_termOf 7 = .ok (.aload_n 0, 1) := dk_42 (dk_at dksX4_termOf_0 7 rfl rfl)
theorem dX4_termOf_8 : decode cX4_termOf 8 = .ok (.getfield 246, 3) := dk_180 0 246 (dk_at dksX4_termOf_0 8 rfl rfl)
theorem dX4_termOf_11 : decode cX4_termOf 11 = .ok (.invokevirtual 249, 3) := dk_182 0 249 (dk_at dksX4_termOf_0 11 rfl rfl)
theorem dX4_termOf_14 : decode cX4_termOf 14 = .ok (.bipush 42, 2) := dk_16 42 (dk_at dksX4_termOf_0 14 rfl rfl)
theorem dX4_termOf_16 : decode cX4_termOf 16 = .ok (.invokestatic 221, 3) := dk_184 0 221 (dk_at dksX4_termOf_0 16 rfl rfl)
theorem dX4_termOf_19 : decode cX4_termOf 19 = .ok (.if_icmp .eq 19, 3) := dk_159 0 19 (dk_at dksX4_termOf_0 19 rfl rfl)
theorem dX4_termOf_22 : decode cX4_termOf 22 = .ok (.aload_n 0, 1) := dk_42 (dk_at dksX4_termOf_0 22 rfl rfl)
theorem dX4_termOf_23 : decode cX4_termOf 23 = .ok (.aload_n 0, 1) := dk_42 (dk_at dksX4_termOf_0 23 rfl rfl)
theorem dX4_termOf_24 : decode cX4_termOf 24 = .ok (.getfield 246, 3) := dk_180 0 246 (dk_at dksX4_termOf_1 0 rfl rfl)
theorem dX4_termOf_27 : decode cX4_termOf 27 = .ok (.invokevirtual 249, 3) := dk_182 0 249 (dk_at dksX4_termOf_1 3 rfl rfl)
theorem dX4_termOf_30 : decode cX4_termOf 30 = .ok (.bipush 47, 2) := dk_16 47 (dk_at dksX4_termOf_1 6 rfl rfl)
theorem dX4_termOf_32 : decode cX4_termOf 32 = .ok (.invokestatic 221, 3) := dk_184 0 221 (dk_at dksX4_termOf_1 8 rfl rfl)
theorem dX4_termOf_35 : decode cX4_termOf 35 = .ok (.if_icmp .ne 103, 3) := dk_160 0 103 (dk_at dksX4_termOf_1 11 rfl rfl)
theorem dX4_termOf_38 : decode cX4_termOf 38 = .ok (.aload_n 0, 1) := dk_42 (dk_at dksX4_termOf_1 14 rfl rfl)
theorem dX4_termOf_39 : decode cX4_termOf 39 = .ok (.aload_n 0, 1) := dk_42 (dk_at dksX4_termOf_1 15 rfl rfl)
theorem dX4_termOf_40 : decode cX4_termOf 40 = .ok (.getfield 246, 3) := dk_180 0 246 (dk_at dksX4_termOf_1 16 rfl rfl)
theorem dX4_termOf_43 : decode cX4_termOf 43 = .ok (.invokevirtual 249, 3) := dk_182 0 249 (dk_at dksX4_termOf_1 19 rfl rfl)
theorem dX4_termOf_46 : decode cX4_termOf 46 = .ok (.bipush 42, 2) := dk_16 42 (dk_at dksX4_termOf_1 22 rfl rfl)
theorem dX4_termOf_48 : decode cX4_termOf 48 = .ok (.invokestatic 221, 3) := dk_184 0 221 (dk_at dksX4_termOf_2 0 rfl rfl)
theorem dX4_termOf_51 : decode cX4_termOf 51 = .ok (.if_icmp .ne 7, 3) := dk_160 0 7 (dk_at dksX4_termOf_2 3 rfl rfl)
theorem dX4_termOf_54 : decode cX4_termOf 54 = .ok (.iconst 1, 1) := dk_4 (dk_at dksX4_termOf_2 6 rfl rfl)
theorem dX4_termOf_55 : decode cX4_termOf 55 = .ok (.goto 4, 3) := dk_167 0 4 (dk_at dksX4_termOf_2 7 rfl rfl)
theorem dX4_termOf_58 : decode cX4_termOf 58 = .ok (.iconst 0, 1) := dk_3 (dk_at dksX4_termOf_2 10 rfl rfl)
theorem dX4_termOf_59 : decode cX4_termOf 59 = .ok (.istore 4, 2) := dk_54 4 (dk_at dksX4_termOf_2 11 rfl rfl)
theorem dX4_termOf_61 : decode cX4_termOf 61 = .ok (.aload_n 0, 1) := dk_42 (dk_at dksX4_termOf_2 13 rfl rfl)
theorem dX4_termOf_62 : decode cX4_termOf 62 = .ok (.dup, 1) := dk_89 (dk_at dksX4_termOf_2 14 rfl rfl)
theorem dX4_termOf_63 : decode cX4_termOf 63 = .ok (.getfield 246, 3) := dk_180 0 246 (dk_at dksX4_termOf_2 15 rfl rfl)
theorem dX4_termOf_66 : decode cX4_termOf 66 = .ok (.iconst 1, 1) := dk_4 (dk_at dksX4_termOf_2 18 rfl rfl)
theorem dX4_termOf_67 : decode cX4_termOf 67 = .ok (.iadd, 1) := dk_96 (dk_at dksX4_termOf_2 19 rfl rfl)
theorem dX4_termOf_68 : decode cX4_termOf 68 = .ok (.putfield 246, 3) := dk_181 0 246 (dk_at dksX4_termOf_2 20 rfl rfl)
theorem dX4_termOf_71 : decode cX4_termOf 71 = .ok (.aload_n 0, 1) := dk_42 (dk_at dksX4_termOf_2 23 rfl rfl)
theorem dX4_termOf_72 : decode cX4_termOf 72 = .ok (.iload_n 1, 1) := dk_27 (dk_at dksX4_termOf_3 0 rfl rfl)
theorem dX4_termOf_73 : decode cX4_termOf 73 = .ok (.invokevirtual 268, 3) := dk_182 1 12 (dk_at dksX4_termOf_3 1 rfl rfl)
theorem dX4_termOf_76 : decode cX4_termOf 76 = .ok (.lstore 5, 2) := dk_55 5 (dk_at dksX4_termOf_3 4 rfl rfl)
theorem dX4_termOf_78 : decode cX4_termOf 78 = .ok (.iload 4, 2) := dk_21 4 (dk_at dksX4_termOf_3 6 rfl rfl)
theorem dX4_termOf_80 : decode cX4_termOf 80 = .ok (.ifCond .ne 33, 3) := dk_154 0 33 (dk_at dksX4_termOf_3 8 rfl rfl)
theorem dX4_termOf_83 : decode cX4_termOf 83 = .ok (.lload 5, 2) := dk_22 5 (dk_at dksX4_termOf_3 11 rfl rfl)
theorem dX4_termOf_85 : decode cX4_termOf 85 = .ok (.lconst 0, 1) := dk_9 (dk_at dksX4_termOf_3 13 rfl rfl)
theorem dX4_termOf_86 : decode cX4_termOf 86 = .ok (.lcmp, 1) := dk_148 (dk_at dksX4_termOf_3 14 rfl rfl)
theorem dX4_termOf_87 : decode cX4_termOf 87 = .ok (.ifCond .ne 26, 3) := dk_154 0 26 (dk_at dksX4_termOf_3 15 rfl rfl)
theorem dX4_termOf_90 : decode cX4_termOf 90 = .ok (.aload_n 0, 1) := dk_42 (dk_at dksX4_termOf_3 18 rfl rfl)
theorem dX4_termOf_91 : decode cX4_termOf 91 = .ok (.aload_n 0, 1) := dk_42 (dk_at dksX4_termOf_3 19 rfl rfl)
theorem dX4_termOf_92 : decode cX4_termOf 92 = .ok (.getfield 256, 3) := dk_180 1 0 (dk_at dksX4_termOf_3 20 rfl rfl)
theorem dX4_termOf_95 : decode cX4_termOf 95 = .ok (.ifCond .ne 7, 3) := dk_154 0 7 (dk_at dksX4_termOf_4 0 rfl rfl)
theorem dX4_termOf_98 : decode cX4_termOf 98 = .ok (.iload_n 1, 1) := dk_27 (dk_at dksX4_termOf_4 3 rfl rfl)
theorem dX4_termOf_99 : decode cX4_termOf 99 = .ok (.ifCond .eq 7, 3) := dk_153 0 7 (dk_at dksX4_termOf_4 4 rfl rfl)
theorem dX4_termOf_102 : decode cX4_termOf 102 = .ok (.iconst 1, 1) := dk_4 (dk_at dksX4_termOf_4 7 rfl rfl)
theorem dX4_termOf_103 : decode cX4_termOf 103 = .ok (.goto 4, 3) := dk_167 0 4 (dk_at dksX4_termOf_4 8 rfl rfl)
theorem dX4_termOf_106 : decode cX4_termOf 106 = .ok (.iconst 0, 1) := dk_3 (dk_at dksX4_termOf_4 11 rfl rfl)
theorem dX4_termOf_107 : decode cX4_termOf 107 = .ok (.putfield 256, 3) := dk_181 1 0 (dk_at dksX4_termOf_4 12 rfl rfl)
theorem dX4_termOf_110 : decode cX4_termOf 110 = .ok (.lconst 1, 1) := dk_10 (dk_at dksX4_termOf_4 15 rfl rfl)
theorem dX4_termOf_111 : decode cX4_termOf 111 = .ok (.lstore 5, 2) := dk_55 5 (dk_at dksX4_termOf_4 16 rfl rfl)
theorem dX4_termOf_113 : decode cX4_termOf 113 = .ok (.aload_n 0, 1) := dk_42 (dk_at dksX4_termOf_4 18 rfl rfl)
theorem dX4_termOf_114 : decode cX4_termOf 114 = .ok (.iload 4, 2) := dk_21 4 (dk_at dksX4_termOf_4 19 rfl rfl)
theorem dX4_termOf_116 : decode cX4_termOf 116 = .ok (.ifCond .eq 10, 3) := dk_153 0 10 (dk_at dksX4_termOf_4 21 rfl rfl)
theorem dX4_termOf_119 : decode cX4_termOf 119 = .ok (.lload_n 2, 1) := dk_32 (dk_at dksX4_termOf_5 0 rfl rfl)
theorem dX4_termOf_120 : decode cX4_termOf 120 = .ok (.lload 5, 2) := dk_22 5 (dk_at dksX4_termOf_5 1 rfl rfl)
theorem dX4_termOf_122 : decode cX4_termOf 122 = .ok (.lmul, 1) := dk_105 (dk_at dksX4_termOf_5 3 rfl rfl)
theorem dX4_termOf_123 : decode cX4_termOf 123 = .ok (.goto 7, 3) := dk_167 0 7 (dk_at dksX4_termOf_5 4 rfl rfl)
theorem dX4_termOf_126 : decode cX4_termOf 126 = .ok (.lload_n 2, 1) := dk_32 (dk_at dksX4_termOf_5 7 rfl rfl)
theorem dX4_termOf_127 : decode cX4_termOf 127 = .ok (.lload 5, 2) := dk_22 5 (dk_at dksX4_termOf_5 8 rfl rfl)
theorem dX4_termOf_129 : decode cX4_termOf 129 = .ok (.ldiv, 1) := dk_109 (dk_at dksX4_termOf_5 10 rfl rfl)
theorem dX4_termOf_130 : decode cX4_termOf 130 = .ok (.iload_n 1, 1) := dk_27 (dk_at dksX4_termOf_5 11 rfl rfl)
theorem dX4_termOf_131 : decode cX4_termOf 131 = .ok (.invokevirtual 264, 3) := dk_182 1 8 (dk_at dksX4_termOf_5 12 rfl rfl)
theorem dX4_termOf_134 : decode cX4_termOf 134 = .ok (.lstore_n 2, 1) := dk_65 (dk_at dksX4_termOf_5 15 rfl rfl)
theorem dX4_termOf_135 : decode cX4_termOf 135 = .ok (.goto (-129), 3) := dk_167 255 127 (dk_at dksX4_termOf_5 16 rfl rfl)
theorem dX4_termOf_138 : decode cX4_termOf 138 = .ok (.lload_n 2, 1) := dk_32 (dk_at dksX4_termOf_5 19 rfl rfl)
theorem dX4_termOf_139 : decode cX4_termOf 139 = .ok (.lreturn, 1) := dk_173 (dk_at dksX4_termOf_5 20 rfl rfl)
abbrev cX4_partOf : ByteArray := prog_29_method_48_code
def yX4_partOf : MethodName := ⟨RX4, "partOf", "(Z)J"⟩
def dkwX4_partOf_4 : List UInt8 := [16, 8, 100, 46, 133, 173]
abbrev dktX4_partOf_4 : List UInt8 := dkwX4_partOf_4 ++ []
def dkwX4_partOf_3 : List UInt8 := [180, 0, 20, 17, 10, 241, 42, 180, 0, 246, 96, 4, 100, 46, 133, 167, 0, 13, 42, 180, 0, 52, 28]
abbrev dktX4_partOf_3 : List UInt8 := dkwX4_partOf_3 ++ dktX4_partOf_4
def dkwX4_partOf_2 : List UInt8 := [181, 0, 246, 27, 153, 0, 10, 42, 180, 1, 0, 153, 0, 5, 9, 173, 28, 16, 50, 160, 0, 22, 42]
abbrev dktX4_partOf_2 : List UInt8 := dkwX4_partOf_2 ++ dktX4_partOf_3
def dkwX4_partOf_1 : List UInt8 := [96, 181, 0, 246, 32, 173, 42, 42, 180, 0, 246, 182, 0, 249, 61, 42, 89, 180, 0, 246, 4, 96]
abbrev dktX4_partOf_1 : List UInt8 := dkwX4_partOf_1 ++ dktX4_partOf_2
def dkwX4_partOf_0 : List UInt8 := [42, 16, 91, 184, 0, 221, 182, 1, 15, 153, 0, 21, 42, 27, 182, 1, 18, 65, 42, 89, 180, 0, 246, 4]
abbrev dktX4_partOf_0 : List UInt8 := dkwX4_partOf_0 ++ dktX4_partOf_1
theorem dksX4_partOf_0 : cX4_partOf.data.toList.drop 0 = dktX4_partOf_0 := by decide +kernel
theorem dksX4_partOf_1 : cX4_partOf.data.toList.drop 24 = dktX4_partOf_1 := dk_seg dksX4_partOf_0 24 rfl rfl
theorem dksX4_partOf_2 : cX4_partOf.data.toList.drop 46 = dktX4_partOf_2 := dk_seg dksX4_partOf_1 22 rfl rfl
theorem dksX4_partOf_3 : cX4_partOf.data.toList.drop 69 = dktX4_partOf_3 := dk_seg dksX4_partOf_2 23 rfl rfl
theorem dksX4_partOf_4 : cX4_partOf.data.toList.drop 92 = dktX4_partOf_4 := dk_seg dksX4_partOf_3 23 rfl rfl
theorem dX4_partOf_0 : decode cX4_partOf 0 = .ok (.aload_n 0, 1) := dk_42 (dk_at dksX4_partOf_0 0 rfl rfl)
theorem dX4_partOf_1 : decode cX4_partOf 1 = .ok (.bipush 91, 2) := dk_16 91 (dk_at dksX4_partOf_0 1 rfl rfl)
theorem dX4_partOf_3 : decode cX4_partOf 3 = .ok (.invokestatic 221, 3) := dk_184 0 221 (dk_at dksX4_partOf_0 3 rfl rfl)
theorem dX4_partOf_6 : decode cX4_partOf 6 = .ok (.invokevirtual 271, 3) := dk_182 1 15 (dk_at dksX4_partOf_0 6 rfl rfl)
theorem dX4_partOf_9 : decode cX4_partOf 9 = .ok (.ifCond .eq 21, 3) := dk_153 0 21 (dk_at dksX4_partOf_0 9 rfl rfl)
theorem dX4_partOf_12 : decode cX4_partOf 12 = .ok (.aload_n 0, 1) := dk_42 (dk_at dksX4_partOf_0 12 rfl rfl)
theorem dX4_partOf_13 : decode cX4_partOf 13 = .ok (.iload_n 1, 1) := dk_27 (dk_at dksX4_partOf_0 13 rfl rfl)
theorem dX4_partOf_14 : decode cX4_partOf 14 = .ok (.invokevirtual 274, 3) := dk_182 1 18 (dk_at dksX4_partOf_0 14 rfl rfl)
theorem dX4_partOf_17 : decode cX4_partOf 17 = .ok (.lstore_n 2, 1) := dk_65 (dk_at dksX4_partOf_0 17 rfl rfl)
theorem dX4_partOf_18 : decode cX4_partOf 18 = .ok (.aload_n 0, 1) := dk_42 (dk_at dksX4_partOf_0 18 rfl rfl)
theorem dX4_partOf_19 : decode cX4_partOf 19 = .ok (.dup, 1) := dk_89 (dk_at dksX4_partOf_0 19 rfl rfl)
theorem dX4_partOf_20 : decode cX4_partOf 20 = .ok (.getfield 246, 3) := dk_180 0 246 (dk_at dksX4_partOf_0 20 rfl rfl)
theorem dX4_partOf_23 : decode cX4_partOf 23 = .ok (.iconst 1, 1) := dk_4 (dk_at dksX4_partOf_0 23 rfl rfl)
theorem dX4_partOf_24 : decode cX4_partOf 24 = .ok (.iadd, 1) := dk_96 (dk_at dksX4_partOf_1 0 rfl rfl)
theorem dX4_partOf_25 : decode cX4_partOf 25 = .ok (.putfield 246, 3) := dk_181 0 246 (dk_at dksX4_partOf_1 1 rfl rfl)
theorem dX4_partOf_28 : decode cX4_partOf 28 = .ok (.lload_n 2, 1) := dk_32 (dk_at dksX4_partOf_1 4 rfl rfl)
theorem dX4_partOf_29 : decode cX4_partOf 29 = .ok (.lreturn, 1) := dk_173 (dk_at dksX4_partOf_1 5 rfl rfl)
theorem dX4_partOf_30 : decode cX4_partOf 30 = .ok (.aload_n 0, 1) := dk_42 (dk_at dksX4_partOf_1 6 rfl rfl)
theorem dX4_partOf_31 : decode cX4_partOf 31 = .ok (.aload_n 0, 1) := dk_42 (dk_at dksX4_partOf_1 7 rfl rfl)
theorem dX4_partOf_32 : decode cX4_partOf 32 = .ok (.getfield 246, 3) := dk_180 0 246 (dk_at dksX4_partOf_1 8 rfl rfl)
theorem dX4_partOf_35 : decode cX4_partOf 35 = .ok (.invokevirtual 249, 3) := dk_182 0 249 (dk_at dksX4_partOf_1 11 rfl rfl)
theorem dX4_partOf_38 : decode cX4_partOf 38 = .ok (.istore_n 2, 1) := dk_61 (dk_at dksX4_partOf_1 14 rfl rfl)
theorem dX4_partOf_39 : decode cX4_partOf 39 = .ok (.aload_n 0, 1) := dk_42 (dk_at dksX4_partOf_1 15 rfl rfl)
theorem dX4_partOf_40 : decode cX4_partOf 40 = .ok (.dup, 1) := dk_89 (dk_at dksX4_partOf_1 16 rfl rfl)
theorem dX4_partOf_41 : decode cX4_partOf 41 = .ok (.getfield 246, 3) := dk_180 0 246 (dk_at dksX4_partOf_1 17 rfl rfl)
theorem dX4_partOf_44 : decode cX4_partOf 44 = .ok (.iconst 1, 1) := dk_4 (dk_at dksX4_partOf_1 20 rfl rfl)
theorem dX4_partOf_45 : decode cX4_partOf 45 = .ok (.iadd, 1) := dk_96 (dk_at dksX4_partOf_1 21 rfl rfl)
theorem dX4_partOf_46 : decode cX4_partOf 46 = .ok (.putfield 246, 3) := dk_181 0 246 (dk_at dksX4_partOf_2 0 rfl rfl)
theorem dX4_partOf_49 : decode cX4_partOf 49 = .ok (.iload_n 1, 1) := dk_27 (dk_at dksX4_partOf_2 3 rfl rfl)
theorem dX4_partOf_50 : decode cX4_partOf 50 = .ok (.ifCond .eq 10, 3) := dk_153 0 10 (dk_at dksX4_partOf_2 4 rfl rfl)
theorem dX4_partOf_53 : decode cX4_partOf 53 = .ok (.aload_n 0, 1) := dk_42 (dk_at dksX4_partOf_2 7 rfl rfl)
theorem dX4_partOf_54 : decode cX4_partOf 54 = .ok (.getfield 256, 3) := dk_180 1 0 (dk_at dksX4_partOf_2 8 rfl rfl)
theorem dX4_partOf_57 : decode cX4_partOf 57 = .ok (.ifCond .eq 5, 3) := dk_153 0 5 (dk_at dksX4_partOf_2 11 rfl rfl)
theorem dX4_partOf_60 : decode cX4_partOf 60 = .ok (.lconst 0, 1) := dk_9 (dk_at dksX4_partOf_2 14 rfl rfl)
theorem dX4_partOf_61 : decode cX4_partOf 61 = .ok (.lreturn, 1) := dk_173 (dk_at dksX4_partOf_2 15 rfl rfl)
theorem dX4_partOf_62 : decode cX4_partOf 62 = .ok (.iload_n 2, 1) := dk_28 (dk_at dksX4_partOf_2 16 rfl rfl)
theorem dX4_partOf_63 : decode cX4_partOf 63 = .ok (.bipush 50, 2) := dk_16 50 (dk_at dksX4_partOf_2 17 rfl rfl)
theorem dX4_partOf_65 : decode cX4_partOf 65 = .ok (.if_icmp .ne 22, 3) := dk_160 0 22 (dk_at dksX4_partOf_2 19 rfl rfl)
theorem dX4_partOf_68 : decode cX4_partOf 68 = .ok (.aload_n 0, 1) := dk_42 (dk_at dksX4_partOf_2 22 rfl rfl)
theorem dX4_partOf_69 : decode cX4_partOf 69 = .ok (.getfield 20, 3) := dk_180 0 20 (dk_at dksX4_partOf_3 0 rfl rfl)
theorem dX4_partOf_72 : decode cX4_partOf 72 = .ok (.sipush 2801, 3) := dk_17 10 241 (dk_at dksX4_partOf_3 3 rfl rfl)
theorem dX4_partOf_75 : decode cX4_partOf 75 = .ok (.aload_n 0, 1) := dk_42 (dk_at dksX4_partOf_3 6 rfl rfl)
theorem dX4_partOf_76 : decode cX4_partOf 76 = .ok (.getfield 246, 3) := dk_180 0 246 (dk_at dksX4_partOf_3 7 rfl rfl)
theorem dX4_partOf_79 : decode cX4_partOf 79 = .ok (.iadd, 1) := dk_96 (dk_at dksX4_partOf_3 10 rfl rfl)
theorem dX4_partOf_80 : decode cX4_partOf 80 = .ok (.iconst 1, 1) := dk_4 (dk_at dksX4_partOf_3 11 rfl rfl)
theorem dX4_partOf_81 : decode cX4_partOf 81 = .ok (.isub, 1) := dk_100 (dk_at dksX4_partOf_3 12 rfl rfl)
theorem dX4_partOf_82 : decode cX4_partOf 82 = .ok (.iaload, 1) := dk_46 (dk_at dksX4_partOf_3 13 rfl rfl)
theorem dX4_partOf_83 : decode cX4_partOf 83 = .ok (.i2l, 1) := dk_133 (dk_at dksX4_partOf_3 14 rfl rfl)
theorem dX4_partOf_84 : decode cX4_partOf 84 = .ok (.goto 13, 3) := dk_167 0 13 (dk_at dksX4_partOf_3 15 rfl rfl)
theorem dX4_partOf_87 : decode cX4_partOf 87 = .ok (.aload_n 0, 1) := dk_42 (dk_at dksX4_partOf_3 18 rfl rfl)
theorem dX4_partOf_88 : decode cX4_partOf 88 = .ok (.getfield 52, 3) := dk_180 0 52 (dk_at dksX4_partOf_3 19 rfl rfl)
theorem dX4_partOf_91 : decode cX4_partOf 91 = .ok (.iload_n 2, 1) := dk_28 (dk_at dksX4_partOf_3 22 rfl rfl)
theorem dX4_partOf_92 : decode cX4_partOf 92 = .ok (.bipush 8, 2) := dk_16 8 (dk_at dksX4_partOf_4 0 rfl rfl)
theorem dX4_partOf_94 : decode cX4_partOf 94 = .ok (.isub, 1) := dk_100 (dk_at dksX4_partOf_4 2 rfl rfl)
theorem dX4_partOf_95 : decode cX4_partOf 95 = .ok (.iaload, 1) := dk_46 (dk_at dksX4_partOf_4 3 rfl rfl)
theorem dX4_partOf_96 : decode cX4_partOf 96 = .ok (.i2l, 1) := dk_133 (dk_at dksX4_partOf_4 4 rfl rfl)
theorem dX4_partOf_97 : decode cX4_partOf 97 = .ok (.lreturn, 1) := dk_173 (dk_at dksX4_partOf_4 5 rfl rfl)
abbrev cX4_passes0 : ByteArray := prog_29_method_44_code
def yX4_passes0 : MethodName := ⟨RX4, "passes0", "(I)Z"⟩
def dkwX4_passes0_1 : List UInt8 := [180, 0, 246, 4, 96, 181, 0, 246, 28, 172]
abbrev dktX4_passes0_1 : List UInt8 := dkwX4_passes0_1 ++ []
def dkwX4_passes0_0 : List UInt8 := [42, 42, 180, 0, 246, 182, 0, 249, 27, 160, 0, 7, 4, 167, 0, 4, 3, 61, 28, 153, 0, 13, 42, 89]
abbrev dktX4_passes0_0 : List UInt8 := dkwX4_passes0_0 ++ dktX4_passes0_1
theorem dksX4_passes0_0 : cX4_passes0.data.toList.drop 0 = dktX4_passes0_0 := by decide +kernel
theorem dksX4_passes0_1 : cX4_passes0.data.toList.drop 24 = dktX4_passes0_1 := dk_seg dksX4_passes0_0 24 rfl rfl
theorem dX4_passes0_0 : decode cX4_passes0 0 = .ok (.aload_n 0, 1) := dk_42 (dk_at dksX4_passes0_0 0 rfl rfl)
theorem dX4_passes0_1 : decode cX4_passes0 1 = .ok (.aload_n 0, 1) := dk_42 (dk_at dksX4_passes0_0 1 rfl rfl)
theorem dX4_passes0_2 : decode cX4_passes0 2 = .ok (.getfield 246, 3) := dk_180 0 246 (dk_at dksX4_passes0_0 2 rfl rfl)
theorem dX4_passes0_5 : decode cX4_passes0 5 = .ok (.invokevirtual 249, 3) := dk_182 0 249 (dk_at dksX4_passes0_0 5 rfl rfl)
theorem dX4_passes0_8 : decode cX4_passes0 8 = .ok (.iload_n 1, 1) := dk_27 (dk_at dksX4_passes0_0 8 rfl rfl)
theorem dX4_passes0_9 : decode cX4_passes0 9 = .ok (.if_icmp .ne 7, 3) := dk_160 0 7 (dk_at dksX4_passes0_0 9 rfl rfl)
theorem dX4_passes0_12 : decode cX4_passes0 12 = .ok (.iconst 1, 1) := dk_4 (dk_at dksX4_passes0_0 12 rfl rfl)
theorem dX4_passes0_13 : decode cX4_passes0 13 = .ok (.goto 4, 3) := dk_167 0 4 (dk_at dksX4_passes0_0 13 rfl rfl)
theorem dX4_passes0_16 : decode cX4_passes0 16 = .ok (.iconst 0, 1) := dk_3 (dk_at dksX4_passes0_0 16 rfl rfl)
theorem dX4_passes0_17 : decode cX4_passes0 17 = .ok (.istore_n 2, 1) := dk_61 (dk_at dksX4_passes0_0 17 rfl rfl)
theorem dX4_passes0_18 : decode cX4_passes0 18 = .ok (.iload_n 2, 1) := dk_28 (dk_at dksX4_passes0_0 18 rfl rfl)
theorem dX4_passes0_19 : decode cX4_passes0 19 = .ok (.ifCond .eq 13, 3) := dk_153 0 13 (dk_at dksX4_passes0_0 19 rfl rfl)
theorem dX4_passes0_22 : decode cX4_passes0 22 = .ok (.aload_n 0, 1) := dk_42 (dk_at dksX4_passes0_0 22 rfl rfl)
theorem dX4_passes0_23 : decode cX4_passes0 23 = .ok (.dup, 1) := dk_89 (dk_at dksX4_passes0_0 23 rfl rfl)
theorem dX4_passes0_24 : decode cX4_passes0 24 = .ok (.getfield 246, 3) := dk_180 0 246 (dk_at dksX4_passes0_1 0 rfl rfl)
theorem dX4_passes0_27 : decode cX4_passes0 27 = .ok (.iconst 1, 1) := dk_4 (dk_at dksX4_passes0_1 3 rfl rfl)
theorem dX4_passes0_28 : decode cX4_passes0 28 = .ok (.iadd, 1) := dk_96 (dk_at dksX4_passes0_1 4 rfl rfl)
theorem dX4_passes0_29 : decode cX4_passes0 29 = .ok (.putfield 246, 3) := dk_181 0 246 (dk_at dksX4_passes0_1 5 rfl rfl)
theorem dX4_passes0_32 : decode cX4_passes0 32 = .ok (.iload_n 2, 1) := dk_28 (dk_at dksX4_passes0_1 8 rfl rfl)
theorem dX4_passes0_33 : decode cX4_passes0 33 = .ok (.ireturn, 1) := dk_172 (dk_at dksX4_passes0_1 9 rfl rfl)
