/-! ExamSlips -/
set_option maxRecDepth 100000
def RX0 : String := "ExamSlips"
def TX0 : u_T := fun k => match k with
  | 0 => ("ExamSlips", "exam", "LExamSlips$Exam;", false)
  | 1 => ("ExamSlips", "images", "[LExamSlips$Exam;", true)
  | 2 => ("ExamSlips", "asked", "LExamSlips$Asked;", true)
  | 3 => ("ExamSlips", "nothingTold", "LExamSlips$Text;", true)
  | 4 => ("ExamSlips", "refused", "[I", true)
  | 5 => ("ExamSlips", "status", "I", false)
  | 6 => ("ExamSlips", "fault", "I", false)
  | 7 => ("ExamSlips", "lost", "I", false)
  | 8 => ("ExamSlips", "latest", "LExamSlips$Table;", false)
  | 9 => ("ExamSlips", "found", "LExamSlips$Schemes;", false)
  | 10 => ("ExamSlips", "fewest", "[I", true)
  | 11 => ("ExamSlips", "tape", "[B", true)
  | _ => ("ExamSlips", "taped", "I", false)
def tyX0 : Nat → FieldType := fun k => match k with
  | 0 => .object "ExamSlips$Exam"
  | 1 => .array (.object "ExamSlips$Exam")
  | 2 => .object "ExamSlips$Asked"
  | 3 => .object "ExamSlips$Text"
  | 4 => .array .int
  | 5 => .int
  | 6 => .int
  | 7 => .int
  | 8 => .object "ExamSlips$Table"
  | 9 => .object "ExamSlips$Schemes"
  | 10 => .array .int
  | 11 => .array .byte
  | _ => .int
abbrev wsX00 : List Cond := u_ws RX0 TX0 13
set_option maxRecDepth 100000 in
theorem nmX0 : ∀ a, a < 13 → ∀ b, b < 13 → a ≠ b → (TX0 a).2.1 ≠ (TX0 b).2.1 := by decide +kernel
set_option maxRecDepth 100000 in
theorem tyX0_ok : ∀ k, k < 13 → parseFieldDescriptor (TX0 k).2.2.1 = some (tyX0 k) := by decide +kernel
abbrev cX0_init : ByteArray := prog_1_method_6_code
def yX0_init : MethodName := ⟨RX0, "<init>", "()V"⟩
def dkwX0_init_3 : List UInt8 := [42, 17, 1, 144, 188, 8, 181, 0, 89, 177]
abbrev dktX0_init_3 : List UInt8 := dkwX0_init_3 ++ []
def dkwX0_init_2 : List UInt8 := [181, 0, 74, 42, 16, 7, 188, 10, 181, 0, 78, 42, 2, 181, 0, 82, 42, 18, 85, 188, 10, 181, 0, 86]
abbrev dktX0_init_2 : List UInt8 := dkwX0_init_2 ++ dktX0_init_3
def dkwX0_init_1 : List UInt8 := [187, 0, 60, 89, 183, 0, 62, 181, 0, 63, 42, 187, 0, 67, 89, 3, 189, 0, 69, 183, 0, 71]
abbrev dktX0_init_1 : List UInt8 := dkwX0_init_1 ++ dktX0_init_2
def dkwX0_init_0 : List UInt8 := [42, 183, 0, 50, 42, 187, 0, 22, 89, 183, 0, 55, 181, 0, 17, 42, 5, 189, 0, 22, 181, 0, 56, 42]
abbrev dktX0_init_0 : List UInt8 := dkwX0_init_0 ++ dktX0_init_1
theorem dksX0_init_0 : cX0_init.data.toList.drop 0 = dktX0_init_0 := by decide +kernel
theorem dksX0_init_1 : cX0_init.data.toList.drop 24 = dktX0_init_1 := dk_seg dksX0_init_0 24 rfl rfl
theorem dksX0_init_2 : cX0_init.data.toList.drop 46 = dktX0_init_2 := dk_seg dksX0_init_1 22 rfl rfl
theorem dksX0_init_3 : cX0_init.data.toList.drop 70 = dktX0_init_3 := dk_seg dksX0_init_2 24 rfl rfl
theorem dX0_init_0 : decode cX0_init 0 = .ok (.aload_n 0, 1) := dk_42 (dk_at dksX0_init_0 0 rfl rfl)
theorem dX0_init_1 : decode cX0_init 1 = .ok (.invokespecial 50, 3) := dk_183 0 50 (dk_at dksX0_init_0 1 rfl rfl)
theorem dX0_init_4 : decode cX0_init 4 = .ok (.aload_n 0, 1) := dk_42 (dk_at dksX0_init_0 4 rfl rfl)
theorem dX0_init_5 : decode cX0_init 5 = .ok (.new 22, 3) := dk_187 0 22 (dk_at dksX0_init_0 5 rfl rfl)
theorem dX0_init_8 : decode cX0_init 8 = .ok (.dup, 1) := dk_89 (dk_at dksX0_init_0 8 rfl rfl)
theorem dX0_init_9 : decode cX0_init 9 = .ok (.invokespecial 55, 3) := dk_183 0 55 (dk_at dksX0_init_0 9 rfl rfl)
theorem dX0_init_12 : decode cX0_init 12 = .ok (.putfield 17, 3) := dk_181 0 17 (dk_at dksX0_init_0 12 rfl rfl)
theorem dX0_init_15 : decode cX0_init 15 = .ok (.aload_n 0, 1) := dk_42 (dk_at dksX0_init_0 15 rfl rfl)
theorem dX0_init_16 : decode cX0_init 16 = .ok (.iconst 2, 1) := dk_5 (dk_at dksX0_init_0 16 rfl rfl)
theorem dX0_init_17 : decode cX0_init 17 = .ok (.anewarray 22, 3) := dk_189 0 22 (dk_at dksX0_init_0 17 rfl rfl)
theorem dX0_init_20 : decode cX0_init 20 = .ok (.putfield 56, 3) := dk_181 0 56 (dk_at dksX0_init_0 20 rfl rfl)
theorem dX0_init_23 : decode cX0_init 23 = .ok (.aload_n 0, 1) := dk_42 (dk_at dksX0_init_0 23 rfl rfl)
theorem dX0_init_24 : decode cX0_init 24 = .ok (.new 60, 3) := dk_187 0 60 (dk_at dksX0_init_1 0 rfl rfl)
theorem dX0_init_27 : decode cX0_init 27 = .ok (.dup, 1) := dk_89 (dk_at dksX0_init_1 3 rfl rfl)
theorem dX0_init_28 : decode cX0_init 28 = .ok (.invokespecial 62, 3) := dk_183 0 62 (dk_at dksX0_init_1 4 rfl rfl)
theorem dX0_init_31 : decode cX0_init 31 = .ok (.putfield 63, 3) := dk_181 0 63 (dk_at dksX0_init_1 7 rfl rfl)
theorem dX0_init_34 : decode cX0_init 34 = .ok (.aload_n 0, 1) := dk_42 (dk_at dksX0_init_1 10 rfl rfl)
theorem dX0_init_35 : decode cX0_init 35 = .ok (.new 67, 3) := dk_187 0 67 (dk_at dksX0_init_1 11 rfl rfl)
theorem dX0_init_38 : decode cX0_init 38 = .ok (.dup, 1) := dk_89 (dk_at dksX0_init_1 14 rfl rfl)
theorem dX0_init_39 : decode cX0_init 39 = .ok (.iconst 0, 1) := dk_3 (dk_at dksX0_init_1 15 rfl rfl)
theorem dX0_init_40 : decode cX0_init 40 = .ok (.anewarray 69, 3) := dk_189 0 69 (dk_at dksX0_init_1 16 rfl rfl)
theorem dX0_init_43 : decode cX0_init 43 = .ok (.invokespecial 71, 3) := dk_183 0 71 (dk_at dksX0_init_1 19 rfl rfl)
theorem dX0_init_46 : decode cX0_init 46 = .ok (.putfield 74, 3) := dk_181 0 74 (dk_at dksX0_init_2 0 rfl rfl)
theorem dX0_init_49 : decode cX0_init 49 = .ok (.aload_n 0, 1) := dk_42 (dk_at dksX0_init_2 3 rfl rfl)
theorem dX0_init_50 : decode cX0_init 50 = .ok (.bipush 7, 2) := dk_16 7 (dk_at dksX0_init_2 4 rfl rfl)
theorem dX0_init_52 : decode cX0_init 52 = .ok (.newarray .int, 2) := dk_188_10 (dk_at dksX0_init_2 6 rfl rfl)
theorem dX0_init_54 : decode cX0_init 54 = .ok (.putfield 78, 3) := dk_181 0 78 (dk_at dksX0_init_2 8 rfl rfl)
theorem dX0_init_57 : decode cX0_init 57 = .ok (.aload_n 0, 1) := dk_42 (dk_at dksX0_init_2 11 rfl rfl)
theorem dX0_init_58 : decode cX0_init 58 = .ok (.iconst (-1), 1) := dk_2 (dk_at dksX0_init_2 12 rfl rfl)
theorem dX0_init_59 : decode cX0_init 59 = .ok (.putfield 82, 3) := dk_181 0 82 (dk_at dksX0_init_2 13 rfl rfl)
theorem dX0_init_62 : decode cX0_init 62 = .ok (.aload_n 0, 1) := dk_42 (dk_at dksX0_init_2 16 rfl rfl)
theorem dX0_init_63 : decode cX0_init 63 = .ok (.ldc 85, 2) := dk_18 85 (dk_at dksX0_init_2 17 rfl rfl)
theorem dX0_init_65 : decode cX0_init 65 = .ok (.newarray .int, 2) := dk_188_10 (dk_at dksX0_init_2 19 rfl rfl)
theorem dX0_init_67 : decode cX0_init 67 = .ok (.putfield 86, 3) := dk_181 0 86 (dk_at dksX0_init_2 21 rfl rfl)
theorem dX0_init_70 : decode cX0_init 70 = .ok (.aload_n 0, 1) := dk_42 (dk_at dksX0_init_3 0 rfl rfl)
theorem dX0_init_71 : decode cX0_init 71 = .ok (.sipush 400, 3) := dk_17 1 144 (dk_at dksX0_init_3 1 rfl rfl)
theorem dX0_init_74 : decode cX0_init 74 = .ok (.newarray .byte, 2) := dk_188_8 (dk_at dksX0_init_3 4 rfl rfl)
theorem dX0_init_76 : decode cX0_init 76 = .ok (.putfield 89, 3) := dk_181 0 89 (dk_at dksX0_init_3 6 rfl rfl)
theorem dX0_init_79 : decode cX0_init 79 = .ok (.return_, 1) := dk_177 (dk_at dksX0_init_3 9 rfl rfl)
abbrev cX0_feed : ByteArray := prog_1_method_15_code
def yX0_feed : MethodName := ⟨RX0, "feed", "(IIIII)I"⟩
def dkwX0_feed_2 : List UInt8 := [172]
abbrev dktX0_feed_2 : List UInt8 := dkwX0_feed_2 ++ []
def dkwX0_feed_1 : List UInt8 := [182, 0, 125, 42, 29, 182, 0, 125, 42, 21, 4, 182, 0, 125, 42, 21, 5, 182, 0, 125, 42, 180, 0, 122]
abbrev dktX0_feed_1 : List UInt8 := dkwX0_feed_1 ++ dktX0_feed_2
def dkwX0_feed_0 : List UInt8 := [42, 180, 0, 122, 16, 20, 96, 17, 1, 144, 164, 0, 5, 2, 172, 42, 27, 182, 0, 125, 42, 28]
abbrev dktX0_feed_0 : List UInt8 := dkwX0_feed_0 ++ dktX0_feed_1
theorem dksX0_feed_0 : cX0_feed.data.toList.drop 0 = dktX0_feed_0 := by decide +kernel
theorem dksX0_feed_1 : cX0_feed.data.toList.drop 22 = dktX0_feed_1 := dk_seg dksX0_feed_0 22 rfl rfl
theorem dksX0_feed_2 : cX0_feed.data.toList.drop 46 = dktX0_feed_2 := dk_seg dksX0_feed_1 24 rfl rfl
theorem dX0_feed_0 : decode cX0_feed 0 = .ok (.aload_n 0, 1) := dk_42 (dk_at dksX0_feed_0 0 rfl rfl)
theorem dX0_feed_1 : decode cX0_feed 1 = .ok (.getfield 122, 3) := dk_180 0 122 (dk_at dksX0_feed_0 1 rfl rfl)
theorem dX0_feed_4 : decode cX0_feed 4 = .ok (.bipush 20, 2) := dk_16 20 (dk_at dksX0_feed_0 4 rfl rfl)
theorem dX0_feed_6 : decode cX0_feed 6 = .ok (.iadd, 1) := dk_96 (dk_at dksX0_feed_0 6 rfl rfl)
theorem dX0_feed_7 : decode cX0_feed 7 = .ok (.sipush 400, 3) := dk_17 1 144 (dk_at dksX0_feed_0 7 rfl rfl)
theorem dX0_feed_10 : decode cX0_feed 10 = .ok (.if_icmp .le 5, 3) := dk_164 0 5 (dk_at dksX0_feed_0 10 rfl rfl)
theorem dX0_feed_13 : decode cX0_feed 13 = .ok (.iconst (-1), 1) := dk_2 (dk_at dksX0_feed_0 13 rfl rfl)
theorem dX0_feed_14 : decode cX0_feed 14 = .ok (.ireturn, 1) := dk_172 (dk_at dksX0_feed_0 14 rfl rfl)
theorem dX0_feed_15 : decode cX0_feed 15 = .ok (.aload_n 0, 1) := dk_42 (dk_at dksX0_feed_0 15 rfl rfl)
theorem dX0_feed_16 : decode cX0_feed 16 = .ok (.iload_n 1, 1) := dk_27 (dk_at dksX0_feed_0 16 rfl rfl)
theorem dX0_feed_17 : decode cX0_feed 17 = .ok (.invokevirtual 125, 3) := dk_182 0 125 (dk_at dksX0_feed_0 17 rfl rfl)
theorem dX0_feed_20 : decode cX0_feed 20 = .ok (.aload_n 0, 1) := dk_42 (dk_at dksX0_feed_0 20 rfl rfl)
theorem dX0_feed_21 : decode cX0_feed 21 = .ok (.iload_n 2, 1) := dk_28 (dk_at dksX0_feed_0 21 rfl rfl)
theorem dX0_feed_22 : decode cX0_feed 22 = .ok (.invokevirtual 125, 3) := dk_182 0 125 (dk_at dksX0_feed_1 0 rfl rfl)
theorem dX0_feed_25 : decode cX0_feed 25 = .ok (.aload_n 0, 1) := dk_42 (dk_at dksX0_feed_1 3 rfl rfl)
theorem dX0_feed_26 : decode cX0_feed 26 = .ok (.iload_n 3, 1) := dk_29 (dk_at dksX0_feed_1 4 rfl rfl)
theorem dX0_feed_27 : decode cX0_feed 27 = .ok (.invokevirtual 125, 3) := dk_182 0 125 (dk_at dksX0_feed_1 5 rfl rfl)
theorem dX0_feed_30 : decode cX0_feed 30 = .ok (.aload_n 0, 1) := dk_42 (dk_at dksX0_feed_1 8 rfl rfl)
theorem dX0_feed_31 : decode cX0_feed 31 = .ok (.iload 4, 2) := dk_21 4 (dk_at dksX0_feed_1 9 rfl rfl)
theorem dX0_feed_33 : decode cX0_feed 33 = .ok (.invokevirtual 125, 3) := dk_182 0 125 (dk_at dksX0_feed_1 11 rfl rfl)
theorem dX0_feed_36 : decode cX0_feed 36 = .ok (.aload_n 0, 1) := dk_42 (dk_at dksX0_feed_1 14 rfl rfl)
theorem dX0_feed_37 : decode cX0_feed 37 = .ok (.iload 5, 2) := dk_21 5 (dk_at dksX0_feed_1 15 rfl rfl)
theorem dX0_feed_39 : decode cX0_feed 39 = .ok (.invokevirtual 125, 3) := dk_182 0 125 (dk_at dksX0_feed_1 17 rfl rfl)
theorem dX0_feed_42 : decode cX0_feed 42 = .ok (.aload_n 0, 1) := dk_42 (dk_at dksX0_feed_1 20 rfl rfl)
theorem dX0_feed_43 : decode cX0_feed 43 = .ok (.getfield 122, 3) := dk_180 0 122 (dk_at dksX0_feed_1 21 rfl rfl)
theorem dX0_feed_46 : decode cX0_feed 46 = .ok (.ireturn, 1) := dk_172 (dk_at dksX0_feed_2 0 rfl rfl)
abbrev cX0_four : ByteArray := prog_1_method_14_code
def yX0_four : MethodName := ⟨RX0, "four", "(I)V"⟩
def dkwX0_four_1 : List UInt8 := [180, 0, 122, 4, 96, 181, 0, 122, 132, 2, 248, 167, 255, 226, 177]
abbrev dktX0_four_1 : List UInt8 := dkwX0_four_1 ++ []
def dkwX0_four_0 : List UInt8 := [16, 24, 61, 28, 155, 0, 32, 42, 180, 0, 89, 42, 180, 0, 122, 27, 28, 122, 145, 84, 42, 89]
abbrev dktX0_four_0 : List UInt8 := dkwX0_four_0 ++ dktX0_four_1
theorem dksX0_four_0 : cX0_four.data.toList.drop 0 = dktX0_four_0 := by decide +kernel
theorem dksX0_four_1 : cX0_four.data.toList.drop 22 = dktX0_four_1 := dk_seg dksX0_four_0 22 rfl rfl
theorem dX0_four_0 : decode cX0_four 0 = .ok (.bipush 24, 2) := dk_16 24 (dk_at dksX0_four_0 0 rfl rfl)
theorem dX0_four_2 : decode cX0_four 2 = .ok (.istore_n 2, 1) := dk_61 (dk_at dksX0_four_0 2 rfl rfl)
theorem dX0_four_3 : decode cX0_four 3 = .ok (.iload_n 2, 1) := dk_28 (dk_at dksX0_four_0 3 rfl rfl)
theorem dX0_four_4 : decode cX0_four 4 = .ok (.ifCond .lt 32, 3) := dk_155 0 32 (dk_at dksX0_four_0 4 rfl rfl)
theorem dX0_four_7 : decode cX0_four 7 = .ok (.aload_n 0, 1) := dk_42 (dk_at dksX0_four_0 7 rfl rfl)
theorem dX0_four_8 : decode cX0_four 8 = .ok (.getfield 89, 3) := dk_180 0 89 (dk_at dksX0_four_0 8 rfl rfl)
theorem dX0_four_11 : decode cX0_four 11 = .ok (.aload_n 0, 1) := dk_42 (dk_at dksX0_four_0 11 rfl rfl)
theorem dX0_four_12 : decode cX0_four 12 = .ok (.getfield 122, 3) := dk_180 0 122 (dk_at dksX0_four_0 12 rfl rfl)
theorem dX0_four_15 : decode cX0_four 15 = .ok (.iload_n 1, 1) := dk_27 (dk_at dksX0_four_0 15 rfl rfl)
theorem dX0_four_16 : decode cX0_four 16 = .ok (.iload_n 2, 1) := dk_28 (dk_at dksX0_four_0 16 rfl rfl)
theorem dX0_four_17 : decode cX0_four 17 = .ok (.ishr, 1) := dk_122 (dk_at dksX0_four_0 17 rfl rfl)
theorem dX0_four_18 : decode cX0_four 18 = .ok (.i2b, 1) := dk_145 (dk_at dksX0_four_0 18 rfl rfl)
theorem dX0_four_19 : decode cX0_four 19 = .ok (.bastore, 1) := dk_84 (dk_at dksX0_four_0 19 rfl rfl)
theorem dX0_four_20 : decode cX0_four 20 = .ok (.aload_n 0, 1) := dk_42 (dk_at dksX0_four_0 20 rfl rfl)
theorem dX0_four_21 : decode cX0_four 21 = .ok (.dup, 1) := dk_89 (dk_at dksX0_four_0 21 rfl rfl)
theorem dX0_four_22 : decode cX0_four 22 = .ok (.getfield 122, 3) := dk_180 0 122 (dk_at dksX0_four_1 0 rfl rfl)
theorem dX0_four_25 : decode cX0_four 25 = .ok (.iconst 1, 1) := dk_4 (dk_at dksX0_four_1 3 rfl rfl)
theorem dX0_four_26 : decode cX0_four 26 = .ok (.iadd, 1) := dk_96 (dk_at dksX0_four_1 4 rfl rfl)
theorem dX0_four_27 : decode cX0_four 27 = .ok (.putfield 122, 3) := dk_181 0 122 (dk_at dksX0_four_1 5 rfl rfl)
theorem dX0_four_30 : decode cX0_four 30 = .ok (.iinc 2 (-8), 3) := dk_132 2 248 (dk_at dksX0_four_1 8 rfl rfl)
theorem dX0_four_33 : decode cX0_four 33 = .ok (.goto (-30), 3) := dk_167 255 226 (dk_at dksX0_four_1 11 rfl rfl)
theorem dX0_four_36 : decode cX0_four 36 = .ok (.return_, 1) := dk_177 (dk_at dksX0_four_1 14 rfl rfl)
abbrev cX0_end : ByteArray := prog_1_method_16_code
def yX0_end : MethodName := ⟨RX0, "end", "(I)I"⟩
def dkwX0_end_0 : List UInt8 := [27, 133, 9, 42, 180, 0, 122, 133, 184, 0, 109, 154, 0, 5, 2, 172, 42, 27, 181, 0, 122, 27, 172]
abbrev dktX0_end_0 : List UInt8 := dkwX0_end_0 ++ []
theorem dksX0_end_0 : cX0_end.data.toList.drop 0 = dktX0_end_0 := by decide +kernel
theorem dX0_end_0 : decode cX0_end 0 = .ok (.iload_n 1, 1) := dk_27 (dk_at dksX0_end_0 0 rfl rfl)
theorem dX0_end_1 : decode cX0_end 1 = .ok (.i2l, 1) := dk_133 (dk_at dksX0_end_0 1 rfl rfl)
theorem dX0_end_2 : decode cX0_end 2 = .ok (.lconst 0, 1) := dk_9 (dk_at dksX0_end_0 2 rfl rfl)
theorem dX0_end_3 : decode cX0_end 3 = .ok (.aload_n 0, 1) := dk_42 (dk_at dksX0_end_0 3 rfl rfl)
theorem dX0_end_4 : decode cX0_end 4 = .ok (.getfield 122, 3) := dk_180 0 122 (dk_at dksX0_end_0 4 rfl rfl)
theorem dX0_end_7 : decode cX0_end 7 = .ok (.i2l, 1) := dk_133 (dk_at dksX0_end_0 7 rfl rfl)
theorem dX0_end_8 : decode cX0_end 8 = .ok (.invokestatic 109, 3) := dk_184 0 109 (dk_at dksX0_end_0 8 rfl rfl)
theorem dX0_end_11 : decode cX0_end 11 = .ok (.ifCond .ne 5, 3) := dk_154 0 5 (dk_at dksX0_end_0 11 rfl rfl)
theorem dX0_end_14 : decode cX0_end 14 = .ok (.iconst (-1), 1) := dk_2 (dk_at dksX0_end_0 14 rfl rfl)
theorem dX0_end_15 : decode cX0_end 15 = .ok (.ireturn, 1) := dk_172 (dk_at dksX0_end_0 15 rfl rfl)
theorem dX0_end_16 : decode cX0_end 16 = .ok (.aload_n 0, 1) := dk_42 (dk_at dksX0_end_0 16 rfl rfl)
theorem dX0_end_17 : decode cX0_end 17 = .ok (.iload_n 1, 1) := dk_27 (dk_at dksX0_end_0 17 rfl rfl)
theorem dX0_end_18 : decode cX0_end 18 = .ok (.putfield 122, 3) := dk_181 0 122 (dk_at dksX0_end_0 18 rfl rfl)
theorem dX0_end_21 : decode cX0_end 21 = .ok (.iload_n 1, 1) := dk_27 (dk_at dksX0_end_0 21 rfl rfl)
theorem dX0_end_22 : decode cX0_end 22 = .ok (.ireturn, 1) := dk_172 (dk_at dksX0_end_0 22 rfl rfl)
abbrev cX0_in : ByteArray := prog_1_method_1_code
def yX0_in : MethodName := ⟨RX0, "in", "(JJJ)Z"⟩
def dkwX0_in_0 : List UInt8 := [30, 32, 148, 155, 0, 14, 30, 22, 4, 148, 157, 0, 7, 4, 167, 0, 4, 3, 172]
abbrev dktX0_in_0 : List UInt8 := dkwX0_in_0 ++ []
theorem dksX0_in_0 : cX0_in.data.toList.drop 0 = dktX0_in_0 := by decide +kernel
theorem dX0_in_0 : decode cX0_in 0 = .ok (.lload_n 0, 1) := dk_30 (dk_at dksX0_in_0 0 rfl rfl)
theorem dX0_in_1 : decode cX0_in 1 = .ok (.lload_n 2, 1) := dk_32 (dk_at dksX0_in_0 1 rfl rfl)
theorem dX0_in_2 : decode cX0_in 2 = .ok (.lcmp, 1) := dk_148 (dk_at dksX0_in_0 2 rfl rfl)
theorem dX0_in_3 : decode cX0_in 3 = .ok (.ifCond .lt 14, 3) := dk_155 0 14 (dk_at dksX0_in_0 3 rfl rfl)
theorem dX0_in_6 : decode cX0_in 6 = .ok (.lload_n 0, 1) := dk_30 (dk_at dksX0_in_0 6 rfl rfl)
theorem dX0_in_7 : decode cX0_in 7 = .ok (.lload 4, 2) := dk_22 4 (dk_at dksX0_in_0 7 rfl rfl)
theorem dX0_in_9 : decode cX0_in 9 = .ok (.lcmp, 1) := dk_148 (dk_at dksX0_in_0 9 rfl rfl)
theorem dX0_in_10 : decode cX0_in 10 = .ok (.ifCond .gt 7, 3) := dk_157 0 7 (dk_at dksX0_in_0 10 rfl rfl)
theorem dX0_in_13 : decode cX0_in 13 = .ok (.iconst 1, 1) := dk_4 (dk_at dksX0_in_0 13 rfl rfl)
theorem dX0_in_14 : decode cX0_in 14 = .ok (.goto 4, 3) := dk_167 0 4 (dk_at dksX0_in_0 14 rfl rfl)
theorem dX0_in_17 : decode cX0_in 17 = .ok (.iconst 0, 1) := dk_3 (dk_at dksX0_in_0 17 rfl rfl)
theorem dX0_in_18 : decode cX0_in 18 = .ok (.ireturn, 1) := dk_172 (dk_at dksX0_in_0 18 rfl rfl)
abbrev cX0_question : ByteArray := prog_1_method_19_code
def yX0_question : MethodName := ⟨RX0, "question", "(II)I"⟩
def dkwX0_question_3 : List UInt8 := [182, 0, 142, 172]
abbrev dktX0_question_3 : List UInt8 := dkwX0_question_3 ++ []
def dkwX0_question_2 : List UInt8 := [42, 180, 0, 17, 180, 0, 21, 187, 0, 33, 89, 29, 27, 28, 183, 0, 136, 182, 0, 139, 87, 42, 29]
abbrev dktX0_question_2 : List UInt8 := dkwX0_question_2 ++ dktX0_question_3
def dkwX0_question_1 : List UInt8 := [42, 2, 182, 0, 133, 172, 42, 182, 0, 13, 62, 29, 16, 20, 160, 0, 10, 42, 16, 251, 182, 0, 133, 172]
abbrev dktX0_question_1 : List UInt8 := dkwX0_question_1 ++ dktX0_question_2
def dkwX0_question_0 : List UInt8 := [27, 133, 9, 20, 0, 129, 184, 0, 109, 153, 0, 15, 28, 133, 10, 20, 0, 131, 184, 0, 109, 154, 0, 9]
abbrev dktX0_question_0 : List UInt8 := dkwX0_question_0 ++ dktX0_question_1
theorem dksX0_question_0 : cX0_question.data.toList.drop 0 = dktX0_question_0 := by decide +kernel
theorem dksX0_question_1 : cX0_question.data.toList.drop 24 = dktX0_question_1 := dk_seg dksX0_question_0 24 rfl rfl
theorem dksX0_question_2 : cX0_question.data.toList.drop 48 = dktX0_question_2 := dk_seg dksX0_question_1 24 rfl rfl
theorem dksX0_question_3 : cX0_question.data.toList.drop 71 = dktX0_question_3 := dk_seg dksX0_question_2 23 rfl rfl
theorem dX0_question_0 : decode cX0_question 0 = .ok (.iload_n 1, 1) := dk_27 (dk_at dksX0_question_0 0 rfl rfl)
theorem dX0_question_1 : decode cX0_question 1 = .ok (.i2l, 1) := dk_133 (dk_at dksX0_question_0 1 rfl rfl)
theorem dX0_question_2 : decode cX0_question 2 = .ok (.lconst 0, 1) := dk_9 (dk_at dksX0_question_0 2 rfl rfl)
theorem dX0_question_3 : decode cX0_question 3 = .ok (.ldc2_w 129, 3) := dk_20 0 129 (dk_at dksX0_question_0 3 rfl rfl)
theorem dX0_question_6 : decode cX0_question 6 = .ok (.invokestatic 109, 3) := dk_184 0 109 (dk_at dksX0_question_0 6 rfl rfl)
theorem dX0_question_9 : decode cX0_question 9 = .ok (.ifCond .eq 15, 3) := dk_153 0 15 (dk_at dksX0_question_0 9 rfl rfl)
theorem dX0_question_12 : decode cX0_question 12 = .ok (.iload_n 2, 1) := dk_28 (dk_at dksX0_question_0 12 rfl rfl)
theorem dX0_question_13 : decode cX0_question 13 = .ok (.i2l, 1) := dk_133 (dk_at dksX0_question_0 13 rfl rfl)
theorem dX0_question_14 : decode cX0_question 14 = .ok (.lconst 1, 1) := dk_10 (dk_at dksX0_question_0 14 rfl rfl)
theorem dX0_question_15 : decode cX0_question 15 = .ok (.ldc2_w 131, 3) := dk_20 0 131 (dk_at dksX0_question_0 15 rfl rfl)
theorem dX0_question_18 : decode cX0_question 18 = .ok (.invokestatic 109, 3) := dk_184 0 109 (dk_at dksX0_question_0 18 rfl rfl)
theorem dX0_question_21 : decode cX0_question 21 = .ok (.ifCond .ne 9, 3) := dk_154 0 9 (dk_at dksX0_question_0 21 rfl rfl)
theorem dX0_question_24 : decode cX0_question 24 = .ok (.aload_n 0, 1) := dk_42 (dk_at dksX0_question_1 0 rfl rfl)
theorem dX0_question_25 : decode cX0_question 25 = .ok (.iconst (-1), 1) := dk_2 (dk_at dksX0_question_1 1 rfl rfl)
theorem dX0_question_26 : decode cX0_question 26 = .ok (.invokevirtual 133, 3) := dk_182 0 133 (dk_at dksX0_question_1 2 rfl rfl)
theorem dX0_question_29 : decode cX0_question 29 = .ok (.ireturn, 1) := dk_172 (dk_at dksX0_question_1 5 rfl rfl)
theorem dX0_question_30 : decode cX0_question 30 = .ok (.aload_n 0, 1) := dk_42 (dk_at dksX0_question_1 6 rfl rfl)
theorem dX0_question_31 : decode cX0_question 31 = .ok (.invokevirtual 13, 3) := dk_182 0 13 (dk_at dksX0_question_1 7 rfl rfl)
theorem dX0_question_34 : decode cX0_question 34 = .ok (.istore_n 3, 1) := dk_62 (dk_at dksX0_question_1 10 rfl rfl)
theorem dX0_question_35 : decode cX0_question 35 = .ok (.iload_n 3, 1) := dk_29 (dk_at dksX0_question_1 11 rfl rfl)
theorem dX0_question_36 : decode cX0_question 36 = .ok (.bipush 20, 2) := dk_16 20 (dk_at dksX0_question_1 12 rfl rfl)
theorem dX0_question_38 : decode cX0_question 38 = .ok (.if_icmp .ne 10, 3) := dk_160 0 10 (dk_at dksX0_question_1 14 rfl rfl)
theorem dX0_question_41 : decode cX0_question 41 = .ok (.aload_n 0, 1) := dk_42 (dk_at dksX0_question_1 17 rfl rfl)
theorem dX0_question_42 : decode cX0_question 42 = .ok (.bipush (-5), 2) := dk_16 251 (dk_at dksX0_question_1 18 rfl rfl)
theorem dX0_question_44 : decode cX0_question 44 = .ok (.invokevirtual 133, 3) := dk_182 0 133 (dk_at dksX0_question_1 20 rfl rfl)
theorem dX0_question_47 : decode cX0_question 47 = .ok (.ireturn, 1) := dk_172 (dk_at dksX0_question_1 23 rfl rfl)
theorem dX0_question_48 : decode cX0_question 48 = .ok (.aload_n 0, 1) := dk_42 (dk_at dksX0_question_2 0 rfl rfl)
theorem dX0_question_49 : decode cX0_question 49 = .ok (.getfield 17, 3) := dk_180 0 17 (dk_at dksX0_question_2 1 rfl rfl)
theorem dX0_question_52 : decode cX0_question 52 = .ok (.getfield 21, 3) := dk_180 0 21 (dk_at dksX0_question_2 4 rfl rfl)
theorem dX0_question_55 : decode cX0_question 55 = .ok (.new 33, 3) := dk_187 0 33 (dk_at dksX0_question_2 7 rfl rfl)
theorem dX0_question_58 : decode cX0_question 58 = .ok (.dup, 1) := dk_89 (dk_at dksX0_question_2 10 rfl rfl)
theorem dX0_question_59 : decode cX0_question 59 = .ok (.iload_n 3, 1) := dk_29 (dk_at dksX0_question_2 11 rfl rfl)
theorem dX0_question_60 : decode cX0_question 60 = .ok (.iload_n 1, 1) := dk_27 (dk_at dksX0_question_2 12 rfl rfl)
theorem dX0_question_61 : decode cX0_question 61 = .ok (.iload_n 2, 1) := dk_28 (dk_at dksX0_question_2 13 rfl rfl)
theorem dX0_question_62 : decode cX0_question 62 = .ok (.invokespecial 136, 3) := dk_183 0 136 (dk_at dksX0_question_2 14 rfl rfl)
theorem dX0_question_65 : decode cX0_question 65 = .ok (.invokevirtual 139, 3) := dk_182 0 139 (dk_at dksX0_question_2 17 rfl rfl)
theorem dX0_question_68 : decode cX0_question 68 = .ok (.pop, 1) := dk_87 (dk_at dksX0_question_2 20 rfl rfl)
theorem dX0_question_69 : decode cX0_question 69 = .ok (.aload_n 0, 1) := dk_42 (dk_at dksX0_question_2 21 rfl rfl)
theorem dX0_question_70 : decode cX0_question 70 = .ok (.iload_n 3, 1) := dk_29 (dk_at dksX0_question_2 22 rfl rfl)
theorem dX0_question_71 : decode cX0_question 71 = .ok (.invokevirtual 142, 3) := dk_182 0 142 (dk_at dksX0_question_3 0 rfl rfl)
theorem dX0_question_74 : decode cX0_question 74 = .ok (.ireturn, 1) := dk_172 (dk_at dksX0_question_3 3 rfl rfl)
abbrev cX0_tell : ByteArray := prog_1_method_7_code
def yX0_tell : MethodName := ⟨RX0, "tell", "(I)I"⟩
def dkwX0_tell_1 : List UInt8 := [27, 172]
abbrev dktX0_tell_1 : List UInt8 := dkwX0_tell_1 ++ []
def dkwX0_tell_0 : List UInt8 := [42, 27, 3, 184, 0, 93, 181, 0, 99, 27, 156, 0, 14, 42, 180, 0, 78, 27, 116, 92, 46, 4, 96, 79]
abbrev dktX0_tell_0 : List UInt8 := dkwX0_tell_0 ++ dktX0_tell_1
theorem dksX0_tell_0 : cX0_tell.data.toList.drop 0 = dktX0_tell_0 := by decide +kernel
theorem dksX0_tell_1 : cX0_tell.data.toList.drop 24 = dktX0_tell_1 := dk_seg dksX0_tell_0 24 rfl rfl
theorem dX0_tell_0 : decode cX0_tell 0 = .ok (.aload_n 0, 1) := dk_42 (dk_at dksX0_tell_0 0 rfl rfl)
theorem dX0_tell_1 : decode cX0_tell 1 = .ok (.iload_n 1, 1) := dk_27 (dk_at dksX0_tell_0 1 rfl rfl)
theorem dX0_tell_2 : decode cX0_tell 2 = .ok (.iconst 0, 1) := dk_3 (dk_at dksX0_tell_0 2 rfl rfl)
theorem dX0_tell_3 : decode cX0_tell 3 = .ok (.invokestatic 93, 3) := dk_184 0 93 (dk_at dksX0_tell_0 3 rfl rfl)
theorem dX0_tell_6 : decode cX0_tell 6 = .ok (.putfield 99, 3) := dk_181 0 99 (dk_at dksX0_tell_0 6 rfl rfl)
theorem dX0_tell_9 : decode cX0_tell 9 = .ok (.iload_n 1, 1) := dk_27 (dk_at dksX0_tell_0 9 rfl rfl)
theorem dX0_tell_10 : decode cX0_tell 10 = .ok (.ifCond .ge 14, 3) := dk_156 0 14 (dk_at dksX0_tell_0 10 rfl rfl)
theorem dX0_tell_13 : decode cX0_tell 13 = .ok (.aload_n 0, 1) := dk_42 (dk_at dksX0_tell_0 13 rfl rfl)
theorem dX0_tell_14 : decode cX0_tell 14 = .ok (.getfield 78, 3) := dk_180 0 78 (dk_at dksX0_tell_0 14 rfl rfl)
theorem dX0_tell_17 : decode cX0_tell 17 = .ok (.iload_n 1, 1) := dk_27 (dk_at dksX0_tell_0 17 rfl rfl)
theorem dX0_tell_18 : decode cX0_tell 18 = .ok (.ineg, 1) := dk_116 (dk_at dksX0_tell_0 18 rfl rfl)
theorem dX0_tell_19 : decode cX0_tell 19 = .ok (.dup2, 1) := dk_92 (dk_at dksX0_tell_0 19 rfl rfl)
theorem dX0_tell_20 : decode cX0_tell 20 = .ok (.iaload, 1) := dk_46 (dk_at dksX0_tell_0 20 rfl rfl)
theorem dX0_tell_21 : decode cX0_tell 21 = .ok (.iconst 1, 1) := dk_4 (dk_at dksX0_tell_0 21 rfl rfl)
theorem dX0_tell_22 : decode cX0_tell 22 = .ok (.iadd, 1) := dk_96 (dk_at dksX0_tell_0 22 rfl rfl)
theorem dX0_tell_23 : decode cX0_tell 23 = .ok (.iastore, 1) := dk_79 (dk_at dksX0_tell_0 23 rfl rfl)
theorem dX0_tell_24 : decode cX0_tell 24 = .ok (.iload_n 1, 1) := dk_27 (dk_at dksX0_tell_1 0 rfl rfl)
theorem dX0_tell_25 : decode cX0_tell 25 = .ok (.ireturn, 1) := dk_172 (dk_at dksX0_tell_1 1 rfl rfl)
abbrev cX0_many : ByteArray := prog_1_method_9_code
def yX0_many : MethodName := ⟨RX0, "many", "()I"⟩
def dkwX0_many_0 : List UInt8 := [42, 180, 0, 17, 180, 0, 21, 182, 0, 106, 172]
abbrev dktX0_many_0 : List UInt8 := dkwX0_many_0 ++ []
theorem dksX0_many_0 : cX0_many.data.toList.drop 0 = dktX0_many_0 := by decide +kernel
theorem dX0_many_0 : decode cX0_many 0 = .ok (.aload_n 0, 1) := dk_42 (dk_at dksX0_many_0 0 rfl rfl)
theorem dX0_many_1 : decode cX0_many 1 = .ok (.getfield 17, 3) := dk_180 0 17 (dk_at dksX0_many_0 1 rfl rfl)
theorem dX0_many_4 : decode cX0_many 4 = .ok (.getfield 21, 3) := dk_180 0 21 (dk_at dksX0_many_0 4 rfl rfl)
theorem dX0_many_7 : decode cX0_many 7 = .ok (.invokevirtual 106, 3) := dk_182 0 106 (dk_at dksX0_many_0 7 rfl rfl)
theorem dX0_many_10 : decode cX0_many 10 = .ok (.ireturn, 1) := dk_172 (dk_at dksX0_many_0 10 rfl rfl)
abbrev cX0_was : ByteArray := prog_1_method_8_code
def yX0_was : MethodName := ⟨RX0, "was", "(I)I"⟩
def dkwX0_was_0 : List UInt8 := [42, 1, 181, 0, 102, 42, 3, 181, 0, 99, 27, 172]
abbrev dktX0_was_0 : List UInt8 := dkwX0_was_0 ++ []
theorem dksX0_was_0 : cX0_was.data.toList.drop 0 = dktX0_was_0 := by decide +kernel
theorem dX0_was_0 : decode cX0_was 0 = .ok (.aload_n 0, 1) := dk_42 (dk_at dksX0_was_0 0 rfl rfl)
theorem dX0_was_1 : decode cX0_was 1 = .ok (.aconst_null, 1) := dk_1 (dk_at dksX0_was_0 1 rfl rfl)
theorem dX0_was_2 : decode cX0_was 2 = .ok (.putfield 102, 3) := dk_181 0 102 (dk_at dksX0_was_0 2 rfl rfl)
theorem dX0_was_5 : decode cX0_was 5 = .ok (.aload_n 0, 1) := dk_42 (dk_at dksX0_was_0 5 rfl rfl)
theorem dX0_was_6 : decode cX0_was 6 = .ok (.iconst 0, 1) := dk_3 (dk_at dksX0_was_0 6 rfl rfl)
theorem dX0_was_7 : decode cX0_was 7 = .ok (.putfield 99, 3) := dk_181 0 99 (dk_at dksX0_was_0 7 rfl rfl)
theorem dX0_was_10 : decode cX0_was 10 = .ok (.iload_n 1, 1) := dk_27 (dk_at dksX0_was_0 10 rfl rfl)
theorem dX0_was_11 : decode cX0_was 11 = .ok (.ireturn, 1) := dk_172 (dk_at dksX0_was_0 11 rfl rfl)
abbrev cX0_know : ByteArray := prog_1_method_20_code
def yX0_know : MethodName := ⟨RX0, "know", "(III)I"⟩
def dkwX0_know_6 : List UInt8 := [172]
abbrev dktX0_know_6 : List UInt8 := dkwX0_know_6 ++ []
def dkwX0_know_5 : List UInt8 := [167, 0, 18, 25, 4, 29, 4, 160, 0, 7, 4, 167, 0, 4, 3, 181, 0, 35, 42, 21, 5, 182, 0, 142]
abbrev dktX0_know_5 : List UInt8 := dkwX0_know_5 ++ dktX0_know_6
def dkwX0_know_4 : List UInt8 := [25, 4, 29, 181, 0, 39, 167, 0, 36, 25, 4, 29, 4, 160, 0, 7, 4, 167, 0, 4, 3, 181, 0, 43]
abbrev dktX0_know_4 : List UInt8 := dkwX0_know_4 ++ dktX0_know_5
def dkwX0_know_3 : List UInt8 := [171, 0, 0, 0, 0, 0, 0, 55, 0, 0, 0, 2, 0, 0, 0, 0, 0, 0, 0, 28, 0, 0, 0, 1, 0, 0, 0, 37]
abbrev dktX0_know_3 : List UInt8 := dkwX0_know_3 ++ dktX0_know_4
def dkwX0_know_2 : List UInt8 := [25, 4, 199, 0, 10, 42, 16, 254, 182, 0, 133, 172, 42, 27, 28, 5, 96, 182, 0, 151, 54, 5, 28]
abbrev dktX0_know_2 : List UInt8 := dkwX0_know_2 ++ dktX0_know_3
def dkwX0_know_1 : List UInt8 := [167, 0, 4, 10, 184, 0, 109, 154, 0, 9, 42, 2, 182, 0, 133, 172, 42, 27, 182, 0, 147, 58, 4]
abbrev dktX0_know_1 : List UInt8 := dkwX0_know_1 ++ dktX0_know_2
def dkwX0_know_0 : List UInt8 := [28, 133, 9, 20, 0, 145, 184, 0, 109, 153, 0, 23, 29, 133, 9, 28, 154, 0, 9, 20, 0, 145]
abbrev dktX0_know_0 : List UInt8 := dkwX0_know_0 ++ dktX0_know_1
theorem dksX0_know_0 : cX0_know.data.toList.drop 0 = dktX0_know_0 := by decide +kernel
theorem dksX0_know_1 : cX0_know.data.toList.drop 22 = dktX0_know_1 := dk_seg dksX0_know_0 22 rfl rfl
theorem dksX0_know_2 : cX0_know.data.toList.drop 45 = dktX0_know_2 := dk_seg dksX0_know_1 23 rfl rfl
theorem dksX0_know_3 : cX0_know.data.toList.drop 68 = dktX0_know_3 := dk_seg dksX0_know_2 23 rfl rfl
theorem dksX0_know_4 : cX0_know.data.toList.drop 96 = dktX0_know_4 := dk_seg dksX0_know_3 28 rfl rfl
theorem dksX0_know_5 : cX0_know.data.toList.drop 120 = dktX0_know_5 := dk_seg dksX0_know_4 24 rfl rfl
theorem dksX0_know_6 : cX0_know.data.toList.drop 144 = dktX0_know_6 := dk_seg dksX0_know_5 24 rfl rfl
theorem dX0_know_0 : decode cX0_know 0 = .ok (.iload_n 2, 1) := dk_28 (dk_at dksX0_know_0 0 rfl rfl)
theorem dX0_know_1 : decode cX0_know 1 = .ok (.i2l, 1) := dk_133 (dk_at dksX0_know_0 1 rfl rfl)
theorem dX0_know_2 : decode cX0_know 2 = .ok (.lconst 0, 1) := dk_9 (dk_at dksX0_know_0 2 rfl rfl)
theorem dX0_know_3 : decode cX0_know 3 = .ok (.ldc2_w 145, 3) := dk_20 0 145 (dk_at dksX0_know_0 3 rfl rfl)
theorem dX0_know_6 : decode cX0_know 6 = .ok (.invokestatic 109, 3) := dk_184 0 109 (dk_at dksX0_know_0 6 rfl rfl)
theorem dX0_know_9 : decode cX0_know 9 = .ok (.ifCond .eq 23, 3) := dk_153 0 23 (dk_at dksX0_know_0 9 rfl rfl)
theorem dX0_know_12 : decode cX0_know 12 = .ok (.iload_n 3, 1) := dk_29 (dk_at dksX0_know_0 12 rfl rfl)
theorem dX0_know_13 : decode cX0_know 13 = .ok (.i2l, 1) := dk_133 (dk_at dksX0_know_0 13 rfl rfl)
theorem dX0_know_14 : decode cX0_know 14 = .ok (.lconst 0, 1) := dk_9 (dk_at dksX0_know_0 14 rfl rfl)
theorem dX0_know_15 : decode cX0_know 15 = .ok (.iload_n 2, 1) := dk_28 (dk_at dksX0_know_0 15 rfl rfl)
theorem dX0_know_16 : decode cX0_know 16 = .ok (.ifCond .ne 9, 3) := dk_154 0 9 (dk_at dksX0_know_0 16 rfl rfl)
theorem dX0_know_19 : decode cX0_know 19 = .ok (.ldc2_w 145, 3) := dk_20 0 145 (dk_at dksX0_know_0 19 rfl rfl)
theorem dX0_know_22 : decode cX0_know 22 = .ok (.goto 4, 3) := dk_167 0 4 (dk_at dksX0_know_1 0 rfl rfl)
theorem dX0_know_25 : decode cX0_know 25 = .ok (.lconst 1, 1) := dk_10 (dk_at dksX0_know_1 3 rfl rfl)
theorem dX0_know_26 : decode cX0_know 26 = .ok (.invokestatic 109, 3) := dk_184 0 109 (dk_at dksX0_know_1 4 rfl rfl)
theorem dX0_know_29 : decode cX0_know 29 = .ok (.ifCond .ne 9, 3) := dk_154 0 9 (dk_at dksX0_know_1 7 rfl rfl)
theorem dX0_know_32 : decode cX0_know 32 = .ok (.aload_n 0, 1) := dk_42 (dk_at dksX0_know_1 10 rfl rfl)
theorem dX0_know_33 : decode cX0_know 33 = .ok (.iconst (-1), 1) := dk_2 (dk_at dksX0_know_1 11 rfl rfl)
theorem dX0_know_34 : decode cX0_know 34 = .ok (.invokevirtual 133, 3) := dk_182 0 133 (dk_at dksX0_know_1 12 rfl rfl)
theorem dX0_know_37 : decode cX0_know 37 = .ok (.ireturn, 1) := dk_172 (dk_at dksX0_know_1 15 rfl rfl)
theorem dX0_know_38 : decode cX0_know 38 = .ok (.aload_n 0, 1) := dk_42 (dk_at dksX0_know_1 16 rfl rfl)
theorem dX0_know_39 : decode cX0_know 39 = .ok (.iload_n 1, 1) := dk_27 (dk_at dksX0_know_1 17 rfl rfl)
theorem dX0_know_40 : decode cX0_know 40 = .ok (.invokevirtual 147, 3) := dk_182 0 147 (dk_at dksX0_know_1 18 rfl rfl)
theorem dX0_know_43 : decode cX0_know 43 = .ok (.astore 4, 2) := dk_58 4 (dk_at dksX0_know_1 21 rfl rfl)
theorem dX0_know_45 : decode cX0_know 45 = .ok (.aload 4, 2) := dk_25 4 (dk_at dksX0_know_2 0 rfl rfl)
theorem dX0_know_47 : decode cX0_know 47 = .ok (.ifnonnull 10, 3) := dk_199 0 10 (dk_at dksX0_know_2 2 rfl rfl)
theorem dX0_know_50 : decode cX0_know 50 = .ok (.aload_n 0, 1) := dk_42 (dk_at dksX0_know_2 5 rfl rfl)
theorem dX0_know_51 : decode cX0_know 51 = .ok (.bipush (-2), 2) := dk_16 254 (dk_at dksX0_know_2 6 rfl rfl)
theorem dX0_know_53 : decode cX0_know 53 = .ok (.invokevirtual 133, 3) := dk_182 0 133 (dk_at dksX0_know_2 8 rfl rfl)
theorem dX0_know_56 : decode cX0_know 56 = .ok (.ireturn, 1) := dk_172 (dk_at dksX0_know_2 11 rfl rfl)
theorem dX0_know_57 : decode cX0_know 57 = .ok (.aload_n 0, 1) := dk_42 (dk_at dksX0_know_2 12 rfl rfl)
theorem dX0_know_58 : decode cX0_know 58 = .ok (.iload_n 1, 1) := dk_27 (dk_at dksX0_know_2 13 rfl rfl)
theorem dX0_know_59 : decode cX0_know 59 = .ok (.iload_n 2, 1) := dk_28 (dk_at dksX0_know_2 14 rfl rfl)
theorem dX0_know_60 : decode cX0_know 60 = .ok (.iconst 2, 1) := dk_5 (dk_at dksX0_know_2 15 rfl rfl)
theorem dX0_know_61 : decode cX0_know 61 = .ok (.iadd, 1) := dk_96 (dk_at dksX0_know_2 16 rfl rfl)
theorem dX0_know_62 : decode cX0_know 62 = .ok (.invokevirtual 151, 3) := dk_182 0 151 (dk_at dksX0_know_2 17 rfl rfl)
theorem dX0_know_65 : decode cX0_know 65 = .ok (.istore 5, 2) := dk_54 5 (dk_at dksX0_know_2 20 rfl rfl)
theorem dX0_know_67 : decode cX0_know 67 = .ok (.iload_n 2, 1) := dk_28 (dk_at dksX0_know_2 22 rfl rfl)
theorem dX0_know_68 : decode cX0_know 68 = .ok (.lookupswitch 55 #[(0, 28), (1, 37)], 28) := by decide +kernel
theorem dX0_know_96 : decode cX0_know 96 = .ok (.aload 4, 2) := dk_25 4 (dk_at dksX0_know_4 0 rfl rfl)
theorem dX0_know_98 : decode cX0_know 98 = .ok (.iload_n 3, 1) := dk_29 (dk_at dksX0_know_4 2 rfl rfl)
theorem dX0_know_99 : decode cX0_know 99 = .ok (.putfield 39, 3) := dk_181 0 39 (dk_at dksX0_know_4 3 rfl rfl)
theorem dX0_know_102 : decode cX0_know 102 = .ok (.goto 36, 3) := dk_167 0 36 (dk_at dksX0_know_4 6 rfl rfl)
theorem dX0_know_105 : decode cX0_know 105 = .ok (.aload 4, 2) := dk_25 4 (dk_at dksX0_know_4 9 rfl rfl)
theorem dX0_know_107 : decode cX0_know 107 = .ok (.iload_n 3, 1) := dk_29 (dk_at dksX0_know_4 11 rfl rfl)
theorem dX0_know_108 : decode cX0_know 108 = .ok (.iconst 1, 1) := dk_4 (dk_at dksX0_know_4 12 rfl rfl)
theorem dX0_know_109 : decode cX0_know 109 = .ok (.if_icmp .ne 7, 3) := dk_160 0 7 (dk_at dksX0_know_4 13 rfl rfl)
theorem dX0_know_112 : decode cX0_know 112 = .ok (.iconst 1, 1) := dk_4 (dk_at dksX0_know_4 16 rfl rfl)
theorem dX0_know_113 : decode cX0_know 113 = .ok (.goto 4, 3) := dk_167 0 4 (dk_at dksX0_know_4 17 rfl rfl)
theorem dX0_know_116 : decode cX0_know 116 = .ok (.iconst 0, 1) := dk_3 (dk_at dksX0_know_4 20 rfl rfl)
theorem dX0_know_117 : decode cX0_know 117 = .ok (.putfield 43, 3) := dk_181 0 43 (dk_at dksX0_know_4 21 rfl rfl)
theorem dX0_know_120 : decode cX0_know 120 = .ok (.goto 18, 3) := dk_167 0 18 (dk_at dksX0_know_5 0 rfl rfl)
theorem dX0_know_123 : decode cX0_know 123 = .ok (.aload 4, 2) := dk_25 4 (dk_at dksX0_know_5 3 rfl rfl)
theorem dX0_know_125 : decode cX0_know 125 = .ok (.iload_n 3, 1) := dk_29 (dk_at dksX0_know_5 5 rfl rfl)
theorem dX0_know_126 : decode cX0_know 126 = .ok (.iconst 1, 1) := dk_4 (dk_at dksX0_know_5 6 rfl rfl)
theorem dX0_know_127 : decode cX0_know 127 = .ok (.if_icmp .ne 7, 3) := dk_160 0 7 (dk_at dksX0_know_5 7 rfl rfl)
theorem dX0_know_130 : decode cX0_know 130 = .ok (.iconst 1, 1) := dk_4 (dk_at dksX0_know_5 10 rfl rfl)
theorem dX0_know_131 : decode cX0_know 131 = .ok (.goto 4, 3) := dk_167 0 4 (dk_at dksX0_know_5 11 rfl rfl)
theorem dX0_know_134 : decode cX0_know 134 = .ok (.iconst 0, 1) := dk_3 (dk_at dksX0_know_5 14 rfl rfl)
theorem dX0_know_135 : decode cX0_know 135 = .ok (.putfield 35, 3) := dk_181 0 35 (dk_at dksX0_know_5 15 rfl rfl)
theorem dX0_know_138 : decode cX0_know 138 = .ok (.aload_n 0, 1) := dk_42 (dk_at dksX0_know_5 18 rfl rfl)
theorem dX0_know_139 : decode cX0_know 139 = .ok (.iload 5, 2) := dk_21 5 (dk_at dksX0_know_5 19 rfl rfl)
theorem dX0_know_141 : decode cX0_know 141 = .ok (.invokevirtual 142, 3) := dk_182 0 142 (dk_at dksX0_know_5 21 rfl rfl)
theorem dX0_know_144 : decode cX0_know 144 = .ok (.ireturn, 1) := dk_172 (dk_at dksX0_know_6 0 rfl rfl)
abbrev cX0_questionOf : ByteArray := prog_1_method_10_code
def yX0_questionOf : MethodName := ⟨RX0, "questionOf", "(I)LExamSlips$Question;"⟩
def dkwX0_questionOf_1 : List UInt8 := [182, 0, 27, 192, 0, 33, 167, 0, 4, 1, 176]
abbrev dktX0_questionOf_1 : List UInt8 := dkwX0_questionOf_1 ++ []
def dkwX0_questionOf_0 : List UInt8 := [27, 133, 9, 42, 182, 0, 13, 4, 100, 133, 184, 0, 109, 153, 0, 20, 42, 180, 0, 17, 180, 0, 21, 27]
abbrev dktX0_questionOf_0 : List UInt8 := dkwX0_questionOf_0 ++ dktX0_questionOf_1
theorem dksX0_questionOf_0 : cX0_questionOf.data.toList.drop 0 = dktX0_questionOf_0 := by decide +kernel
theorem dksX0_questionOf_1 : cX0_questionOf.data.toList.drop 24 = dktX0_questionOf_1 := dk_seg dksX0_questionOf_0 24 rfl rfl
theorem dX0_questionOf_0 : decode cX0_questionOf 0 = .ok (.iload_n 1, 1) := dk_27 (dk_at dksX0_questionOf_0 0 rfl rfl)
theorem dX0_questionOf_1 : decode cX0_questionOf 1 = .ok (.i2l, 1) := dk_133 (dk_at dksX0_questionOf_0 1 rfl rfl)
theorem dX0_questionOf_2 : decode cX0_questionOf 2 = .ok (.lconst 0, 1) := dk_9 (dk_at dksX0_questionOf_0 2 rfl rfl)
theorem dX0_questionOf_3 : decode cX0_questionOf 3 = .ok (.aload_n 0, 1) := dk_42 (dk_at dksX0_questionOf_0 3 rfl rfl)
theorem dX0_questionOf_4 : decode cX0_questionOf 4 = .ok (.invokevirtual 13, 3) := dk_182 0 13 (dk_at dksX0_questionOf_0 4 rfl rfl)
theorem dX0_questionOf_7 : decode cX0_questionOf 7 = .ok (.iconst 1, 1) := dk_4 (dk_at dksX0_questionOf_0 7 rfl rfl)
theorem dX0_questionOf_8 : decode cX0_questionOf 8 = .ok (.isub, 1) := dk_100 (dk_at dksX0_questionOf_0 8 rfl rfl)
theorem dX0_questionOf_9 : decode cX0_questionOf 9 = .ok (.i2l, 1) := dk_133 (dk_at dksX0_questionOf_0 9 rfl rfl)
theorem dX0_questionOf_10 : decode cX0_questionOf 10 = .ok (.invokestatic 109, 3) := dk_184 0 109 (dk_at dksX0_questionOf_0 10 rfl rfl)
theorem dX0_questionOf_13 : decode cX0_questionOf 13 = .ok (.ifCond .eq 20, 3) := dk_153 0 20 (dk_at dksX0_questionOf_0 13 rfl rfl)
theorem dX0_questionOf_16 : decode cX0_questionOf 16 = .ok (.aload_n 0, 1) := dk_42 (dk_at dksX0_questionOf_0 16 rfl rfl)
theorem dX0_questionOf_17 : decode cX0_questionOf 17 = .ok (.getfield 17, 3) := dk_180 0 17 (dk_at dksX0_questionOf_0 17 rfl rfl)
theorem dX0_questionOf_20 : decode cX0_questionOf 20 = .ok (.getfield 21, 3) := dk_180 0 21 (dk_at dksX0_questionOf_0 20 rfl rfl)
theorem dX0_questionOf_23 : decode cX0_questionOf 23 = .ok (.iload_n 1, 1) := dk_27 (dk_at dksX0_questionOf_0 23 rfl rfl)
theorem dX0_questionOf_24 : decode cX0_questionOf 24 = .ok (.invokevirtual 27, 3) := dk_182 0 27 (dk_at dksX0_questionOf_1 0 rfl rfl)
theorem dX0_questionOf_27 : decode cX0_questionOf 27 = .ok (.checkcast 33, 3) := dk_192 0 33 (dk_at dksX0_questionOf_1 3 rfl rfl)
theorem dX0_questionOf_30 : decode cX0_questionOf 30 = .ok (.goto 4, 3) := dk_167 0 4 (dk_at dksX0_questionOf_1 6 rfl rfl)
theorem dX0_questionOf_33 : decode cX0_questionOf 33 = .ok (.aconst_null, 1) := dk_1 (dk_at dksX0_questionOf_1 9 rfl rfl)
theorem dX0_questionOf_34 : decode cX0_questionOf 34 = .ok (.areturn, 1) := dk_176 (dk_at dksX0_questionOf_1 10 rfl rfl)
abbrev cX0_of : ByteArray := prog_1_method_21_code
def yX0_of : MethodName := ⟨RX0, "of", "(II)I"⟩
def dkwX0_of_3 : List UInt8 := [167, 0, 4, 3, 172, 45, 180, 0, 35, 153, 0, 7, 4, 167, 0, 4, 3, 172, 2, 172]
abbrev dktX0_of_3 : List UInt8 := dkwX0_of_3 ++ []
def dkwX0_of_2 : List UInt8 := [45, 180, 0, 154, 172, 45, 180, 0, 157, 172, 45, 180, 0, 39, 172, 45, 180, 0, 43, 153, 0, 7, 4]
abbrev dktX0_of_2 : List UInt8 := dkwX0_of_2 ++ dktX0_of_3
def dkwX0_of_1 : List UInt8 := [170, 0, 0, 0, 0, 0, 76, 0, 0, 0, 0, 0, 0, 0, 4, 0, 0, 0, 35, 0, 0, 0, 40, 0, 0, 0, 45, 0, 0, 0, 50, 0, 0, 0, 63]
abbrev dktX0_of_1 : List UInt8 := dkwX0_of_1 ++ dktX0_of_2
def dkwX0_of_0 : List UInt8 := [42, 27, 182, 0, 147, 78, 45, 199, 0, 5, 2, 172, 28]
abbrev dktX0_of_0 : List UInt8 := dkwX0_of_0 ++ dktX0_of_1
theorem dksX0_of_0 : cX0_of.data.toList.drop 0 = dktX0_of_0 := by decide +kernel
theorem dksX0_of_1 : cX0_of.data.toList.drop 13 = dktX0_of_1 := dk_seg dksX0_of_0 13 rfl rfl
theorem dksX0_of_2 : cX0_of.data.toList.drop 48 = dktX0_of_2 := dk_seg dksX0_of_1 35 rfl rfl
theorem dksX0_of_3 : cX0_of.data.toList.drop 71 = dktX0_of_3 := dk_seg dksX0_of_2 23 rfl rfl
theorem dX0_of_0 : decode cX0_of 0 = .ok (.aload_n 0, 1) := dk_42 (dk_at dksX0_of_0 0 rfl rfl)
theorem dX0_of_1 : decode cX0_of 1 = .ok (.iload_n 1, 1) := dk_27 (dk_at dksX0_of_0 1 rfl rfl)
theorem dX0_of_2 : decode cX0_of 2 = .ok (.invokevirtual 147, 3) := dk_182 0 147 (dk_at dksX0_of_0 2 rfl rfl)
theorem dX0_of_5 : decode cX0_of 5 = .ok (.astore_n 3, 1) := dk_78 (dk_at dksX0_of_0 5 rfl rfl)
theorem dX0_of_6 : decode cX0_of 6 = .ok (.aload_n 3, 1) := dk_45 (dk_at dksX0_of_0 6 rfl rfl)
theorem dX0_of_7 : decode cX0_of 7 = .ok (.ifnonnull 5, 3) := dk_199 0 5 (dk_at dksX0_of_0 7 rfl rfl)
theorem dX0_of_10 : decode cX0_of 10 = .ok (.iconst (-1), 1) := dk_2 (dk_at dksX0_of_0 10 rfl rfl)
theorem dX0_of_11 : decode cX0_of 11 = .ok (.ireturn, 1) := dk_172 (dk_at dksX0_of_0 11 rfl rfl)
theorem dX0_of_12 : decode cX0_of 12 = .ok (.iload_n 2, 1) := dk_28 (dk_at dksX0_of_0 12 rfl rfl)
theorem dX0_of_13 : decode cX0_of 13 = .ok (.tableswitch 76 0 4 #[35, 40, 45, 50, 63], 35) := by decide +kernel
theorem dX0_of_48 : decode cX0_of 48 = .ok (.aload_n 3, 1) := dk_45 (dk_at dksX0_of_2 0 rfl rfl)
theorem dX0_of_49 : decode cX0_of 49 = .ok (.getfield 154, 3) := dk_180 0 154 (dk_at dksX0_of_2 1 rfl rfl)
theorem dX0_of_52 : decode cX0_of 52 = .ok (.ireturn, 1) := dk_172 (dk_at dksX0_of_2 4 rfl rfl)
theorem dX0_of_53 : decode cX0_of 53 = .ok (.aload_n 3, 1) := dk_45 (dk_at dksX0_of_2 5 rfl rfl)
theorem dX0_of_54 : decode cX0_of 54 = .ok (.getfield 157, 3) := dk_180 0 157 (dk_at dksX0_of_2 6 rfl rfl)
theorem dX0_of_57 : decode cX0_of 57 = .ok (.ireturn, 1) := dk_172 (dk_at dksX0_of_2 9 rfl rfl)
theorem dX0_of_58 : decode cX0_of 58 = .ok (.aload_n 3, 1) := dk_45 (dk_at dksX0_of_2 10 rfl rfl)
theorem dX0_of_59 : decode cX0_of 59 = .ok (.getfield 39, 3) := dk_180 0 39 (dk_at dksX0_of_2 11 rfl rfl)
theorem dX0_of_62 : decode cX0_of 62 = .ok (.ireturn, 1) := dk_172 (dk_at dksX0_of_2 14 rfl rfl)
theorem dX0_of_63 : decode cX0_of 63 = .ok (.aload_n 3, 1) := dk_45 (dk_at dksX0_of_2 15 rfl rfl)
theorem dX0_of_64 : decode cX0_of 64 = .ok (.getfield 43, 3) := dk_180 0 43 (dk_at dksX0_of_2 16 rfl rfl)
theorem dX0_of_67 : decode cX0_of 67 = .ok (.ifCond .eq 7, 3) := dk_153 0 7 (dk_at dksX0_of_2 19 rfl rfl)
theorem dX0_of_70 : decode cX0_of 70 = .ok (.iconst 1, 1) := dk_4 (dk_at dksX0_of_2 22 rfl rfl)
theorem dX0_of_71 : decode cX0_of 71 = .ok (.goto 4, 3) := dk_167 0 4 (dk_at dksX0_of_3 0 rfl rfl)
theorem dX0_of_74 : decode cX0_of 74 = .ok (.iconst 0, 1) := dk_3 (dk_at dksX0_of_3 3 rfl rfl)
theorem dX0_of_75 : decode cX0_of 75 = .ok (.ireturn, 1) := dk_172 (dk_at dksX0_of_3 4 rfl rfl)
theorem dX0_of_76 : decode cX0_of 76 = .ok (.aload_n 3, 1) := dk_45 (dk_at dksX0_of_3 5 rfl rfl)
theorem dX0_of_77 : decode cX0_of 77 = .ok (.getfield 35, 3) := dk_180 0 35 (dk_at dksX0_of_3 6 rfl rfl)
theorem dX0_of_80 : decode cX0_of 80 = .ok (.ifCond .eq 7, 3) := dk_153 0 7 (dk_at dksX0_of_3 9 rfl rfl)
theorem dX0_of_83 : decode cX0_of 83 = .ok (.iconst 1, 1) := dk_4 (dk_at dksX0_of_3 12 rfl rfl)
theorem dX0_of_84 : decode cX0_of 84 = .ok (.goto 4, 3) := dk_167 0 4 (dk_at dksX0_of_3 13 rfl rfl)
theorem dX0_of_87 : decode cX0_of 87 = .ok (.iconst 0, 1) := dk_3 (dk_at dksX0_of_3 16 rfl rfl)
theorem dX0_of_88 : decode cX0_of 88 = .ok (.ireturn, 1) := dk_172 (dk_at dksX0_of_3 17 rfl rfl)
theorem dX0_of_89 : decode cX0_of 89 = .ok (.iconst (-1), 1) := dk_2 (dk_at dksX0_of_3 18 rfl rfl)
theorem dX0_of_90 : decode cX0_of 90 = .ok (.ireturn, 1) := dk_172 (dk_at dksX0_of_3 19 rfl rfl)
abbrev cX0_terms : ByteArray := prog_1_method_23_code
def yX0_terms : MethodName := ⟨RX0, "terms", "(II)I"⟩
def dkwX0_terms_1 : List UInt8 := [42, 180, 0, 17, 180, 0, 174, 27, 28, 79, 42, 29, 182, 0, 142, 172]
abbrev dktX0_terms_1 : List UInt8 := dkwX0_terms_1 ++ []
def dkwX0_terms_0 : List UInt8 := [27, 28, 184, 0, 170, 154, 0, 9, 42, 2, 182, 0, 133, 172, 42, 180, 0, 17, 180, 0, 174, 27, 46, 62]
abbrev dktX0_terms_0 : List UInt8 := dkwX0_terms_0 ++ dktX0_terms_1
theorem dksX0_terms_0 : cX0_terms.data.toList.drop 0 = dktX0_terms_0 := by decide +kernel
theorem dksX0_terms_1 : cX0_terms.data.toList.drop 24 = dktX0_terms_1 := dk_seg dksX0_terms_0 24 rfl rfl
theorem dX0_terms_0 : decode cX0_terms 0 = .ok (.iload_n 1, 1) := dk_27 (dk_at dksX0_terms_0 0 rfl rfl)
theorem dX0_terms_1 : decode cX0_terms 1 = .ok (.iload_n 2, 1) := dk_28 (dk_at dksX0_terms_0 1 rfl rfl)
theorem dX0_terms_2 : decode cX0_terms 2 = .ok (.invokestatic 170, 3) := dk_184 0 170 (dk_at dksX0_terms_0 2 rfl rfl)
theorem dX0_terms_5 : decode cX0_terms 5 = .ok (.ifCond .ne 9, 3) := dk_154 0 9 (dk_at dksX0_terms_0 5 rfl rfl)
theorem dX0_terms_8 : decode cX0_terms 8 = .ok (.aload_n 0, 1) := dk_42 (dk_at dksX0_terms_0 8 rfl rfl)
theorem dX0_terms_9 : decode cX0_terms 9 = .ok (.iconst (-1), 1) := dk_2 (dk_at dksX0_terms_0 9 rfl rfl)
theorem dX0_terms_10 : decode cX0_terms 10 = .ok (.invokevirtual 133, 3) := dk_182 0 133 (dk_at dksX0_terms_0 10 rfl rfl)
theorem dX0_terms_13 : decode cX0_terms 13 = .ok (.ireturn, 1) := dk_172 (dk_at dksX0_terms_0 13 rfl rfl)
theorem dX0_terms_14 : decode cX0_terms 14 = .ok (.aload_n 0, 1) := dk_42 (dk_at dksX0_terms_0 14 rfl rfl)
theorem dX0_terms_15 : decode cX0_terms 15 = .ok (.getfield 17, 3) := dk_180 0 17 (dk_at dksX0_terms_0 15 rfl rfl)
theorem dX0_terms_18 : decode cX0_terms 18 = .ok (.getfield 174, 3) := dk_180 0 174 (dk_at dksX0_terms_0 18 rfl rfl)
theorem dX0_terms_21 : decode cX0_terms 21 = .ok (.iload_n 1, 1) := dk_27 (dk_at dksX0_terms_0 21 rfl rfl)
theorem dX0_terms_22 : decode cX0_terms 22 = .ok (.iaload, 1) := dk_46 (dk_at dksX0_terms_0 22 rfl rfl)
theorem dX0_terms_23 : decode cX0_terms 23 = .ok (.istore_n 3, 1) := dk_62 (dk_at dksX0_terms_0 23 rfl rfl)
theorem dX0_terms_24 : decode cX0_terms 24 = .ok (.aload_n 0, 1) := dk_42 (dk_at dksX0_terms_1 0 rfl rfl)
theorem dX0_terms_25 : decode cX0_terms 25 = .ok (.getfield 17, 3) := dk_180 0 17 (dk_at dksX0_terms_1 1 rfl rfl)
theorem dX0_terms_28 : decode cX0_terms 28 = .ok (.getfield 174, 3) := dk_180 0 174 (dk_at dksX0_terms_1 4 rfl rfl)
theorem dX0_terms_31 : decode cX0_terms 31 = .ok (.iload_n 1, 1) := dk_27 (dk_at dksX0_terms_1 7 rfl rfl)
theorem dX0_terms_32 : decode cX0_terms 32 = .ok (.iload_n 2, 1) := dk_28 (dk_at dksX0_terms_1 8 rfl rfl)
theorem dX0_terms_33 : decode cX0_terms 33 = .ok (.iastore, 1) := dk_79 (dk_at dksX0_terms_1 9 rfl rfl)
theorem dX0_terms_34 : decode cX0_terms 34 = .ok (.aload_n 0, 1) := dk_42 (dk_at dksX0_terms_1 10 rfl rfl)
theorem dX0_terms_35 : decode cX0_terms 35 = .ok (.iload_n 3, 1) := dk_29 (dk_at dksX0_terms_1 11 rfl rfl)
theorem dX0_terms_36 : decode cX0_terms 36 = .ok (.invokevirtual 142, 3) := dk_182 0 142 (dk_at dksX0_terms_1 12 rfl rfl)
theorem dX0_terms_39 : decode cX0_terms 39 = .ok (.ireturn, 1) := dk_172 (dk_at dksX0_terms_1 15 rfl rfl)
abbrev cX0_isTerm : ByteArray := prog_1_method_22_code
def yX0_isTerm : MethodName := ⟨RX0, "isTerm", "(II)Z"⟩
def dkwX0_isTerm_5 : List UInt8 := [3, 172]
abbrev dktX0_isTerm_5 : List UInt8 := dkwX0_isTerm_5 ++ []
def dkwX0_isTerm_4 : List UInt8 := [184, 0, 109, 172, 27, 133, 10, 20, 0, 166, 184, 0, 109, 172, 27, 133, 9, 20, 0, 168, 184, 0, 109, 172]
abbrev dktX0_isTerm_4 : List UInt8 := dkwX0_isTerm_4 ++ dktX0_isTerm_5
def dkwX0_isTerm_3 : List UInt8 := [20, 0, 162, 184, 0, 109, 172, 27, 133, 9, 20, 0, 164, 184, 0, 109, 172, 27, 133, 9, 20, 0, 164]
abbrev dktX0_isTerm_3 : List UInt8 := dkwX0_isTerm_3 ++ dktX0_isTerm_4
def dkwX0_isTerm_2 : List UInt8 := [27, 133, 10, 20, 0, 160, 184, 0, 109, 172, 27, 133, 10, 20, 0, 162, 184, 0, 109, 172, 27, 133, 10]
abbrev dktX0_isTerm_2 : List UInt8 := dkwX0_isTerm_2 ++ dktX0_isTerm_3
def dkwX0_isTerm_1 : List UInt8 := [170, 0, 0, 0, 0, 0, 113, 0, 0, 0, 0, 0, 0, 0, 6, 0, 0, 0, 43, 0, 0, 0, 53, 0, 0, 0, 63, 0, 0, 0, 73, 0, 0, 0, 83, 0, 0, 0, 93, 0, 0, 0, 103]
abbrev dktX0_isTerm_1 : List UInt8 := dkwX0_isTerm_1 ++ dktX0_isTerm_2
def dkwX0_isTerm_0 : List UInt8 := [26]
abbrev dktX0_isTerm_0 : List UInt8 := dkwX0_isTerm_0 ++ dktX0_isTerm_1
theorem dksX0_isTerm_0 : cX0_isTerm.data.toList.drop 0 = dktX0_isTerm_0 := by decide +kernel
theorem dksX0_isTerm_1 : cX0_isTerm.data.toList.drop 1 = dktX0_isTerm_1 := dk_seg dksX0_isTerm_0 1 rfl rfl
theorem dksX0_isTerm_2 : cX0_isTerm.data.toList.drop 44 = dktX0_isTerm_2 := dk_seg dksX0_isTerm_1 43 rfl rfl
theorem dksX0_isTerm_3 : cX0_isTerm.data.toList.drop 67 = dktX0_isTerm_3 := dk_seg dksX0_isTerm_2 23 rfl rfl
theorem dksX0_isTerm_4 : cX0_isTerm.data.toList.drop 90 = dktX0_isTerm_4 := dk_seg dksX0_isTerm_3 23 rfl rfl
theorem dksX0_isTerm_5 : cX0_isTerm.data.toList.drop 114 = dktX0_isTerm_5 := dk_seg dksX0_isTerm_4 24 rfl rfl
theorem dX0_isTerm_0 : decode cX0_isTerm 0 = .ok (.iload_n 0, 1) := dk_26 (dk_at dksX0_isTerm_0 0 rfl rfl)
theorem dX0_isTerm_1 : decode cX0_isTerm 1 = .ok (.tableswitch 113 0 6 #[43, 53, 63, 73, 83, 93, 103], 43) := by decide +kernel
theorem dX0_isTerm_44 : decode cX0_isTerm 44 = .ok (.iload_n 1, 1) := dk_27 (dk_at dksX0_isTerm_2 0 rfl rfl)
theorem dX0_isTerm_45 : decode cX0_isTerm 45 = .ok (.i2l, 1) := dk_133 (dk_at dksX0_isTerm_2 1 rfl rfl)
theorem dX0_isTerm_46 : decode cX0_isTerm 46 = .ok (.lconst 1, 1) := dk_10 (dk_at dksX0_isTerm_2 2 rfl rfl)
theorem dX0_isTerm_47 : decode cX0_isTerm 47 = .ok (.ldc2_w 160, 3) := dk_20 0 160 (dk_at dksX0_isTerm_2 3 rfl rfl)
theorem dX0_isTerm_50 : decode cX0_isTerm 50 = .ok (.invokestatic 109, 3) := dk_184 0 109 (dk_at dksX0_isTerm_2 6 rfl rfl)
theorem dX0_isTerm_53 : decode cX0_isTerm 53 = .ok (.ireturn, 1) := dk_172 (dk_at dksX0_isTerm_2 9 rfl rfl)
theorem dX0_isTerm_54 : decode cX0_isTerm 54 = .ok (.iload_n 1, 1) := dk_27 (dk_at dksX0_isTerm_2 10 rfl rfl)
theorem dX0_isTerm_55 : decode cX0_isTerm 55 = .ok (.i2l, 1) := dk_133 (dk_at dksX0_isTerm_2 11 rfl rfl)
theorem dX0_isTerm_56 : decode cX0_isTerm 56 = .ok (.lconst 1, 1) := dk_10 (dk_at dksX0_isTerm_2 12 rfl rfl)
theorem dX0_isTerm_57 : decode cX0_isTerm 57 = .ok (.ldc2_w 162, 3) := dk_20 0 162 (dk_at dksX0_isTerm_2 13 rfl rfl)
theorem dX0_isTerm_60 : decode cX0_isTerm 60 = .ok (.invokestatic 109, 3) := dk_184 0 109 (dk_at dksX0_isTerm_2 16 rfl rfl)
theorem dX0_isTerm_63 : decode cX0_isTerm 63 = .ok (.ireturn, 1) := dk_172 (dk_at dksX0_isTerm_2 19 rfl rfl)
theorem dX0_isTerm_64 : decode cX0_isTerm 64 = .ok (.iload_n 1, 1) := dk_27 (dk_at dksX0_isTerm_2 20 rfl rfl)
theorem dX0_isTerm_65 : decode cX0_isTerm 65 = .ok (.i2l, 1) := dk_133 (dk_at dksX0_isTerm_2 21 rfl rfl)
theorem dX0_isTerm_66 : decode cX0_isTerm 66 = .ok (.lconst 1, 1) := dk_10 (dk_at dksX0_isTerm_2 22 rfl rfl)
theorem dX0_isTerm_67 : decode cX0_isTerm 67 = .ok (.ldc2_w 162, 3) := dk_20 0 162 (dk_at dksX0_isTerm_3 0 rfl rfl)
theorem dX0_isTerm_70 : decode cX0_isTerm 70 = .ok (.invokestatic 109, 3) := dk_184 0 109 (dk_at dksX0_isTerm_3 3 rfl rfl)
theorem dX0_isTerm_73 : decode cX0_isTerm 73 = .ok (.ireturn, 1) := dk_172 (dk_at dksX0_isTerm_3 6 rfl rfl)
theorem dX0_isTerm_74 : decode cX0_isTerm 74 = .ok (.iload_n 1, 1) := dk_27 (dk_at dksX0_isTerm_3 7 rfl rfl)
theorem dX0_isTerm_75 : decode cX0_isTerm 75 = .ok (.i2l, 1) := dk_133 (dk_at dksX0_isTerm_3 8 rfl rfl)
theorem dX0_isTerm_76 : decode cX0_isTerm 76 = .ok (.lconst 0, 1) := dk_9 (dk_at dksX0_isTerm_3 9 rfl rfl)
theorem dX0_isTerm_77 : decode cX0_isTerm 77 = .ok (.ldc2_w 164, 3) := dk_20 0 164 (dk_at dksX0_isTerm_3 10 rfl rfl)
theorem dX0_isTerm_80 : decode cX0_isTerm 80 = .ok (.invokestatic 109, 3) := dk_184 0 109 (dk_at dksX0_isTerm_3 13 rfl rfl)
theorem dX0_isTerm_83 : decode cX0_isTerm 83 = .ok (.ireturn, 1) := dk_172 (dk_at dksX0_isTerm_3 16 rfl rfl)
theorem dX0_isTerm_84 : decode cX0_isTerm 84 = .ok (.iload_n 1, 1) := dk_27 (dk_at dksX0_isTerm_3 17 rfl rfl)
theorem dX0_isTerm_85 : decode cX0_isTerm 85 = .ok (.i2l, 1) := dk_133 (dk_at dksX0_isTerm_3 18 rfl rfl)
theorem dX0_isTerm_86 : decode cX0_isTerm 86 = .ok (.lconst 0, 1) := dk_9 (dk_at dksX0_isTerm_3 19 rfl rfl)
theorem dX0_isTerm_87 : decode cX0_isTerm 87 = .ok (.ldc2_w 164, 3) := dk_20 0 164 (dk_at dksX0_isTerm_3 20 rfl rfl)
theorem dX0_isTerm_90 : decode cX0_isTerm 90 = .ok (.invokestatic 109, 3) := dk_184 0 109 (dk_at dksX0_isTerm_4 0 rfl rfl)
theorem dX0_isTerm_93 : decode cX0_isTerm 93 = .ok (.ireturn, 1) := dk_172 (dk_at dksX0_isTerm_4 3 rfl rfl)
theorem dX0_isTerm_94 : decode cX0_isTerm 94 = .ok (.iload_n 1, 1) := dk_27 (dk_at dksX0_isTerm_4 4 rfl rfl)
theorem dX0_isTerm_95 : decode cX0_isTerm 95 = .ok (.i2l, 1) := dk_133 (dk_at dksX0_isTerm_4 5 rfl rfl)
theorem dX0_isTerm_96 : decode cX0_isTerm 96 = .ok (.lconst 1, 1) := dk_10 (dk_at dksX0_isTerm_4 6 rfl rfl)
theorem dX0_isTerm_97 : decode cX0_isTerm 97 = .ok (.ldc2_w 166, 3) := dk_20 0 166 (dk_at dksX0_isTerm_4 7 rfl rfl)
theorem dX0_isTerm_100 : decode cX0_isTerm 100 = .ok (.invokestatic 109, 3) := dk_184 0 109 (dk_at dksX0_isTerm_4 10 rfl rfl)
theorem dX0_isTerm_103 : decode cX0_isTerm 103 = .ok (.ireturn, 1) := dk_172 (dk_at dksX0_isTerm_4 13 rfl rfl)
theorem dX0_isTerm_104 : decode cX0_isTerm 104 = .ok (.iload_n 1, 1) := dk_27 (dk_at dksX0_isTerm_4 14 rfl rfl)
theorem dX0_isTerm_105 : decode cX0_isTerm 105 = .ok (.i2l, 1) := dk_133 (dk_at dksX0_isTerm_4 15 rfl rfl)
theorem dX0_isTerm_106 : decode cX0_isTerm 106 = .ok (.lconst 0, 1) := dk_9 (dk_at dksX0_isTerm_4 16 rfl rfl)
theorem dX0_isTerm_107 : decode cX0_isTerm 107 = .ok (.ldc2_w 168, 3) := dk_20 0 168 (dk_at dksX0_isTerm_4 17 rfl rfl)
theorem dX0_isTerm_110 : decode cX0_isTerm 110 = .ok (.invokestatic 109, 3) := dk_184 0 109 (dk_at dksX0_isTerm_4 20 rfl rfl)
theorem dX0_isTerm_113 : decode cX0_isTerm 113 = .ok (.ireturn, 1) := dk_172 (dk_at dksX0_isTerm_4 23 rfl rfl)
theorem dX0_isTerm_114 : decode cX0_isTerm 114 = .ok (.iconst 0, 1) := dk_3 (dk_at dksX0_isTerm_5 0 rfl rfl)
theorem dX0_isTerm_115 : decode cX0_isTerm 115 = .ok (.ireturn, 1) := dk_172 (dk_at dksX0_isTerm_5 1 rfl rfl)
abbrev cX0_paper : ByteArray := prog_1_method_24_code
def yX0_paper : MethodName := ⟨RX0, "paper", "()I"⟩
def dkwX0_paper_4 : List UInt8 := [182, 0, 133, 61, 42, 3, 181, 0, 122, 28, 172, 78, 42, 3, 181, 0, 122, 45, 191]
abbrev dktX0_paper_4 : List UInt8 := dkwX0_paper_4 ++ []
def dkwX0_paper_3 : List UInt8 := [182, 0, 133, 60, 42, 3, 181, 0, 122, 27, 172, 76, 42, 43, 180, 0, 186, 181, 0, 82, 42, 16, 250]
abbrev dktX0_paper_3 : List UInt8 := dkwX0_paper_3 ++ dktX0_paper_4
def dkwX0_paper_2 : List UInt8 := [182, 0, 139, 87, 42, 2, 181, 0, 82, 42, 42, 180, 0, 17, 180, 0, 113, 182, 0, 106, 4, 100]
abbrev dktX0_paper_2 : List UInt8 := dkwX0_paper_2 ++ dktX0_paper_3
def dkwX0_paper_1 : List UInt8 := [182, 0, 133, 172, 42, 180, 0, 17, 180, 0, 113, 187, 0, 177, 89, 42, 183, 0, 179, 182, 0, 180]
abbrev dktX0_paper_1 : List UInt8 := dkwX0_paper_1 ++ dktX0_paper_2
def dkwX0_paper_0 : List UInt8 := [42, 180, 0, 17, 180, 0, 113, 182, 0, 106, 16, 6, 160, 0, 15, 42, 3, 181, 0, 122, 42, 16, 251]
abbrev dktX0_paper_0 : List UInt8 := dkwX0_paper_0 ++ dktX0_paper_1
theorem dksX0_paper_0 : cX0_paper.data.toList.drop 0 = dktX0_paper_0 := by decide +kernel
theorem dksX0_paper_1 : cX0_paper.data.toList.drop 23 = dktX0_paper_1 := dk_seg dksX0_paper_0 23 rfl rfl
theorem dksX0_paper_2 : cX0_paper.data.toList.drop 45 = dktX0_paper_2 := dk_seg dksX0_paper_1 22 rfl rfl
theorem dksX0_paper_3 : cX0_paper.data.toList.drop 67 = dktX0_paper_3 := dk_seg dksX0_paper_2 22 rfl rfl
theorem dksX0_paper_4 : cX0_paper.data.toList.drop 90 = dktX0_paper_4 := dk_seg dksX0_paper_3 23 rfl rfl
theorem dX0_paper_0 : decode cX0_paper 0 = .ok (.aload_n 0, 1) := dk_42 (dk_at dksX0_paper_0 0 rfl rfl)
theorem dX0_paper_1 : decode cX0_paper 1 = .ok (.getfield 17, 3) := dk_180 0 17 (dk_at dksX0_paper_0 1 rfl rfl)
theorem dX0_paper_4 : decode cX0_paper 4 = .ok (.getfield 113, 3) := dk_180 0 113 (dk_at dksX0_paper_0 4 rfl rfl)
theorem dX0_paper_7 : decode cX0_paper 7 = .ok (.invokevirtual 106, 3) := dk_182 0 106 (dk_at dksX0_paper_0 7 rfl rfl)
theorem dX0_paper_10 : decode cX0_paper 10 = .ok (.bipush 6, 2) := dk_16 6 (dk_at dksX0_paper_0 10 rfl rfl)
theorem dX0_paper_12 : decode cX0_paper 12 = .ok (.if_icmp .ne 15, 3) := dk_160 0 15 (dk_at dksX0_paper_0 12 rfl rfl)
theorem dX0_paper_15 : decode cX0_paper 15 = .ok (.aload_n 0, 1) := dk_42 (dk_at dksX0_paper_0 15 rfl rfl)
theorem dX0_paper_16 : decode cX0_paper 16 = .ok (.iconst 0, 1) := dk_3 (dk_at dksX0_paper_0 16 rfl rfl)
theorem dX0_paper_17 : decode cX0_paper 17 = .ok (.putfield 122, 3) := dk_181 0 122 (dk_at dksX0_paper_0 17 rfl rfl)
theorem dX0_paper_20 : decode cX0_paper 20 = .ok (.aload_n 0, 1) := dk_42 (dk_at dksX0_paper_0 20 rfl rfl)
theorem dX0_paper_21 : decode cX0_paper 21 = .ok (.bipush (-5), 2) := dk_16 251 (dk_at dksX0_paper_0 21 rfl rfl)
theorem dX0_paper_23 : decode cX0_paper 23 = .ok (.invokevirtual 133, 3) := dk_182 0 133 (dk_at dksX0_paper_1 0 rfl rfl)
theorem dX0_paper_26 : decode cX0_paper 26 = .ok (.ireturn, 1) := dk_172 (dk_at dksX0_paper_1 3 rfl rfl)
theorem dX0_paper_27 : decode cX0_paper 27 = .ok (.aload_n 0, 1) := dk_42 (dk_at dksX0_paper_1 4 rfl rfl)
theorem dX0_paper_28 : decode cX0_paper 28 = .ok (.getfield 17, 3) := dk_180 0 17 (dk_at dksX0_paper_1 5 rfl rfl)
theorem dX0_paper_31 : decode cX0_paper 31 = .ok (.getfield 113, 3) := dk_180 0 113 (dk_at dksX0_paper_1 8 rfl rfl)
theorem dX0_paper_34 : decode cX0_paper 34 = .ok (.new 177, 3) := dk_187 0 177 (dk_at dksX0_paper_1 11 rfl rfl)
theorem dX0_paper_37 : decode cX0_paper 37 = .ok (.dup, 1) := dk_89 (dk_at dksX0_paper_1 14 rfl rfl)
theorem dX0_paper_38 : decode cX0_paper 38 = .ok (.aload_n 0, 1) := dk_42 (dk_at dksX0_paper_1 15 rfl rfl)
theorem dX0_paper_39 : decode cX0_paper 39 = .ok (.invokespecial 179, 3) := dk_183 0 179 (dk_at dksX0_paper_1 16 rfl rfl)
theorem dX0_paper_42 : decode cX0_paper 42 = .ok (.invokevirtual 180, 3) := dk_182 0 180 (dk_at dksX0_paper_1 19 rfl rfl)
theorem dX0_paper_45 : decode cX0_paper 45 = .ok (.invokevirtual 139, 3) := dk_182 0 139 (dk_at dksX0_paper_2 0 rfl rfl)
theorem dX0_paper_48 : decode cX0_paper 48 = .ok (.pop, 1) := dk_87 (dk_at dksX0_paper_2 3 rfl rfl)
theorem dX0_paper_49 : decode cX0_paper 49 = .ok (.aload_n 0, 1) := dk_42 (dk_at dksX0_paper_2 4 rfl rfl)
theorem dX0_paper_50 : decode cX0_paper 50 = .ok (.iconst (-1), 1) := dk_2 (dk_at dksX0_paper_2 5 rfl rfl)
theorem dX0_paper_51 : decode cX0_paper 51 = .ok (.putfield 82, 3) := dk_181 0 82 (dk_at dksX0_paper_2 6 rfl rfl)
theorem dX0_paper_54 : decode cX0_paper 54 = .ok (.aload_n 0, 1) := dk_42 (dk_at dksX0_paper_2 9 rfl rfl)
theorem dX0_paper_55 : decode cX0_paper 55 = .ok (.aload_n 0, 1) := dk_42 (dk_at dksX0_paper_2 10 rfl rfl)
theorem dX0_paper_56 : decode cX0_paper 56 = .ok (.getfield 17, 3) := dk_180 0 17 (dk_at dksX0_paper_2 11 rfl rfl)
theorem dX0_paper_59 : decode cX0_paper 59 = .ok (.getfield 113, 3) := dk_180 0 113 (dk_at dksX0_paper_2 14 rfl rfl)
theorem dX0_paper_62 : decode cX0_paper 62 = .ok (.invokevirtual 106, 3) := dk_182 0 106 (dk_at dksX0_paper_2 17 rfl rfl)
theorem dX0_paper_65 : decode cX0_paper 65 = .ok (.iconst 1, 1) := dk_4 (dk_at dksX0_paper_2 20 rfl rfl)
theorem dX0_paper_66 : decode cX0_paper 66 = .ok (.isub, 1) := dk_100 (dk_at dksX0_paper_2 21 rfl rfl)
theorem dX0_paper_67 : decode cX0_paper 67 = .ok (.invokevirtual 133, 3) := dk_182 0 133 (dk_at dksX0_paper_3 0 rfl rfl)
theorem dX0_paper_70 : decode cX0_paper 70 = .ok (.istore_n 1, 1) := dk_60 (dk_at dksX0_paper_3 3 rfl rfl)
theorem dX0_paper_71 : decode cX0_paper 71 = .ok (.aload_n 0, 1) := dk_42 (dk_at dksX0_paper_3 4 rfl rfl)
theorem dX0_paper_72 : decode cX0_paper 72 = .ok (.iconst 0, 1) := dk_3 (dk_at dksX0_paper_3 5 rfl rfl)
theorem dX0_paper_73 : decode cX0_paper 73 = .ok (.putfield 122, 3) := dk_181 0 122 (dk_at dksX0_paper_3 6 rfl rfl)
theorem dX0_paper_76 : decode cX0_paper 76 = .ok (.iload_n 1, 1) := dk_27 (dk_at dksX0_paper_3 9 rfl rfl)
theorem dX0_paper_77 : decode cX0_paper 77 = .ok (.ireturn, 1) := dk_172 (dk_at dksX0_paper_3 10 rfl rfl)
theorem dX0_paper_78 : decode cX0_paper 78 = .ok (.astore_n 1, 1) := dk_76 (dk_at dksX0_paper_3 11 rfl rfl)
theorem dX0_paper_79 : decode cX0_paper 79 = .ok (.aload_n 0, 1) := dk_42 (dk_at dksX0_paper_3 12 rfl rfl)
theorem dX0_paper_80 : decode cX0_paper 80 = .ok (.aload_n 1, 1) := dk_43 (dk_at dksX0_paper_3 13 rfl rfl)
theorem dX0_paper_81 : decode cX0_paper 81 = .ok (.getfield 186, 3) := dk_180 0 186 (dk_at dksX0_paper_3 14 rfl rfl)
theorem dX0_paper_84 : decode cX0_paper 84 = .ok (.putfield 82, 3) := dk_181 0 82 (dk_at dksX0_paper_3 17 rfl rfl)
theorem dX0_paper_87 : decode cX0_paper 87 = .ok (.aload_n 0, 1) := dk_42 (dk_at dksX0_paper_3 20 rfl rfl)
theorem dX0_paper_88 : decode cX0_paper 88 = .ok (.bipush (-6), 2) := dk_16 250 (dk_at dksX0_paper_3 21 rfl rfl)
theorem dX0_paper_90 : decode cX0_paper 90 = .ok (.invokevirtual 133, 3) := dk_182 0 133 (dk_at dksX0_paper_4 0 rfl rfl)
theorem dX0_paper_93 : decode cX0_paper 93 = .ok (.istore_n 2, 1) := dk_61 (dk_at dksX0_paper_4 3 rfl rfl)
theorem dX0_paper_94 : decode cX0_paper 94 = .ok (.aload_n 0, 1) := dk_42 (dk_at dksX0_paper_4 4 rfl rfl)
theorem dX0_paper_95 : decode cX0_paper 95 = .ok (.iconst 0, 1) := dk_3 (dk_at dksX0_paper_4 5 rfl rfl)
theorem dX0_paper_96 : decode cX0_paper 96 = .ok (.putfield 122, 3) := dk_181 0 122 (dk_at dksX0_paper_4 6 rfl rfl)
theorem dX0_paper_99 : decode cX0_paper 99 = .ok (.iload_n 2, 1) := dk_28 (dk_at dksX0_paper_4 9 rfl rfl)
theorem dX0_paper_100 : decode cX0_paper 100 = .ok (.ireturn, 1) := dk_172 (dk_at dksX0_paper_4 10 rfl rfl)
theorem dX0_paper_101 : decode cX0_paper 101 = .ok (.astore_n 3, 1) := dk_78 (dk_at dksX0_paper_4 11 rfl rfl)
theorem dX0_paper_102 : decode cX0_paper 102 = .ok (.aload_n 0, 1) := dk_42 (dk_at dksX0_paper_4 12 rfl rfl)
theorem dX0_paper_103 : decode cX0_paper 103 = .ok (.iconst 0, 1) := dk_3 (dk_at dksX0_paper_4 13 rfl rfl)
theorem dX0_paper_104 : decode cX0_paper 104 = .ok (.putfield 122, 3) := dk_181 0 122 (dk_at dksX0_paper_4 14 rfl rfl)
theorem dX0_paper_107 : decode cX0_paper 107 = .ok (.aload_n 3, 1) := dk_45 (dk_at dksX0_paper_4 17 rfl rfl)
theorem dX0_paper_108 : decode cX0_paper 108 = .ok (.athrow, 1) := dk_191 (dk_at dksX0_paper_4 18 rfl rfl)
abbrev cX0_isLetter : ByteArray := prog_1_method_17_code
def yX0_isLetter : MethodName := ⟨RX0, "isLetter", "(I)Z"⟩
def dkwX0_isLetter_0 : List UInt8 := [26, 16, 97, 161, 0, 13, 26, 16, 122, 163, 0, 7, 4, 167, 0, 4, 3, 172]
abbrev dktX0_isLetter_0 : List UInt8 := dkwX0_isLetter_0 ++ []
theorem dksX0_isLetter_0 : cX0_isLetter.data.toList.drop 0 = dktX0_isLetter_0 := by decide +kernel
theorem dX0_isLetter_0 : decode cX0_isLetter 0 = .ok (.iload_n 0, 1) := dk_26 (dk_at dksX0_isLetter_0 0 rfl rfl)
theorem dX0_isLetter_1 : decode cX0_isLetter 1 = .ok (.bipush 97, 2) := dk_16 97 (dk_at dksX0_isLetter_0 1 rfl rfl)
theorem dX0_isLetter_3 : decode cX0_isLetter 3 = .ok (.if_icmp .lt 13, 3) := dk_161 0 13 (dk_at dksX0_isLetter_0 3 rfl rfl)
theorem dX0_isLetter_6 : decode cX0_isLetter 6 = .ok (.iload_n 0, 1) := dk_26 (dk_at dksX0_isLetter_0 6 rfl rfl)
theorem dX0_isLetter_7 : decode cX0_isLetter 7 = .ok (.bipush 122, 2) := dk_16 122 (dk_at dksX0_isLetter_0 7 rfl rfl)
theorem dX0_isLetter_9 : decode cX0_isLetter 9 = .ok (.if_icmp .gt 7, 3) := dk_163 0 7 (dk_at dksX0_isLetter_0 9 rfl rfl)
theorem dX0_isLetter_12 : decode cX0_isLetter 12 = .ok (.iconst 1, 1) := dk_4 (dk_at dksX0_isLetter_0 12 rfl rfl)
theorem dX0_isLetter_13 : decode cX0_isLetter 13 = .ok (.goto 4, 3) := dk_167 0 4 (dk_at dksX0_isLetter_0 13 rfl rfl)
theorem dX0_isLetter_16 : decode cX0_isLetter 16 = .ok (.iconst 0, 1) := dk_3 (dk_at dksX0_isLetter_0 16 rfl rfl)
theorem dX0_isLetter_17 : decode cX0_isLetter 17 = .ok (.ireturn, 1) := dk_172 (dk_at dksX0_isLetter_0 17 rfl rfl)
abbrev cX0_isDigit : ByteArray := prog_1_method_18_code
def yX0_isDigit : MethodName := ⟨RX0, "isDigit", "(I)Z"⟩
def dkwX0_isDigit_0 : List UInt8 := [26, 16, 48, 161, 0, 13, 26, 16, 57, 163, 0, 7, 4, 167, 0, 4, 3, 172]
abbrev dktX0_isDigit_0 : List UInt8 := dkwX0_isDigit_0 ++ []
theorem dksX0_isDigit_0 : cX0_isDigit.data.toList.drop 0 = dktX0_isDigit_0 := by decide +kernel
theorem dX0_isDigit_0 : decode cX0_isDigit 0 = .ok (.iload_n 0, 1) := dk_26 (dk_at dksX0_isDigit_0 0 rfl rfl)
theorem dX0_isDigit_1 : decode cX0_isDigit 1 = .ok (.bipush 48, 2) := dk_16 48 (dk_at dksX0_isDigit_0 1 rfl rfl)
theorem dX0_isDigit_3 : decode cX0_isDigit 3 = .ok (.if_icmp .lt 13, 3) := dk_161 0 13 (dk_at dksX0_isDigit_0 3 rfl rfl)
theorem dX0_isDigit_6 : decode cX0_isDigit 6 = .ok (.iload_n 0, 1) := dk_26 (dk_at dksX0_isDigit_0 6 rfl rfl)
theorem dX0_isDigit_7 : decode cX0_isDigit 7 = .ok (.bipush 57, 2) := dk_16 57 (dk_at dksX0_isDigit_0 7 rfl rfl)
theorem dX0_isDigit_9 : decode cX0_isDigit 9 = .ok (.if_icmp .gt 7, 3) := dk_163 0 7 (dk_at dksX0_isDigit_0 9 rfl rfl)
theorem dX0_isDigit_12 : decode cX0_isDigit 12 = .ok (.iconst 1, 1) := dk_4 (dk_at dksX0_isDigit_0 12 rfl rfl)
theorem dX0_isDigit_13 : decode cX0_isDigit 13 = .ok (.goto 4, 3) := dk_167 0 4 (dk_at dksX0_isDigit_0 13 rfl rfl)
theorem dX0_isDigit_16 : decode cX0_isDigit 16 = .ok (.iconst 0, 1) := dk_3 (dk_at dksX0_isDigit_0 16 rfl rfl)
theorem dX0_isDigit_17 : decode cX0_isDigit 17 = .ok (.ireturn, 1) := dk_172 (dk_at dksX0_isDigit_0 17 rfl rfl)
abbrev cX0_fault : ByteArray := prog_1_method_25_code
def yX0_fault : MethodName := ⟨RX0, "fault", "()I"⟩
theorem dX0_fault_0 : decode cX0_fault 0 = .ok (.aload_n 0, 1) := by decide +kernel
theorem dX0_fault_1 : decode cX0_fault 1 = .ok (.getfield 82, 3) := by decide +kernel
theorem dX0_fault_4 : decode cX0_fault 4 = .ok (.ireturn, 1) := by decide +kernel
abbrev cX0_use : ByteArray := prog_1_method_26_code
def yX0_use : MethodName := ⟨RX0, "use", "(I)I"⟩
def dkwX0_use_1 : List UInt8 := [180, 0, 116, 61, 42, 180, 0, 17, 27, 181, 0, 116, 42, 28, 182, 0, 142, 172]
abbrev dktX0_use_1 : List UInt8 := dkwX0_use_1 ++ []
def dkwX0_use_0 : List UInt8 := [27, 2, 159, 0, 18, 42, 27, 182, 0, 189, 154, 0, 10, 42, 16, 254, 182, 0, 133, 172, 42, 180, 0, 17]
abbrev dktX0_use_0 : List UInt8 := dkwX0_use_0 ++ dktX0_use_1
theorem dksX0_use_0 : cX0_use.data.toList.drop 0 = dktX0_use_0 := by decide +kernel
theorem dksX0_use_1 : cX0_use.data.toList.drop 24 = dktX0_use_1 := dk_seg dksX0_use_0 24 rfl rfl
theorem dX0_use_0 : decode cX0_use 0 = .ok (.iload_n 1, 1) := dk_27 (dk_at dksX0_use_0 0 rfl rfl)
theorem dX0_use_1 : decode cX0_use 1 = .ok (.iconst (-1), 1) := dk_2 (dk_at dksX0_use_0 1 rfl rfl)
theorem dX0_use_2 : decode cX0_use 2 = .ok (.if_icmp .eq 18, 3) := dk_159 0 18 (dk_at dksX0_use_0 2 rfl rfl)
theorem dX0_use_5 : decode cX0_use 5 = .ok (.aload_n 0, 1) := dk_42 (dk_at dksX0_use_0 5 rfl rfl)
theorem dX0_use_6 : decode cX0_use 6 = .ok (.iload_n 1, 1) := dk_27 (dk_at dksX0_use_0 6 rfl rfl)
theorem dX0_use_7 : decode cX0_use 7 = .ok (.invokevirtual 189, 3) := dk_182 0 189 (dk_at dksX0_use_0 7 rfl rfl)
theorem dX0_use_10 : decode cX0_use 10 = .ok (.ifCond .ne 10, 3) := dk_154 0 10 (dk_at dksX0_use_0 10 rfl rfl)
theorem dX0_use_13 : decode cX0_use 13 = .ok (.aload_n 0, 1) := dk_42 (dk_at dksX0_use_0 13 rfl rfl)
theorem dX0_use_14 : decode cX0_use 14 = .ok (.bipush (-2), 2) := dk_16 254 (dk_at dksX0_use_0 14 rfl rfl)
theorem dX0_use_16 : decode cX0_use 16 = .ok (.invokevirtual 133, 3) := dk_182 0 133 (dk_at dksX0_use_0 16 rfl rfl)
theorem dX0_use_19 : decode cX0_use 19 = .ok (.ireturn, 1) := dk_172 (dk_at dksX0_use_0 19 rfl rfl)
theorem dX0_use_20 : decode cX0_use 20 = .ok (.aload_n 0, 1) := dk_42 (dk_at dksX0_use_0 20 rfl rfl)
theorem dX0_use_21 : decode cX0_use 21 = .ok (.getfield 17, 3) := dk_180 0 17 (dk_at dksX0_use_0 21 rfl rfl)
theorem dX0_use_24 : decode cX0_use 24 = .ok (.getfield 116, 3) := dk_180 0 116 (dk_at dksX0_use_1 0 rfl rfl)
theorem dX0_use_27 : decode cX0_use 27 = .ok (.istore_n 2, 1) := dk_61 (dk_at dksX0_use_1 3 rfl rfl)
theorem dX0_use_28 : decode cX0_use 28 = .ok (.aload_n 0, 1) := dk_42 (dk_at dksX0_use_1 4 rfl rfl)
theorem dX0_use_29 : decode cX0_use 29 = .ok (.getfield 17, 3) := dk_180 0 17 (dk_at dksX0_use_1 5 rfl rfl)
theorem dX0_use_32 : decode cX0_use 32 = .ok (.iload_n 1, 1) := dk_27 (dk_at dksX0_use_1 8 rfl rfl)
theorem dX0_use_33 : decode cX0_use 33 = .ok (.putfield 116, 3) := dk_181 0 116 (dk_at dksX0_use_1 9 rfl rfl)
theorem dX0_use_36 : decode cX0_use 36 = .ok (.aload_n 0, 1) := dk_42 (dk_at dksX0_use_1 12 rfl rfl)
theorem dX0_use_37 : decode cX0_use 37 = .ok (.iload_n 2, 1) := dk_28 (dk_at dksX0_use_1 13 rfl rfl)
theorem dX0_use_38 : decode cX0_use 38 = .ok (.invokevirtual 142, 3) := dk_182 0 142 (dk_at dksX0_use_1 14 rfl rfl)
theorem dX0_use_41 : decode cX0_use 41 = .ok (.ireturn, 1) := dk_172 (dk_at dksX0_use_1 17 rfl rfl)
abbrev cX0_isPaper : ByteArray := prog_1_method_11_code
def yX0_isPaper : MethodName := ⟨RX0, "isPaper", "(I)Z"⟩
def dkwX0_isPaper_0 : List UInt8 := [27, 133, 9, 42, 180, 0, 17, 180, 0, 113, 182, 0, 106, 4, 100, 133, 184, 0, 109, 172]
abbrev dktX0_isPaper_0 : List UInt8 := dkwX0_isPaper_0 ++ []
theorem dksX0_isPaper_0 : cX0_isPaper.data.toList.drop 0 = dktX0_isPaper_0 := by decide +kernel
theorem dX0_isPaper_0 : decode cX0_isPaper 0 = .ok (.iload_n 1, 1) := dk_27 (dk_at dksX0_isPaper_0 0 rfl rfl)
theorem dX0_isPaper_1 : decode cX0_isPaper 1 = .ok (.i2l, 1) := dk_133 (dk_at dksX0_isPaper_0 1 rfl rfl)
theorem dX0_isPaper_2 : decode cX0_isPaper 2 = .ok (.lconst 0, 1) := dk_9 (dk_at dksX0_isPaper_0 2 rfl rfl)
theorem dX0_isPaper_3 : decode cX0_isPaper 3 = .ok (.aload_n 0, 1) := dk_42 (dk_at dksX0_isPaper_0 3 rfl rfl)
theorem dX0_isPaper_4 : decode cX0_isPaper 4 = .ok (.getfield 17, 3) := dk_180 0 17 (dk_at dksX0_isPaper_0 4 rfl rfl)
theorem dX0_isPaper_7 : decode cX0_isPaper 7 = .ok (.getfield 113, 3) := dk_180 0 113 (dk_at dksX0_isPaper_0 7 rfl rfl)
theorem dX0_isPaper_10 : decode cX0_isPaper 10 = .ok (.invokevirtual 106, 3) := dk_182 0 106 (dk_at dksX0_isPaper_0 10 rfl rfl)
theorem dX0_isPaper_13 : decode cX0_isPaper 13 = .ok (.iconst 1, 1) := dk_4 (dk_at dksX0_isPaper_0 13 rfl rfl)
theorem dX0_isPaper_14 : decode cX0_isPaper 14 = .ok (.isub, 1) := dk_100 (dk_at dksX0_isPaper_0 14 rfl rfl)
theorem dX0_isPaper_15 : decode cX0_isPaper 15 = .ok (.i2l, 1) := dk_133 (dk_at dksX0_isPaper_0 15 rfl rfl)
theorem dX0_isPaper_16 : decode cX0_isPaper 16 = .ok (.invokestatic 109, 3) := dk_184 0 109 (dk_at dksX0_isPaper_0 16 rfl rfl)
theorem dX0_isPaper_19 : decode cX0_isPaper 19 = .ok (.ireturn, 1) := dk_172 (dk_at dksX0_isPaper_0 19 rfl rfl)
abbrev cX0_takes : ByteArray := prog_1_method_29_code
def yX0_takes : MethodName := ⟨RX0, "takes", "(III)I"⟩
def dkwX0_takes_1 : List UInt8 := [29, 133, 9, 10, 184, 0, 109, 154, 0, 7, 2, 167, 0, 12, 42, 25, 4, 28, 29, 3, 182, 0, 208, 172]
abbrev dktX0_takes_1 : List UInt8 := dkwX0_takes_1 ++ []
def dkwX0_takes_0 : List UInt8 := [42, 27, 182, 0, 147, 58, 4, 25, 4, 198, 0, 25, 28, 133, 10, 20, 0, 162, 184, 0, 109, 153, 0, 13]
abbrev dktX0_takes_0 : List UInt8 := dkwX0_takes_0 ++ dktX0_takes_1
theorem dksX0_takes_0 : cX0_takes.data.toList.drop 0 = dktX0_takes_0 := by decide +kernel
theorem dksX0_takes_1 : cX0_takes.data.toList.drop 24 = dktX0_takes_1 := dk_seg dksX0_takes_0 24 rfl rfl
theorem dX0_takes_0 : decode cX0_takes 0 = .ok (.aload_n 0, 1) := dk_42 (dk_at dksX0_takes_0 0 rfl rfl)
theorem dX0_takes_1 : decode cX0_takes 1 = .ok (.iload_n 1, 1) := dk_27 (dk_at dksX0_takes_0 1 rfl rfl)
theorem dX0_takes_2 : decode cX0_takes 2 = .ok (.invokevirtual 147, 3) := dk_182 0 147 (dk_at dksX0_takes_0 2 rfl rfl)
theorem dX0_takes_5 : decode cX0_takes 5 = .ok (.astore 4, 2) := dk_58 4 (dk_at dksX0_takes_0 5 rfl rfl)
theorem dX0_takes_7 : decode cX0_takes 7 = .ok (.aload 4, 2) := dk_25 4 (dk_at dksX0_takes_0 7 rfl rfl)
theorem dX0_takes_9 : decode cX0_takes 9 = .ok (.ifnull 25, 3) := dk_198 0 25 (dk_at dksX0_takes_0 9 rfl rfl)
theorem dX0_takes_12 : decode cX0_takes 12 = .ok (.iload_n 2, 1) := dk_28 (dk_at dksX0_takes_0 12 rfl rfl)
theorem dX0_takes_13 : decode cX0_takes 13 = .ok (.i2l, 1) := dk_133 (dk_at dksX0_takes_0 13 rfl rfl)
theorem dX0_takes_14 : decode cX0_takes 14 = .ok (.lconst 1, 1) := dk_10 (dk_at dksX0_takes_0 14 rfl rfl)
theorem dX0_takes_15 : decode cX0_takes 15 = .ok (.ldc2_w 162, 3) := dk_20 0 162 (dk_at dksX0_takes_0 15 rfl rfl)
theorem dX0_takes_18 : decode cX0_takes 18 = .ok (.invokestatic 109, 3) := dk_184 0 109 (dk_at dksX0_takes_0 18 rfl rfl)
theorem dX0_takes_21 : decode cX0_takes 21 = .ok (.ifCond .eq 13, 3) := dk_153 0 13 (dk_at dksX0_takes_0 21 rfl rfl)
theorem dX0_takes_24 : decode cX0_takes 24 = .ok (.iload_n 3, 1) := dk_29 (dk_at dksX0_takes_1 0 rfl rfl)
theorem dX0_takes_25 : decode cX0_takes 25 = .ok (.i2l, 1) := dk_133 (dk_at dksX0_takes_1 1 rfl rfl)
theorem dX0_takes_26 : decode cX0_takes 26 = .ok (.lconst 0, 1) := dk_9 (dk_at dksX0_takes_1 2 rfl rfl)
theorem dX0_takes_27 : decode cX0_takes 27 = .ok (.lconst 1, 1) := dk_10 (dk_at dksX0_takes_1 3 rfl rfl)
theorem dX0_takes_28 : decode cX0_takes 28 = .ok (.invokestatic 109, 3) := dk_184 0 109 (dk_at dksX0_takes_1 4 rfl rfl)
theorem dX0_takes_31 : decode cX0_takes 31 = .ok (.ifCond .ne 7, 3) := dk_154 0 7 (dk_at dksX0_takes_1 7 rfl rfl)
theorem dX0_takes_34 : decode cX0_takes 34 = .ok (.iconst (-1), 1) := dk_2 (dk_at dksX0_takes_1 10 rfl rfl)
theorem dX0_takes_35 : decode cX0_takes 35 = .ok (.goto 12, 3) := dk_167 0 12 (dk_at dksX0_takes_1 11 rfl rfl)
theorem dX0_takes_38 : decode cX0_takes 38 = .ok (.aload_n 0, 1) := dk_42 (dk_at dksX0_takes_1 14 rfl rfl)
theorem dX0_takes_39 : decode cX0_takes 39 = .ok (.aload 4, 2) := dk_25 4 (dk_at dksX0_takes_1 15 rfl rfl)
theorem dX0_takes_41 : decode cX0_takes 41 = .ok (.iload_n 2, 1) := dk_28 (dk_at dksX0_takes_1 17 rfl rfl)
theorem dX0_takes_42 : decode cX0_takes 42 = .ok (.iload_n 3, 1) := dk_29 (dk_at dksX0_takes_1 18 rfl rfl)
theorem dX0_takes_43 : decode cX0_takes 43 = .ok (.iconst 0, 1) := dk_3 (dk_at dksX0_takes_1 19 rfl rfl)
theorem dX0_takes_44 : decode cX0_takes 44 = .ok (.invokevirtual 208, 3) := dk_182 0 208 (dk_at dksX0_takes_1 20 rfl rfl)
theorem dX0_takes_47 : decode cX0_takes 47 = .ok (.ireturn, 1) := dk_172 (dk_at dksX0_takes_1 23 rfl rfl)
abbrev cX0_takes_2 : ByteArray := prog_1_method_27_code
def yX0_takes_2 : MethodName := ⟨RX0, "takes", "(LExamSlips$Question;III)I"⟩
def dkwX0_takes_2_2 : List UInt8 := [182, 0, 204, 172]
abbrev dktX0_takes_2_2 : List UInt8 := dkwX0_takes_2_2 ++ []
def dkwX0_takes_2_1 : List UInt8 := [29, 133, 80, 25, 5, 180, 0, 197, 8, 21, 4, 133, 80, 42, 182, 0, 201, 3, 25, 5, 7, 4, 16, 20]
abbrev dktX0_takes_2_1 : List UInt8 := dkwX0_takes_2_1 ++ dktX0_takes_2_2
def dkwX0_takes_2_0 : List UInt8 := [28, 6, 160, 0, 5, 4, 172, 43, 42, 180, 0, 63, 28, 182, 0, 193, 58, 5, 25, 5, 180, 0, 197, 6]
abbrev dktX0_takes_2_0 : List UInt8 := dkwX0_takes_2_0 ++ dktX0_takes_2_1
theorem dksX0_takes_2_0 : cX0_takes_2.data.toList.drop 0 = dktX0_takes_2_0 := by decide +kernel
theorem dksX0_takes_2_1 : cX0_takes_2.data.toList.drop 24 = dktX0_takes_2_1 := dk_seg dksX0_takes_2_0 24 rfl rfl
theorem dksX0_takes_2_2 : cX0_takes_2.data.toList.drop 48 = dktX0_takes_2_2 := dk_seg dksX0_takes_2_1 24 rfl rfl
theorem dX0_takes_2_0 : decode cX0_takes_2 0 = .ok (.iload_n 2, 1) := dk_28 (dk_at dksX0_takes_2_0 0 rfl rfl)
theorem dX0_takes_2_1 : decode cX0_takes_2 1 = .ok (.iconst 3, 1) := dk_6 (dk_at dksX0_takes_2_0 1 rfl rfl)
theorem dX0_takes_2_2 : decode cX0_takes_2 2 = .ok (.if_icmp .ne 5, 3) := dk_160 0 5 (dk_at dksX0_takes_2_0 2 rfl rfl)
theorem dX0_takes_2_5 : decode cX0_takes_2 5 = .ok (.iconst 1, 1) := dk_4 (dk_at dksX0_takes_2_0 5 rfl rfl)
theorem dX0_takes_2_6 : decode cX0_takes_2 6 = .ok (.ireturn, 1) := dk_172 (dk_at dksX0_takes_2_0 6 rfl rfl)
theorem dX0_takes_2_7 : decode cX0_takes_2 7 = .ok (.aload_n 1, 1) := dk_43 (dk_at dksX0_takes_2_0 7 rfl rfl)
theorem dX0_takes_2_8 : decode cX0_takes_2 8 = .ok (.aload_n 0, 1) := dk_42 (dk_at dksX0_takes_2_0 8 rfl rfl)
theorem dX0_takes_2_9 : decode cX0_takes_2 9 = .ok (.getfield 63, 3) := dk_180 0 63 (dk_at dksX0_takes_2_0 9 rfl rfl)
theorem dX0_takes_2_12 : decode cX0_takes_2 12 = .ok (.iload_n 2, 1) := dk_28 (dk_at dksX0_takes_2_0 12 rfl rfl)
theorem dX0_takes_2_13 : decode cX0_takes_2 13 = .ok (.invokevirtual 193, 3) := dk_182 0 193 (dk_at dksX0_takes_2_0 13 rfl rfl)
theorem dX0_takes_2_16 : decode cX0_takes_2 16 = .ok (.astore 5, 2) := dk_58 5 (dk_at dksX0_takes_2_0 16 rfl rfl)
theorem dX0_takes_2_18 : decode cX0_takes_2 18 = .ok (.aload 5, 2) := dk_25 5 (dk_at dksX0_takes_2_0 18 rfl rfl)
theorem dX0_takes_2_20 : decode cX0_takes_2 20 = .ok (.getfield 197, 3) := dk_180 0 197 (dk_at dksX0_takes_2_0 20 rfl rfl)
theorem dX0_takes_2_23 : decode cX0_takes_2 23 = .ok (.iconst 3, 1) := dk_6 (dk_at dksX0_takes_2_0 23 rfl rfl)
theorem dX0_takes_2_24 : decode cX0_takes_2 24 = .ok (.iload_n 3, 1) := dk_29 (dk_at dksX0_takes_2_1 0 rfl rfl)
theorem dX0_takes_2_25 : decode cX0_takes_2 25 = .ok (.i2l, 1) := dk_133 (dk_at dksX0_takes_2_1 1 rfl rfl)
theorem dX0_takes_2_26 : decode cX0_takes_2 26 = .ok (.lastore, 1) := dk_80 (dk_at dksX0_takes_2_1 2 rfl rfl)
theorem dX0_takes_2_27 : decode cX0_takes_2 27 = .ok (.aload 5, 2) := dk_25 5 (dk_at dksX0_takes_2_1 3 rfl rfl)
theorem dX0_takes_2_29 : decode cX0_takes_2 29 = .ok (.getfield 197, 3) := dk_180 0 197 (dk_at dksX0_takes_2_1 5 rfl rfl)
theorem dX0_takes_2_32 : decode cX0_takes_2 32 = .ok (.iconst 5, 1) := dk_8 (dk_at dksX0_takes_2_1 8 rfl rfl)
theorem dX0_takes_2_33 : decode cX0_takes_2 33 = .ok (.iload 4, 2) := dk_21 4 (dk_at dksX0_takes_2_1 9 rfl rfl)
theorem dX0_takes_2_35 : decode cX0_takes_2 35 = .ok (.i2l, 1) := dk_133 (dk_at dksX0_takes_2_1 11 rfl rfl)
theorem dX0_takes_2_36 : decode cX0_takes_2 36 = .ok (.lastore, 1) := dk_80 (dk_at dksX0_takes_2_1 12 rfl rfl)
theorem dX0_takes_2_37 : decode cX0_takes_2 37 = .ok (.aload_n 0, 1) := dk_42 (dk_at dksX0_takes_2_1 13 rfl rfl)
theorem dX0_takes_2_38 : decode cX0_takes_2 38 = .ok (.invokevirtual 201, 3) := dk_182 0 201 (dk_at dksX0_takes_2_1 14 rfl rfl)
theorem dX0_takes_2_41 : decode cX0_takes_2 41 = .ok (.iconst 0, 1) := dk_3 (dk_at dksX0_takes_2_1 17 rfl rfl)
theorem dX0_takes_2_42 : decode cX0_takes_2 42 = .ok (.aload 5, 2) := dk_25 5 (dk_at dksX0_takes_2_1 18 rfl rfl)
theorem dX0_takes_2_44 : decode cX0_takes_2 44 = .ok (.iconst 4, 1) := dk_7 (dk_at dksX0_takes_2_1 20 rfl rfl)
theorem dX0_takes_2_45 : decode cX0_takes_2 45 = .ok (.iconst 1, 1) := dk_4 (dk_at dksX0_takes_2_1 21 rfl rfl)
theorem dX0_takes_2_46 : decode cX0_takes_2 46 = .ok (.bipush 20, 2) := dk_16 20 (dk_at dksX0_takes_2_1 22 rfl rfl)
theorem dX0_takes_2_48 : decode cX0_takes_2 48 = .ok (.invokevirtual 204, 3) := dk_182 0 204 (dk_at dksX0_takes_2_2 0 rfl rfl)
theorem dX0_takes_2_51 : decode cX0_takes_2 51 = .ok (.ireturn, 1) := dk_172 (dk_at dksX0_takes_2_2 3 rfl rfl)
abbrev cX0_inUse : ByteArray := prog_1_method_12_code
def yX0_inUse : MethodName := ⟨RX0, "inUse", "()LExamSlips$Text;"⟩
def dkwX0_inUse_1 : List UInt8 := [180, 0, 113, 42, 180, 0, 17, 180, 0, 116, 182, 0, 27, 192, 0, 67, 176]
abbrev dktX0_inUse_1 : List UInt8 := dkwX0_inUse_1 ++ []
def dkwX0_inUse_0 : List UInt8 := [42, 180, 0, 17, 180, 0, 116, 2, 160, 0, 10, 42, 180, 0, 74, 167, 0, 23, 42, 180, 0, 17]
abbrev dktX0_inUse_0 : List UInt8 := dkwX0_inUse_0 ++ dktX0_inUse_1
theorem dksX0_inUse_0 : cX0_inUse.data.toList.drop 0 = dktX0_inUse_0 := by decide +kernel
theorem dksX0_inUse_1 : cX0_inUse.data.toList.drop 22 = dktX0_inUse_1 := dk_seg dksX0_inUse_0 22 rfl rfl
theorem dX0_inUse_0 : decode cX0_inUse 0 = .ok (.aload_n 0, 1) := dk_42 (dk_at dksX0_inUse_0 0 rfl rfl)
theorem dX0_inUse_1 : decode cX0_inUse 1 = .ok (.getfield 17, 3) := dk_180 0 17 (dk_at dksX0_inUse_0 1 rfl rfl)
theorem dX0_inUse_4 : decode cX0_inUse 4 = .ok (.getfield 116, 3) := dk_180 0 116 (dk_at dksX0_inUse_0 4 rfl rfl)
theorem dX0_inUse_7 : decode cX0_inUse 7 = .ok (.iconst (-1), 1) := dk_2 (dk_at dksX0_inUse_0 7 rfl rfl)
theorem dX0_inUse_8 : decode cX0_inUse 8 = .ok (.if_icmp .ne 10, 3) := dk_160 0 10 (dk_at dksX0_inUse_0 8 rfl rfl)
theorem dX0_inUse_11 : decode cX0_inUse 11 = .ok (.aload_n 0, 1) := dk_42 (dk_at dksX0_inUse_0 11 rfl rfl)
theorem dX0_inUse_12 : decode cX0_inUse 12 = .ok (.getfield 74, 3) := dk_180 0 74 (dk_at dksX0_inUse_0 12 rfl rfl)
theorem dX0_inUse_15 : decode cX0_inUse 15 = .ok (.goto 23, 3) := dk_167 0 23 (dk_at dksX0_inUse_0 15 rfl rfl)
theorem dX0_inUse_18 : decode cX0_inUse 18 = .ok (.aload_n 0, 1) := dk_42 (dk_at dksX0_inUse_0 18 rfl rfl)
theorem dX0_inUse_19 : decode cX0_inUse 19 = .ok (.getfield 17, 3) := dk_180 0 17 (dk_at dksX0_inUse_0 19 rfl rfl)
theorem dX0_inUse_22 : decode cX0_inUse 22 = .ok (.getfield 113, 3) := dk_180 0 113 (dk_at dksX0_inUse_1 0 rfl rfl)
theorem dX0_inUse_25 : decode cX0_inUse 25 = .ok (.aload_n 0, 1) := dk_42 (dk_at dksX0_inUse_1 3 rfl rfl)
theorem dX0_inUse_26 : decode cX0_inUse 26 = .ok (.getfield 17, 3) := dk_180 0 17 (dk_at dksX0_inUse_1 4 rfl rfl)
theorem dX0_inUse_29 : decode cX0_inUse 29 = .ok (.getfield 116, 3) := dk_180 0 116 (dk_at dksX0_inUse_1 7 rfl rfl)
theorem dX0_inUse_32 : decode cX0_inUse 32 = .ok (.invokevirtual 27, 3) := dk_182 0 27 (dk_at dksX0_inUse_1 10 rfl rfl)
theorem dX0_inUse_35 : decode cX0_inUse 35 = .ok (.checkcast 67, 3) := dk_192 0 67 (dk_at dksX0_inUse_1 13 rfl rfl)
theorem dX0_inUse_38 : decode cX0_inUse 38 = .ok (.areturn, 1) := dk_176 (dk_at dksX0_inUse_1 16 rfl rfl)
abbrev cX0_keeps : ByteArray := prog_1_method_30_code
def yX0_keeps : MethodName := ⟨RX0, "keeps", "(II)I"⟩
def dkwX0_keeps_1 : List UInt8 := [167, 0, 9, 42, 45, 28, 182, 0, 212, 172]
abbrev dktX0_keeps_1 : List UInt8 := dkwX0_keeps_1 ++ []
def dkwX0_keeps_0 : List UInt8 := [42, 27, 182, 0, 147, 78, 45, 198, 0, 15, 28, 133, 10, 20, 0, 145, 184, 0, 109, 154, 0, 7, 2]
abbrev dktX0_keeps_0 : List UInt8 := dkwX0_keeps_0 ++ dktX0_keeps_1
theorem dksX0_keeps_0 : cX0_keeps.data.toList.drop 0 = dktX0_keeps_0 := by decide +kernel
theorem dksX0_keeps_1 : cX0_keeps.data.toList.drop 23 = dktX0_keeps_1 := dk_seg dksX0_keeps_0 23 rfl rfl
theorem dX0_keeps_0 : decode cX0_keeps 0 = .ok (.aload_n 0, 1) := dk_42 (dk_at dksX0_keeps_0 0 rfl rfl)
theorem dX0_keeps_1 : decode cX0_keeps 1 = .ok (.iload_n 1, 1) := dk_27 (dk_at dksX0_keeps_0 1 rfl rfl)
theorem dX0_keeps_2 : decode cX0_keeps 2 = .ok (.invokevirtual 147, 3) := dk_182 0 147 (dk_at dksX0_keeps_0 2 rfl rfl)
theorem dX0_keeps_5 : decode cX0_keeps 5 = .ok (.astore_n 3, 1) := dk_78 (dk_at dksX0_keeps_0 5 rfl rfl)
theorem dX0_keeps_6 : decode cX0_keeps 6 = .ok (.aload_n 3, 1) := dk_45 (dk_at dksX0_keeps_0 6 rfl rfl)
theorem dX0_keeps_7 : decode cX0_keeps 7 = .ok (.ifnull 15, 3) := dk_198 0 15 (dk_at dksX0_keeps_0 7 rfl rfl)
theorem dX0_keeps_10 : decode cX0_keeps 10 = .ok (.iload_n 2, 1) := dk_28 (dk_at dksX0_keeps_0 10 rfl rfl)
theorem dX0_keeps_11 : decode cX0_keeps 11 = .ok (.i2l, 1) := dk_133 (dk_at dksX0_keeps_0 11 rfl rfl)
theorem dX0_keeps_12 : decode cX0_keeps 12 = .ok (.lconst 1, 1) := dk_10 (dk_at dksX0_keeps_0 12 rfl rfl)
theorem dX0_keeps_13 : decode cX0_keeps 13 = .ok (.ldc2_w 145, 3) := dk_20 0 145 (dk_at dksX0_keeps_0 13 rfl rfl)
theorem dX0_keeps_16 : decode cX0_keeps 16 = .ok (.invokestatic 109, 3) := dk_184 0 109 (dk_at dksX0_keeps_0 16 rfl rfl)
theorem dX0_keeps_19 : decode cX0_keeps 19 = .ok (.ifCond .ne 7, 3) := dk_154 0 7 (dk_at dksX0_keeps_0 19 rfl rfl)
theorem dX0_keeps_22 : decode cX0_keeps 22 = .ok (.iconst (-1), 1) := dk_2 (dk_at dksX0_keeps_0 22 rfl rfl)
theorem dX0_keeps_23 : decode cX0_keeps 23 = .ok (.goto 9, 3) := dk_167 0 9 (dk_at dksX0_keeps_1 0 rfl rfl)
theorem dX0_keeps_26 : decode cX0_keeps 26 = .ok (.aload_n 0, 1) := dk_42 (dk_at dksX0_keeps_1 3 rfl rfl)
theorem dX0_keeps_27 : decode cX0_keeps 27 = .ok (.aload_n 3, 1) := dk_45 (dk_at dksX0_keeps_1 4 rfl rfl)
theorem dX0_keeps_28 : decode cX0_keeps 28 = .ok (.iload_n 2, 1) := dk_28 (dk_at dksX0_keeps_1 5 rfl rfl)
theorem dX0_keeps_29 : decode cX0_keeps 29 = .ok (.invokevirtual 212, 3) := dk_182 0 212 (dk_at dksX0_keeps_1 6 rfl rfl)
theorem dX0_keeps_32 : decode cX0_keeps 32 = .ok (.ireturn, 1) := dk_172 (dk_at dksX0_keeps_1 9 rfl rfl)
abbrev cX0_keepsOf : ByteArray := prog_1_method_28_code
def yX0_keepsOf : MethodName := ⟨RX0, "keepsOf", "(LExamSlips$Question;I)I"⟩
def dkwX0_keepsOf_0 : List UInt8 := [42, 182, 0, 201, 4, 43, 42, 180, 0, 63, 28, 182, 0, 193, 16, 10, 4, 16, 30, 182, 0, 204, 172]
abbrev dktX0_keepsOf_0 : List UInt8 := dkwX0_keepsOf_0 ++ []
theorem dksX0_keepsOf_0 : cX0_keepsOf.data.toList.drop 0 = dktX0_keepsOf_0 := by decide +kernel
theorem dX0_keepsOf_0 : decode cX0_keepsOf 0 = .ok (.aload_n 0, 1) := dk_42 (dk_at dksX0_keepsOf_0 0 rfl rfl)
theorem dX0_keepsOf_1 : decode cX0_keepsOf 1 = .ok (.invokevirtual 201, 3) := dk_182 0 201 (dk_at dksX0_keepsOf_0 1 rfl rfl)
theorem dX0_keepsOf_4 : decode cX0_keepsOf 4 = .ok (.iconst 1, 1) := dk_4 (dk_at dksX0_keepsOf_0 4 rfl rfl)
theorem dX0_keepsOf_5 : decode cX0_keepsOf 5 = .ok (.aload_n 1, 1) := dk_43 (dk_at dksX0_keepsOf_0 5 rfl rfl)
theorem dX0_keepsOf_6 : decode cX0_keepsOf 6 = .ok (.aload_n 0, 1) := dk_42 (dk_at dksX0_keepsOf_0 6 rfl rfl)
theorem dX0_keepsOf_7 : decode cX0_keepsOf 7 = .ok (.getfield 63, 3) := dk_180 0 63 (dk_at dksX0_keepsOf_0 7 rfl rfl)
theorem dX0_keepsOf_10 : decode cX0_keepsOf 10 = .ok (.iload_n 2, 1) := dk_28 (dk_at dksX0_keepsOf_0 10 rfl rfl)
theorem dX0_keepsOf_11 : decode cX0_keepsOf 11 = .ok (.invokevirtual 193, 3) := dk_182 0 193 (dk_at dksX0_keepsOf_0 11 rfl rfl)
theorem dX0_keepsOf_14 : decode cX0_keepsOf 14 = .ok (.bipush 10, 2) := dk_16 10 (dk_at dksX0_keepsOf_0 14 rfl rfl)
theorem dX0_keepsOf_16 : decode cX0_keepsOf 16 = .ok (.iconst 1, 1) := dk_4 (dk_at dksX0_keepsOf_0 16 rfl rfl)
theorem dX0_keepsOf_17 : decode cX0_keepsOf 17 = .ok (.bipush 30, 2) := dk_16 30 (dk_at dksX0_keepsOf_0 17 rfl rfl)
theorem dX0_keepsOf_19 : decode cX0_keepsOf 19 = .ok (.invokevirtual 204, 3) := dk_182 0 204 (dk_at dksX0_keepsOf_0 19 rfl rfl)
theorem dX0_keepsOf_22 : decode cX0_keepsOf 22 = .ok (.ireturn, 1) := dk_172 (dk_at dksX0_keepsOf_0 22 rfl rfl)
abbrev cX0_chance : ByteArray := prog_1_method_31_code
def yX0_chance : MethodName := ⟨RX0, "chance", "(I)I"⟩
def dkwX0_chance_2 : List UInt8 := [16, 100, 182, 0, 204, 172]
abbrev dktX0_chance_2 : List UInt8 := dkwX0_chance_2 ++ []
def dkwX0_chance_1 : List UInt8 := [180, 0, 63, 180, 0, 197, 5, 27, 133, 80, 42, 182, 0, 201, 5, 42, 180, 0, 63, 16, 50, 27, 104, 3]
abbrev dktX0_chance_1 : List UInt8 := dkwX0_chance_1 ++ dktX0_chance_2
def dkwX0_chance_0 : List UInt8 := [27, 133, 9, 20, 0, 145, 184, 0, 109, 154, 0, 5, 2, 172, 42, 180, 0, 63, 182, 0, 216, 87, 42]
abbrev dktX0_chance_0 : List UInt8 := dkwX0_chance_0 ++ dktX0_chance_1
theorem dksX0_chance_0 : cX0_chance.data.toList.drop 0 = dktX0_chance_0 := by decide +kernel
theorem dksX0_chance_1 : cX0_chance.data.toList.drop 23 = dktX0_chance_1 := dk_seg dksX0_chance_0 23 rfl rfl
theorem dksX0_chance_2 : cX0_chance.data.toList.drop 47 = dktX0_chance_2 := dk_seg dksX0_chance_1 24 rfl rfl
theorem dX0_chance_0 : decode cX0_chance 0 = .ok (.iload_n 1, 1) := dk_27 (dk_at dksX0_chance_0 0 rfl rfl)
theorem dX0_chance_1 : decode cX0_chance 1 = .ok (.i2l, 1) := dk_133 (dk_at dksX0_chance_0 1 rfl rfl)
theorem dX0_chance_2 : decode cX0_chance 2 = .ok (.lconst 0, 1) := dk_9 (dk_at dksX0_chance_0 2 rfl rfl)
theorem dX0_chance_3 : decode cX0_chance 3 = .ok (.ldc2_w 145, 3) := dk_20 0 145 (dk_at dksX0_chance_0 3 rfl rfl)
theorem dX0_chance_6 : decode cX0_chance 6 = .ok (.invokestatic 109, 3) := dk_184 0 109 (dk_at dksX0_chance_0 6 rfl rfl)
theorem dX0_chance_9 : decode cX0_chance 9 = .ok (.ifCond .ne 5, 3) := dk_154 0 5 (dk_at dksX0_chance_0 9 rfl rfl)
theorem dX0_chance_12 : decode cX0_chance 12 = .ok (.iconst (-1), 1) := dk_2 (dk_at dksX0_chance_0 12 rfl rfl)
theorem dX0_chance_13 : decode cX0_chance 13 = .ok (.ireturn, 1) := dk_172 (dk_at dksX0_chance_0 13 rfl rfl)
theorem dX0_chance_14 : decode cX0_chance 14 = .ok (.aload_n 0, 1) := dk_42 (dk_at dksX0_chance_0 14 rfl rfl)
theorem dX0_chance_15 : decode cX0_chance 15 = .ok (.getfield 63, 3) := dk_180 0 63 (dk_at dksX0_chance_0 15 rfl rfl)
theorem dX0_chance_18 : decode cX0_chance 18 = .ok (.invokevirtual 216, 3) := dk_182 0 216 (dk_at dksX0_chance_0 18 rfl rfl)
theorem dX0_chance_21 : decode cX0_chance 21 = .ok (.pop, 1) := dk_87 (dk_at dksX0_chance_0 21 rfl rfl)
theorem dX0_chance_22 : decode cX0_chance 22 = .ok (.aload_n 0, 1) := dk_42 (dk_at dksX0_chance_0 22 rfl rfl)
theorem dX0_chance_23 : decode cX0_chance 23 = .ok (.getfield 63, 3) := dk_180 0 63 (dk_at dksX0_chance_1 0 rfl rfl)
theorem dX0_chance_26 : decode cX0_chance 26 = .ok (.getfield 197, 3) := dk_180 0 197 (dk_at dksX0_chance_1 3 rfl rfl)
theorem dX0_chance_29 : decode cX0_chance 29 = .ok (.iconst 2, 1) := dk_5 (dk_at dksX0_chance_1 6 rfl rfl)
theorem dX0_chance_30 : decode cX0_chance 30 = .ok (.iload_n 1, 1) := dk_27 (dk_at dksX0_chance_1 7 rfl rfl)
theorem dX0_chance_31 : decode cX0_chance 31 = .ok (.i2l, 1) := dk_133 (dk_at dksX0_chance_1 8 rfl rfl)
theorem dX0_chance_32 : decode cX0_chance 32 = .ok (.lastore, 1) := dk_80 (dk_at dksX0_chance_1 9 rfl rfl)
theorem dX0_chance_33 : decode cX0_chance 33 = .ok (.aload_n 0, 1) := dk_42 (dk_at dksX0_chance_1 10 rfl rfl)
theorem dX0_chance_34 : decode cX0_chance 34 = .ok (.invokevirtual 201, 3) := dk_182 0 201 (dk_at dksX0_chance_1 11 rfl rfl)
theorem dX0_chance_37 : decode cX0_chance 37 = .ok (.iconst 2, 1) := dk_5 (dk_at dksX0_chance_1 14 rfl rfl)
theorem dX0_chance_38 : decode cX0_chance 38 = .ok (.aload_n 0, 1) := dk_42 (dk_at dksX0_chance_1 15 rfl rfl)
theorem dX0_chance_39 : decode cX0_chance 39 = .ok (.getfield 63, 3) := dk_180 0 63 (dk_at dksX0_chance_1 16 rfl rfl)
theorem dX0_chance_42 : decode cX0_chance 42 = .ok (.bipush 50, 2) := dk_16 50 (dk_at dksX0_chance_1 19 rfl rfl)
theorem dX0_chance_44 : decode cX0_chance 44 = .ok (.iload_n 1, 1) := dk_27 (dk_at dksX0_chance_1 21 rfl rfl)
theorem dX0_chance_45 : decode cX0_chance 45 = .ok (.imul, 1) := dk_104 (dk_at dksX0_chance_1 22 rfl rfl)
theorem dX0_chance_46 : decode cX0_chance 46 = .ok (.iconst 0, 1) := dk_3 (dk_at dksX0_chance_1 23 rfl rfl)
theorem dX0_chance_47 : decode cX0_chance 47 = .ok (.bipush 100, 2) := dk_16 100 (dk_at dksX0_chance_2 0 rfl rfl)
theorem dX0_chance_49 : decode cX0_chance 49 = .ok (.invokevirtual 204, 3) := dk_182 0 204 (dk_at dksX0_chance_2 2 rfl rfl)
theorem dX0_chance_52 : decode cX0_chance 52 = .ok (.ireturn, 1) := dk_172 (dk_at dksX0_chance_2 5 rfl rfl)
abbrev cX0_pass : ByteArray := prog_1_method_33_code
def yX0_pass : MethodName := ⟨RX0, "pass", "(I)J"⟩
def dkwX0_pass_1 : List UInt8 := [182, 0, 227, 27, 182, 0, 231, 167, 0, 6, 20, 0, 237, 173]
abbrev dktX0_pass_1 : List UInt8 := dkwX0_pass_1 ++ []
def dkwX0_pass_0 : List UInt8 := [27, 184, 0, 220, 153, 0, 28, 42, 2, 3, 182, 0, 223, 42, 180, 0, 17, 180, 0, 174, 6, 46]
abbrev dktX0_pass_0 : List UInt8 := dkwX0_pass_0 ++ dktX0_pass_1
theorem dksX0_pass_0 : cX0_pass.data.toList.drop 0 = dktX0_pass_0 := by decide +kernel
theorem dksX0_pass_1 : cX0_pass.data.toList.drop 22 = dktX0_pass_1 := dk_seg dksX0_pass_0 22 rfl rfl
theorem dX0_pass_0 : decode cX0_pass 0 = .ok (.iload_n 1, 1) := dk_27 (dk_at dksX0_pass_0 0 rfl rfl)
theorem dX0_pass_1 : decode cX0_pass 1 = .ok (.invokestatic 220, 3) := dk_184 0 220 (dk_at dksX0_pass_0 1 rfl rfl)
theorem dX0_pass_4 : decode cX0_pass 4 = .ok (.ifCond .eq 28, 3) := dk_153 0 28 (dk_at dksX0_pass_0 4 rfl rfl)
theorem dX0_pass_7 : decode cX0_pass 7 = .ok (.aload_n 0, 1) := dk_42 (dk_at dksX0_pass_0 7 rfl rfl)
theorem dX0_pass_8 : decode cX0_pass 8 = .ok (.iconst (-1), 1) := dk_2 (dk_at dksX0_pass_0 8 rfl rfl)
theorem dX0_pass_9 : decode cX0_pass 9 = .ok (.iconst 0, 1) := dk_3 (dk_at dksX0_pass_0 9 rfl rfl)
theorem dX0_pass_10 : decode cX0_pass 10 = .ok (.invokevirtual 223, 3) := dk_182 0 223 (dk_at dksX0_pass_0 10 rfl rfl)
theorem dX0_pass_13 : decode cX0_pass 13 = .ok (.aload_n 0, 1) := dk_42 (dk_at dksX0_pass_0 13 rfl rfl)
theorem dX0_pass_14 : decode cX0_pass 14 = .ok (.getfield 17, 3) := dk_180 0 17 (dk_at dksX0_pass_0 14 rfl rfl)
theorem dX0_pass_17 : decode cX0_pass 17 = .ok (.getfield 174, 3) := dk_180 0 174 (dk_at dksX0_pass_0 17 rfl rfl)
theorem dX0_pass_20 : decode cX0_pass 20 = .ok (.iconst 3, 1) := dk_6 (dk_at dksX0_pass_0 20 rfl rfl)
theorem dX0_pass_21 : decode cX0_pass 21 = .ok (.iaload, 1) := dk_46 (dk_at dksX0_pass_0 21 rfl rfl)
theorem dX0_pass_22 : decode cX0_pass 22 = .ok (.invokevirtual 227, 3) := dk_182 0 227 (dk_at dksX0_pass_1 0 rfl rfl)
theorem dX0_pass_25 : decode cX0_pass 25 = .ok (.iload_n 1, 1) := dk_27 (dk_at dksX0_pass_1 3 rfl rfl)
theorem dX0_pass_26 : decode cX0_pass 26 = .ok (.invokevirtual 231, 3) := dk_182 0 231 (dk_at dksX0_pass_1 4 rfl rfl)
theorem dX0_pass_29 : decode cX0_pass 29 = .ok (.goto 6, 3) := dk_167 0 6 (dk_at dksX0_pass_1 7 rfl rfl)
theorem dX0_pass_32 : decode cX0_pass 32 = .ok (.ldc2_w 237, 3) := dk_20 0 237 (dk_at dksX0_pass_1 10 rfl rfl)
theorem dX0_pass_35 : decode cX0_pass 35 = .ok (.lreturn, 1) := dk_173 (dk_at dksX0_pass_1 13 rfl rfl)
abbrev cX0_isPart : ByteArray := prog_1_method_32_code
def yX0_isPart : MethodName := ⟨RX0, "isPart", "(I)Z"⟩
def dkwX0_isPart_0 : List UInt8 := [26, 133, 9, 10, 184, 0, 109, 172]
abbrev dktX0_isPart_0 : List UInt8 := dkwX0_isPart_0 ++ []
theorem dksX0_isPart_0 : cX0_isPart.data.toList.drop 0 = dktX0_isPart_0 := by decide +kernel
theorem dX0_isPart_0 : decode cX0_isPart 0 = .ok (.iload_n 0, 1) := dk_26 (dk_at dksX0_isPart_0 0 rfl rfl)
theorem dX0_isPart_1 : decode cX0_isPart 1 = .ok (.i2l, 1) := dk_133 (dk_at dksX0_isPart_0 1 rfl rfl)
theorem dX0_isPart_2 : decode cX0_isPart 2 = .ok (.lconst 0, 1) := dk_9 (dk_at dksX0_isPart_0 2 rfl rfl)
theorem dX0_isPart_3 : decode cX0_isPart 3 = .ok (.lconst 1, 1) := dk_10 (dk_at dksX0_isPart_0 3 rfl rfl)
theorem dX0_isPart_4 : decode cX0_isPart 4 = .ok (.invokestatic 109, 3) := dk_184 0 109 (dk_at dksX0_isPart_0 4 rfl rfl)
theorem dX0_isPart_7 : decode cX0_isPart 7 = .ok (.ireturn, 1) := dk_172 (dk_at dksX0_isPart_0 7 rfl rfl)
abbrev cX0_bowl : ByteArray := prog_1_method_5_code
def yX0_bowl : MethodName := ⟨RX0, "bowl", "(II)LExamSlips$Bowl;"⟩
def dkwX0_bowl_3 : List UInt8 := [132, 4, 1, 167, 255, 195, 45, 176]
abbrev dktX0_bowl_3 : List UInt8 := dkwX0_bowl_3 ++ []
def dkwX0_bowl_2 : List UInt8 := [45, 21, 4, 27, 160, 0, 7, 28, 167, 0, 8, 25, 5, 180, 0, 39, 25, 5, 180, 0, 43, 182, 0, 46]
abbrev dktX0_bowl_2 : List UInt8 := dkwX0_bowl_2 ++ dktX0_bowl_3
def dkwX0_bowl_1 : List UInt8 := [180, 0, 17, 180, 0, 21, 21, 4, 182, 0, 27, 192, 0, 33, 58, 5, 25, 5, 180, 0, 35, 154, 0, 27]
abbrev dktX0_bowl_1 : List UInt8 := dkwX0_bowl_1 ++ dktX0_bowl_2
def dkwX0_bowl_0 : List UInt8 := [187, 0, 7, 89, 42, 183, 0, 9, 78, 3, 54, 4, 21, 4, 42, 182, 0, 13, 162, 0, 58, 42]
abbrev dktX0_bowl_0 : List UInt8 := dkwX0_bowl_0 ++ dktX0_bowl_1
theorem dksX0_bowl_0 : cX0_bowl.data.toList.drop 0 = dktX0_bowl_0 := by decide +kernel
theorem dksX0_bowl_1 : cX0_bowl.data.toList.drop 22 = dktX0_bowl_1 := dk_seg dksX0_bowl_0 22 rfl rfl
theorem dksX0_bowl_2 : cX0_bowl.data.toList.drop 46 = dktX0_bowl_2 := dk_seg dksX0_bowl_1 24 rfl rfl
theorem dksX0_bowl_3 : cX0_bowl.data.toList.drop 70 = dktX0_bowl_3 := dk_seg dksX0_bowl_2 24 rfl rfl
theorem dX0_bowl_0 : decode cX0_bowl 0 = .ok (.new 7, 3) := dk_187 0 7 (dk_at dksX0_bowl_0 0 rfl rfl)
theorem dX0_bowl_3 : decode cX0_bowl 3 = .ok (.dup, 1) := dk_89 (dk_at dksX0_bowl_0 3 rfl rfl)
theorem dX0_bowl_4 : decode cX0_bowl 4 = .ok (.aload_n 0, 1) := dk_42 (dk_at dksX0_bowl_0 4 rfl rfl)
theorem dX0_bowl_5 : decode cX0_bowl 5 = .ok (.invokespecial 9, 3) := dk_183 0 9 (dk_at dksX0_bowl_0 5 rfl rfl)
theorem dX0_bowl_8 : decode cX0_bowl 8 = .ok (.astore_n 3, 1) := dk_78 (dk_at dksX0_bowl_0 8 rfl rfl)
theorem dX0_bowl_9 : decode cX0_bowl 9 = .ok (.iconst 0, 1) := dk_3 (dk_at dksX0_bowl_0 9 rfl rfl)
theorem dX0_bowl_10 : decode cX0_bowl 10 = .ok (.istore 4, 2) := dk_54 4 (dk_at dksX0_bowl_0 10 rfl rfl)
theorem dX0_bowl_12 : decode cX0_bowl 12 = .ok (.iload 4, 2) := dk_21 4 (dk_at dksX0_bowl_0 12 rfl rfl)
theorem dX0_bowl_14 : decode cX0_bowl 14 = .ok (.aload_n 0, 1) := dk_42 (dk_at dksX0_bowl_0 14 rfl rfl)
theorem dX0_bowl_15 : decode cX0_bowl 15 = .ok (.invokevirtual 13, 3) := dk_182 0 13 (dk_at dksX0_bowl_0 15 rfl rfl)
theorem dX0_bowl_18 : decode cX0_bowl 18 = .ok (.if_icmp .ge 58, 3) := dk_162 0 58 (dk_at dksX0_bowl_0 18 rfl rfl)
theorem dX0_bowl_21 : decode cX0_bowl 21 = .ok (.aload_n 0, 1) := dk_42 (dk_at dksX0_bowl_0 21 rfl rfl)
theorem dX0_bowl_22 : decode cX0_bowl 22 = .ok (.getfield 17, 3) := dk_180 0 17 (dk_at dksX0_bowl_1 0 rfl rfl)
theorem dX0_bowl_25 : decode cX0_bowl 25 = .ok (.getfield 21, 3) := dk_180 0 21 (dk_at dksX0_bowl_1 3 rfl rfl)
theorem dX0_bowl_28 : decode cX0_bowl 28 = .ok (.iload 4, 2) := dk_21 4 (dk_at dksX0_bowl_1 6 rfl rfl)
theorem dX0_bowl_30 : decode cX0_bowl 30 = .ok (.invokevirtual 27, 3) := dk_182 0 27 (dk_at dksX0_bowl_1 8 rfl rfl)
theorem dX0_bowl_33 : decode cX0_bowl 33 = .ok (.checkcast 33, 3) := dk_192 0 33 (dk_at dksX0_bowl_1 11 rfl rfl)
theorem dX0_bowl_36 : decode cX0_bowl 36 = .ok (.astore 5, 2) := dk_58 5 (dk_at dksX0_bowl_1 14 rfl rfl)
theorem dX0_bowl_38 : decode cX0_bowl 38 = .ok (.aload 5, 2) := dk_25 5 (dk_at dksX0_bowl_1 16 rfl rfl)
theorem dX0_bowl_40 : decode cX0_bowl 40 = .ok (.getfield 35, 3) := dk_180 0 35 (dk_at dksX0_bowl_1 18 rfl rfl)
theorem dX0_bowl_43 : decode cX0_bowl 43 = .ok (.ifCond .ne 27, 3) := dk_154 0 27 (dk_at dksX0_bowl_1 21 rfl rfl)
theorem dX0_bowl_46 : decode cX0_bowl 46 = .ok (.aload_n 3, 1) := dk_45 (dk_at dksX0_bowl_2 0 rfl rfl)
theorem dX0_bowl_47 : decode cX0_bowl 47 = .ok (.iload 4, 2) := dk_21 4 (dk_at dksX0_bowl_2 1 rfl rfl)
theorem dX0_bowl_49 : decode cX0_bowl 49 = .ok (.iload_n 1, 1) := dk_27 (dk_at dksX0_bowl_2 3 rfl rfl)
theorem dX0_bowl_50 : decode cX0_bowl 50 = .ok (.if_icmp .ne 7, 3) := dk_160 0 7 (dk_at dksX0_bowl_2 4 rfl rfl)
theorem dX0_bowl_53 : decode cX0_bowl 53 = .ok (.iload_n 2, 1) := dk_28 (dk_at dksX0_bowl_2 7 rfl rfl)
theorem dX0_bowl_54 : decode cX0_bowl 54 = .ok (.goto 8, 3) := dk_167 0 8 (dk_at dksX0_bowl_2 8 rfl rfl)
theorem dX0_bowl_57 : decode cX0_bowl 57 = .ok (.aload 5, 2) := dk_25 5 (dk_at dksX0_bowl_2 11 rfl rfl)
theorem dX0_bowl_59 : decode cX0_bowl 59 = .ok (.getfield 39, 3) := dk_180 0 39 (dk_at dksX0_bowl_2 13 rfl rfl)
theorem dX0_bowl_62 : decode cX0_bowl 62 = .ok (.aload 5, 2) := dk_25 5 (dk_at dksX0_bowl_2 16 rfl rfl)
theorem dX0_bowl_64 : decode cX0_bowl 64 = .ok (.getfield 43, 3) := dk_180 0 43 (dk_at dksX0_bowl_2 18 rfl rfl)
theorem dX0_bowl_67 : decode cX0_bowl 67 = .ok (.invokevirtual 46, 3) := dk_182 0 46 (dk_at dksX0_bowl_2 21 rfl rfl)
theorem dX0_bowl_70 : decode cX0_bowl 70 = .ok (.iinc 4 1, 3) := dk_132 4 1 (dk_at dksX0_bowl_3 0 rfl rfl)
theorem dX0_bowl_73 : decode cX0_bowl 73 = .ok (.goto (-61), 3) := dk_167 255 195 (dk_at dksX0_bowl_3 3 rfl rfl)
theorem dX0_bowl_76 : decode cX0_bowl 76 = .ok (.aload_n 3, 1) := dk_45 (dk_at dksX0_bowl_3 6 rfl rfl)
theorem dX0_bowl_77 : decode cX0_bowl 77 = .ok (.areturn, 1) := dk_176 (dk_at dksX0_bowl_3 7 rfl rfl)
abbrev cX0_chances : ByteArray := prog_1_method_4_code
def yX0_chances : MethodName := ⟨RX0, "chances", "()[I"⟩
def dkwX0_chances_1 : List UInt8 := [167, 255, 240, 43, 176]
abbrev dktX0_chances_1 : List UInt8 := dkwX0_chances_1 ++ []
def dkwX0_chances_0 : List UInt8 := [6, 188, 10, 76, 3, 61, 28, 6, 162, 0, 17, 43, 28, 42, 28, 182, 0, 3, 79, 132, 2, 1]
abbrev dktX0_chances_0 : List UInt8 := dkwX0_chances_0 ++ dktX0_chances_1
theorem dksX0_chances_0 : cX0_chances.data.toList.drop 0 = dktX0_chances_0 := by decide +kernel
theorem dksX0_chances_1 : cX0_chances.data.toList.drop 22 = dktX0_chances_1 := dk_seg dksX0_chances_0 22 rfl rfl
theorem dX0_chances_0 : decode cX0_chances 0 = .ok (.iconst 3, 1) := dk_6 (dk_at dksX0_chances_0 0 rfl rfl)
theorem dX0_chances_1 : decode cX0_chances 1 = .ok (.newarray .int, 2) := dk_188_10 (dk_at dksX0_chances_0 1 rfl rfl)
theorem dX0_chances_3 : decode cX0_chances 3 = .ok (.astore_n 1, 1) := dk_76 (dk_at dksX0_chances_0 3 rfl rfl)
theorem dX0_chances_4 : decode cX0_chances 4 = .ok (.iconst 0, 1) := dk_3 (dk_at dksX0_chances_0 4 rfl rfl)
theorem dX0_chances_5 : decode cX0_chances 5 = .ok (.istore_n 2, 1) := dk_61 (dk_at dksX0_chances_0 5 rfl rfl)
theorem dX0_chances_6 : decode cX0_chances 6 = .ok (.iload_n 2, 1) := dk_28 (dk_at dksX0_chances_0 6 rfl rfl)
theorem dX0_chances_7 : decode cX0_chances 7 = .ok (.iconst 3, 1) := dk_6 (dk_at dksX0_chances_0 7 rfl rfl)
theorem dX0_chances_8 : decode cX0_chances 8 = .ok (.if_icmp .ge 17, 3) := dk_162 0 17 (dk_at dksX0_chances_0 8 rfl rfl)
theorem dX0_chances_11 : decode cX0_chances 11 = .ok (.aload_n 1, 1) := dk_43 (dk_at dksX0_chances_0 11 rfl rfl)
theorem dX0_chances_12 : decode cX0_chances 12 = .ok (.iload_n 2, 1) := dk_28 (dk_at dksX0_chances_0 12 rfl rfl)
theorem dX0_chances_13 : decode cX0_chances 13 = .ok (.aload_n 0, 1) := dk_42 (dk_at dksX0_chances_0 13 rfl rfl)
theorem dX0_chances_14 : decode cX0_chances 14 = .ok (.iload_n 2, 1) := dk_28 (dk_at dksX0_chances_0 14 rfl rfl)
theorem dX0_chances_15 : decode cX0_chances 15 = .ok (.invokevirtual 3, 3) := dk_182 0 3 (dk_at dksX0_chances_0 15 rfl rfl)
theorem dX0_chances_18 : decode cX0_chances 18 = .ok (.iastore, 1) := dk_79 (dk_at dksX0_chances_0 18 rfl rfl)
theorem dX0_chances_19 : decode cX0_chances 19 = .ok (.iinc 2 1, 3) := dk_132 2 1 (dk_at dksX0_chances_0 19 rfl rfl)
theorem dX0_chances_22 : decode cX0_chances 22 = .ok (.goto (-16), 3) := dk_167 255 240 (dk_at dksX0_chances_1 0 rfl rfl)
theorem dX0_chances_25 : decode cX0_chances 25 = .ok (.aload_n 1, 1) := dk_43 (dk_at dksX0_chances_1 3 rfl rfl)
theorem dX0_chances_26 : decode cX0_chances 26 = .ok (.areturn, 1) := dk_176 (dk_at dksX0_chances_1 4 rfl rfl)
abbrev cX0_over : ByteArray := prog_1_method_3_code
def yX0_over : MethodName := ⟨RX0, "over", "(II)J"⟩
def dkwX0_over_1 : List UInt8 := [27, 100, 21, 4, 96, 133, 105, 21, 4, 133, 109, 65, 132, 4, 1, 167, 255, 233, 32, 173]
abbrev dktX0_over_1 : List UInt8 := dkwX0_over_1 ++ []
def dkwX0_over_0 : List UInt8 := [27, 155, 0, 8, 27, 26, 164, 0, 5, 9, 173, 10, 65, 4, 54, 4, 21, 4, 27, 163, 0, 23, 32, 26]
abbrev dktX0_over_0 : List UInt8 := dkwX0_over_0 ++ dktX0_over_1
theorem dksX0_over_0 : cX0_over.data.toList.drop 0 = dktX0_over_0 := by decide +kernel
theorem dksX0_over_1 : cX0_over.data.toList.drop 24 = dktX0_over_1 := dk_seg dksX0_over_0 24 rfl rfl
theorem dX0_over_0 : decode cX0_over 0 = .ok (.iload_n 1, 1) := dk_27 (dk_at dksX0_over_0 0 rfl rfl)
theorem dX0_over_1 : decode cX0_over 1 = .ok (.ifCond .lt 8, 3) := dk_155 0 8 (dk_at dksX0_over_0 1 rfl rfl)
theorem dX0_over_4 : decode cX0_over 4 = .ok (.iload_n 1, 1) := dk_27 (dk_at dksX0_over_0 4 rfl rfl)
theorem dX0_over_5 : decode cX0_over 5 = .ok (.iload_n 0, 1) := dk_26 (dk_at dksX0_over_0 5 rfl rfl)
theorem dX0_over_6 : decode cX0_over 6 = .ok (.if_icmp .le 5, 3) := dk_164 0 5 (dk_at dksX0_over_0 6 rfl rfl)
theorem dX0_over_9 : decode cX0_over 9 = .ok (.lconst 0, 1) := dk_9 (dk_at dksX0_over_0 9 rfl rfl)
theorem dX0_over_10 : decode cX0_over 10 = .ok (.lreturn, 1) := dk_173 (dk_at dksX0_over_0 10 rfl rfl)
theorem dX0_over_11 : decode cX0_over 11 = .ok (.lconst 1, 1) := dk_10 (dk_at dksX0_over_0 11 rfl rfl)
theorem dX0_over_12 : decode cX0_over 12 = .ok (.lstore_n 2, 1) := dk_65 (dk_at dksX0_over_0 12 rfl rfl)
theorem dX0_over_13 : decode cX0_over 13 = .ok (.iconst 1, 1) := dk_4 (dk_at dksX0_over_0 13 rfl rfl)
theorem dX0_over_14 : decode cX0_over 14 = .ok (.istore 4, 2) := dk_54 4 (dk_at dksX0_over_0 14 rfl rfl)
theorem dX0_over_16 : decode cX0_over 16 = .ok (.iload 4, 2) := dk_21 4 (dk_at dksX0_over_0 16 rfl rfl)
theorem dX0_over_18 : decode cX0_over 18 = .ok (.iload_n 1, 1) := dk_27 (dk_at dksX0_over_0 18 rfl rfl)
theorem dX0_over_19 : decode cX0_over 19 = .ok (.if_icmp .gt 23, 3) := dk_163 0 23 (dk_at dksX0_over_0 19 rfl rfl)
theorem dX0_over_22 : decode cX0_over 22 = .ok (.lload_n 2, 1) := dk_32 (dk_at dksX0_over_0 22 rfl rfl)
theorem dX0_over_23 : decode cX0_over 23 = .ok (.iload_n 0, 1) := dk_26 (dk_at dksX0_over_0 23 rfl rfl)
theorem dX0_over_24 : decode cX0_over 24 = .ok (.iload_n 1, 1) := dk_27 (dk_at dksX0_over_1 0 rfl rfl)
theorem dX0_over_25 : decode cX0_over 25 = .ok (.isub, 1) := dk_100 (dk_at dksX0_over_1 1 rfl rfl)
theorem dX0_over_26 : decode cX0_over 26 = .ok (.iload 4, 2) := dk_21 4 (dk_at dksX0_over_1 2 rfl rfl)
theorem dX0_over_28 : decode cX0_over 28 = .ok (.iadd, 1) := dk_96 (dk_at dksX0_over_1 4 rfl rfl)
theorem dX0_over_29 : decode cX0_over 29 = .ok (.i2l, 1) := dk_133 (dk_at dksX0_over_1 5 rfl rfl)
theorem dX0_over_30 : decode cX0_over 30 = .ok (.lmul, 1) := dk_105 (dk_at dksX0_over_1 6 rfl rfl)
theorem dX0_over_31 : decode cX0_over 31 = .ok (.iload 4, 2) := dk_21 4 (dk_at dksX0_over_1 7 rfl rfl)
theorem dX0_over_33 : decode cX0_over 33 = .ok (.i2l, 1) := dk_133 (dk_at dksX0_over_1 9 rfl rfl)
theorem dX0_over_34 : decode cX0_over 34 = .ok (.ldiv, 1) := dk_109 (dk_at dksX0_over_1 10 rfl rfl)
theorem dX0_over_35 : decode cX0_over 35 = .ok (.lstore_n 2, 1) := dk_65 (dk_at dksX0_over_1 11 rfl rfl)
theorem dX0_over_36 : decode cX0_over 36 = .ok (.iinc 4 1, 3) := dk_132 4 1 (dk_at dksX0_over_1 12 rfl rfl)
theorem dX0_over_39 : decode cX0_over 39 = .ok (.goto (-23), 3) := dk_167 255 233 (dk_at dksX0_over_1 15 rfl rfl)
theorem dX0_over_42 : decode cX0_over 42 = .ok (.lload_n 2, 1) := dk_32 (dk_at dksX0_over_1 18 rfl rfl)
theorem dX0_over_43 : decode cX0_over 43 = .ok (.lreturn, 1) := dk_173 (dk_at dksX0_over_1 19 rfl rfl)
abbrev cX0_common : ByteArray := prog_1_method_2_code
def yX0_common : MethodName := ⟨RX0, "common", "(JJ)J"⟩
def dkwX0_common_1 : List UInt8 := [22, 8, 55, 6, 167, 255, 234, 22, 4, 173]
abbrev dktX0_common_1 : List UInt8 := dkwX0_common_1 ++ []
def dkwX0_common_0 : List UInt8 := [30, 55, 4, 32, 55, 6, 22, 6, 9, 148, 153, 0, 21, 22, 4, 22, 6, 113, 55, 8, 22, 6, 55, 4]
abbrev dktX0_common_0 : List UInt8 := dkwX0_common_0 ++ dktX0_common_1
theorem dksX0_common_0 : cX0_common.data.toList.drop 0 = dktX0_common_0 := by decide +kernel
theorem dksX0_common_1 : cX0_common.data.toList.drop 24 = dktX0_common_1 := dk_seg dksX0_common_0 24 rfl rfl
theorem dX0_common_0 : decode cX0_common 0 = .ok (.lload_n 0, 1) := dk_30 (dk_at dksX0_common_0 0 rfl rfl)
theorem dX0_common_1 : decode cX0_common 1 = .ok (.lstore 4, 2) := dk_55 4 (dk_at dksX0_common_0 1 rfl rfl)
theorem dX0_common_3 : decode cX0_common 3 = .ok (.lload_n 2, 1) := dk_32 (dk_at dksX0_common_0 3 rfl rfl)
theorem dX0_common_4 : decode cX0_common 4 = .ok (.lstore 6, 2) := dk_55 6 (dk_at dksX0_common_0 4 rfl rfl)
theorem dX0_common_6 : decode cX0_common 6 = .ok (.lload 6, 2) := dk_22 6 (dk_at dksX0_common_0 6 rfl rfl)
theorem dX0_common_8 : decode cX0_common 8 = .ok (.lconst 0, 1) := dk_9 (dk_at dksX0_common_0 8 rfl rfl)
theorem dX0_common_9 : decode cX0_common 9 = .ok (.lcmp, 1) := dk_148 (dk_at dksX0_common_0 9 rfl rfl)
theorem dX0_common_10 : decode cX0_common 10 = .ok (.ifCond .eq 21, 3) := dk_153 0 21 (dk_at dksX0_common_0 10 rfl rfl)
theorem dX0_common_13 : decode cX0_common 13 = .ok (.lload 4, 2) := dk_22 4 (dk_at dksX0_common_0 13 rfl rfl)
theorem dX0_common_15 : decode cX0_common 15 = .ok (.lload 6, 2) := dk_22 6 (dk_at dksX0_common_0 15 rfl rfl)
theorem dX0_common_17 : decode cX0_common 17 = .ok (.lrem, 1) := dk_113 (dk_at dksX0_common_0 17 rfl rfl)
theorem dX0_common_18 : decode cX0_common 18 = .ok (.lstore 8, 2) := dk_55 8 (dk_at dksX0_common_0 18 rfl rfl)
theorem dX0_common_20 : decode cX0_common 20 = .ok (.lload 6, 2) := dk_22 6 (dk_at dksX0_common_0 20 rfl rfl)
theorem dX0_common_22 : decode cX0_common 22 = .ok (.lstore 4, 2) := dk_55 4 (dk_at dksX0_common_0 22 rfl rfl)
theorem dX0_common_24 : decode cX0_common 24 = .ok (.lload 8, 2) := dk_22 8 (dk_at dksX0_common_1 0 rfl rfl)
theorem dX0_common_26 : decode cX0_common 26 = .ok (.lstore 6, 2) := dk_55 6 (dk_at dksX0_common_1 2 rfl rfl)
theorem dX0_common_28 : decode cX0_common 28 = .ok (.goto (-22), 3) := dk_167 255 234 (dk_at dksX0_common_1 4 rfl rfl)
theorem dX0_common_31 : decode cX0_common 31 = .ok (.lload 4, 2) := dk_22 4 (dk_at dksX0_common_1 7 rfl rfl)
theorem dX0_common_33 : decode cX0_common 33 = .ok (.lreturn, 1) := dk_173 (dk_at dksX0_common_1 9 rfl rfl)
abbrev cX0_right : ByteArray := prog_1_method_34_code
def yX0_right : MethodName := ⟨RX0, "right", "(II)J"⟩
def dkwX0_right_3 : List UInt8 := [180, 0, 243, 180, 0, 247, 4, 96, 47, 183, 0, 252, 28, 182, 0, 231, 173]
abbrev dktX0_right_3 : List UInt8 := dkwX0_right_3 ++ []
def dkwX0_right_2 : List UInt8 := [89, 27, 45, 180, 0, 243, 180, 0, 247, 164, 0, 7, 9, 167, 0, 7, 25, 4, 27, 47, 25, 4, 45]
abbrev dktX0_right_2 : List UInt8 := dkwX0_right_2 ++ dktX0_right_3
def dkwX0_right_1 : List UInt8 := [2, 3, 182, 0, 223, 78, 45, 42, 180, 0, 17, 180, 0, 174, 6, 46, 182, 0, 239, 58, 4, 187, 0, 232]
abbrev dktX0_right_1 : List UInt8 := dkwX0_right_1 ++ dktX0_right_2
def dkwX0_right_0 : List UInt8 := [27, 133, 9, 20, 0, 162, 184, 0, 109, 153, 0, 10, 28, 184, 0, 220, 154, 0, 7, 20, 0, 237, 173, 42]
abbrev dktX0_right_0 : List UInt8 := dkwX0_right_0 ++ dktX0_right_1
theorem dksX0_right_0 : cX0_right.data.toList.drop 0 = dktX0_right_0 := by decide +kernel
theorem dksX0_right_1 : cX0_right.data.toList.drop 24 = dktX0_right_1 := dk_seg dksX0_right_0 24 rfl rfl
theorem dksX0_right_2 : cX0_right.data.toList.drop 48 = dktX0_right_2 := dk_seg dksX0_right_1 24 rfl rfl
theorem dksX0_right_3 : cX0_right.data.toList.drop 71 = dktX0_right_3 := dk_seg dksX0_right_2 23 rfl rfl
theorem dX0_right_0 : decode cX0_right 0 = .ok (.iload_n 1, 1) := dk_27 (dk_at dksX0_right_0 0 rfl rfl)
theorem dX0_right_1 : decode cX0_right 1 = .ok (.i2l, 1) := dk_133 (dk_at dksX0_right_0 1 rfl rfl)
theorem dX0_right_2 : decode cX0_right 2 = .ok (.lconst 0, 1) := dk_9 (dk_at dksX0_right_0 2 rfl rfl)
theorem dX0_right_3 : decode cX0_right 3 = .ok (.ldc2_w 162, 3) := dk_20 0 162 (dk_at dksX0_right_0 3 rfl rfl)
theorem dX0_right_6 : decode cX0_right 6 = .ok (.invokestatic 109, 3) := dk_184 0 109 (dk_at dksX0_right_0 6 rfl rfl)
theorem dX0_right_9 : decode cX0_right 9 = .ok (.ifCond .eq 10, 3) := dk_153 0 10 (dk_at dksX0_right_0 9 rfl rfl)
theorem dX0_right_12 : decode cX0_right 12 = .ok (.iload_n 2, 1) := dk_28 (dk_at dksX0_right_0 12 rfl rfl)
theorem dX0_right_13 : decode cX0_right 13 = .ok (.invokestatic 220, 3) := dk_184 0 220 (dk_at dksX0_right_0 13 rfl rfl)
theorem dX0_right_16 : decode cX0_right 16 = .ok (.ifCond .ne 7, 3) := dk_154 0 7 (dk_at dksX0_right_0 16 rfl rfl)
theorem dX0_right_19 : decode cX0_right 19 = .ok (.ldc2_w 237, 3) := dk_20 0 237 (dk_at dksX0_right_0 19 rfl rfl)
theorem dX0_right_22 : decode cX0_right 22 = .ok (.lreturn, 1) := dk_173 (dk_at dksX0_right_0 22 rfl rfl)
theorem dX0_right_23 : decode cX0_right 23 = .ok (.aload_n 0, 1) := dk_42 (dk_at dksX0_right_0 23 rfl rfl)
theorem dX0_right_24 : decode cX0_right 24 = .ok (.iconst (-1), 1) := dk_2 (dk_at dksX0_right_1 0 rfl rfl)
theorem dX0_right_25 : decode cX0_right 25 = .ok (.iconst 0, 1) := dk_3 (dk_at dksX0_right_1 1 rfl rfl)
theorem dX0_right_26 : decode cX0_right 26 = .ok (.invokevirtual 223, 3) := dk_182 0 223 (dk_at dksX0_right_1 2 rfl rfl)
theorem dX0_right_29 : decode cX0_right 29 = .ok (.astore_n 3, 1) := dk_78 (dk_at dksX0_right_1 5 rfl rfl)
theorem dX0_right_30 : decode cX0_right 30 = .ok (.aload_n 3, 1) := dk_45 (dk_at dksX0_right_1 6 rfl rfl)
theorem dX0_right_31 : decode cX0_right 31 = .ok (.aload_n 0, 1) := dk_42 (dk_at dksX0_right_1 7 rfl rfl)
theorem dX0_right_32 : decode cX0_right 32 = .ok (.getfield 17, 3) := dk_180 0 17 (dk_at dksX0_right_1 8 rfl rfl)
theorem dX0_right_35 : decode cX0_right 35 = .ok (.getfield 174, 3) := dk_180 0 174 (dk_at dksX0_right_1 11 rfl rfl)
theorem dX0_right_38 : decode cX0_right 38 = .ok (.iconst 3, 1) := dk_6 (dk_at dksX0_right_1 14 rfl rfl)
theorem dX0_right_39 : decode cX0_right 39 = .ok (.iaload, 1) := dk_46 (dk_at dksX0_right_1 15 rfl rfl)
theorem dX0_right_40 : decode cX0_right 40 = .ok (.invokevirtual 239, 3) := dk_182 0 239 (dk_at dksX0_right_1 16 rfl rfl)
theorem dX0_right_43 : decode cX0_right 43 = .ok (.astore 4, 2) := dk_58 4 (dk_at dksX0_right_1 19 rfl rfl)
theorem dX0_right_45 : decode cX0_right 45 = .ok (.new 232, 3) := dk_187 0 232 (dk_at dksX0_right_1 21 rfl rfl)
theorem dX0_right_48 : decode cX0_right 48 = .ok (.dup, 1) := dk_89 (dk_at dksX0_right_2 0 rfl rfl)
theorem dX0_right_49 : decode cX0_right 49 = .ok (.iload_n 1, 1) := dk_27 (dk_at dksX0_right_2 1 rfl rfl)
theorem dX0_right_50 : decode cX0_right 50 = .ok (.aload_n 3, 1) := dk_45 (dk_at dksX0_right_2 2 rfl rfl)
theorem dX0_right_51 : decode cX0_right 51 = .ok (.getfield 243, 3) := dk_180 0 243 (dk_at dksX0_right_2 3 rfl rfl)
theorem dX0_right_54 : decode cX0_right 54 = .ok (.getfield 247, 3) := dk_180 0 247 (dk_at dksX0_right_2 6 rfl rfl)
theorem dX0_right_57 : decode cX0_right 57 = .ok (.if_icmp .le 7, 3) := dk_164 0 7 (dk_at dksX0_right_2 9 rfl rfl)
theorem dX0_right_60 : decode cX0_right 60 = .ok (.lconst 0, 1) := dk_9 (dk_at dksX0_right_2 12 rfl rfl)
theorem dX0_right_61 : decode cX0_right 61 = .ok (.goto 7, 3) := dk_167 0 7 (dk_at dksX0_right_2 13 rfl rfl)
theorem dX0_right_64 : decode cX0_right 64 = .ok (.aload 4, 2) := dk_25 4 (dk_at dksX0_right_2 16 rfl rfl)
theorem dX0_right_66 : decode cX0_right 66 = .ok (.iload_n 1, 1) := dk_27 (dk_at dksX0_right_2 18 rfl rfl)
theorem dX0_right_67 : decode cX0_right 67 = .ok (.laload, 1) := dk_47 (dk_at dksX0_right_2 19 rfl rfl)
theorem dX0_right_68 : decode cX0_right 68 = .ok (.aload 4, 2) := dk_25 4 (dk_at dksX0_right_2 20 rfl rfl)
theorem dX0_right_70 : decode cX0_right 70 = .ok (.aload_n 3, 1) := dk_45 (dk_at dksX0_right_2 22 rfl rfl)
theorem dX0_right_71 : decode cX0_right 71 = .ok (.getfield 243, 3) := dk_180 0 243 (dk_at dksX0_right_3 0 rfl rfl)
theorem dX0_right_74 : decode cX0_right 74 = .ok (.getfield 247, 3) := dk_180 0 247 (dk_at dksX0_right_3 3 rfl rfl)
theorem dX0_right_77 : decode cX0_right 77 = .ok (.iconst 1, 1) := dk_4 (dk_at dksX0_right_3 6 rfl rfl)
theorem dX0_right_78 : decode cX0_right 78 = .ok (.iadd, 1) := dk_96 (dk_at dksX0_right_3 7 rfl rfl)
theorem dX0_right_79 : decode cX0_right 79 = .ok (.laload, 1) := dk_47 (dk_at dksX0_right_3 8 rfl rfl)
theorem dX0_right_80 : decode cX0_right 80 = .ok (.invokespecial 252, 3) := dk_183 0 252 (dk_at dksX0_right_3 9 rfl rfl)
theorem dX0_right_83 : decode cX0_right 83 = .ok (.iload_n 2, 1) := dk_28 (dk_at dksX0_right_3 12 rfl rfl)
theorem dX0_right_84 : decode cX0_right 84 = .ok (.invokevirtual 231, 3) := dk_182 0 231 (dk_at dksX0_right_3 13 rfl rfl)
theorem dX0_right_87 : decode cX0_right 87 = .ok (.lreturn, 1) := dk_173 (dk_at dksX0_right_3 16 rfl rfl)
abbrev cX0_mean : ByteArray := prog_1_method_35_code
def yX0_mean : MethodName := ⟨RX0, "mean", "(I)J"⟩
def dkwX0_mean_4 : List UInt8 := [173]
abbrev dktX0_mean_4 : List UInt8 := dkwX0_mean_4 ++ []
def dkwX0_mean_3 : List UInt8 := [187, 0, 232, 89, 22, 4, 45, 44, 180, 0, 243, 180, 0, 247, 4, 96, 47, 183, 0, 252, 27, 182, 0, 231]
abbrev dktX0_mean_3 : List UInt8 := dkwX0_mean_3 ++ dktX0_mean_4
def dkwX0_mean_2 : List UInt8 := [163, 0, 22, 22, 4, 21, 6, 133, 45, 21, 6, 47, 105, 97, 55, 4, 132, 6, 1, 167, 255, 228]
abbrev dktX0_mean_2 : List UInt8 := dkwX0_mean_2 ++ dktX0_mean_3
def dkwX0_mean_1 : List UInt8 := [180, 0, 174, 6, 46, 182, 0, 239, 78, 9, 55, 4, 4, 54, 6, 21, 6, 44, 180, 0, 243, 180, 0, 247]
abbrev dktX0_mean_1 : List UInt8 := dkwX0_mean_1 ++ dktX0_mean_2
def dkwX0_mean_0 : List UInt8 := [27, 184, 0, 220, 154, 0, 7, 20, 0, 237, 173, 42, 2, 3, 182, 0, 223, 77, 44, 42, 180, 0, 17]
abbrev dktX0_mean_0 : List UInt8 := dkwX0_mean_0 ++ dktX0_mean_1
theorem dksX0_mean_0 : cX0_mean.data.toList.drop 0 = dktX0_mean_0 := by decide +kernel
theorem dksX0_mean_1 : cX0_mean.data.toList.drop 23 = dktX0_mean_1 := dk_seg dksX0_mean_0 23 rfl rfl
theorem dksX0_mean_2 : cX0_mean.data.toList.drop 47 = dktX0_mean_2 := dk_seg dksX0_mean_1 24 rfl rfl
theorem dksX0_mean_3 : cX0_mean.data.toList.drop 69 = dktX0_mean_3 := dk_seg dksX0_mean_2 22 rfl rfl
theorem dksX0_mean_4 : cX0_mean.data.toList.drop 93 = dktX0_mean_4 := dk_seg dksX0_mean_3 24 rfl rfl
theorem dX0_mean_0 : decode cX0_mean 0 = .ok (.iload_n 1, 1) := dk_27 (dk_at dksX0_mean_0 0 rfl rfl)
theorem dX0_mean_1 : decode cX0_mean 1 = .ok (.invokestatic 220, 3) := dk_184 0 220 (dk_at dksX0_mean_0 1 rfl rfl)
theorem dX0_mean_4 : decode cX0_mean 4 = .ok (.ifCond .ne 7, 3) := dk_154 0 7 (dk_at dksX0_mean_0 4 rfl rfl)
theorem dX0_mean_7 : decode cX0_mean 7 = .ok (.ldc2_w 237, 3) := dk_20 0 237 (dk_at dksX0_mean_0 7 rfl rfl)
theorem dX0_mean_10 : decode cX0_mean 10 = .ok (.lreturn, 1) := dk_173 (dk_at dksX0_mean_0 10 rfl rfl)
theorem dX0_mean_11 : decode cX0_mean 11 = .ok (.aload_n 0, 1) := dk_42 (dk_at dksX0_mean_0 11 rfl rfl)
theorem dX0_mean_12 : decode cX0_mean 12 = .ok (.iconst (-1), 1) := dk_2 (dk_at dksX0_mean_0 12 rfl rfl)
theorem dX0_mean_13 : decode cX0_mean 13 = .ok (.iconst 0, 1) := dk_3 (dk_at dksX0_mean_0 13 rfl rfl)
theorem dX0_mean_14 : decode cX0_mean 14 = .ok (.invokevirtual 223, 3) := dk_182 0 223 (dk_at dksX0_mean_0 14 rfl rfl)
theorem dX0_mean_17 : decode cX0_mean 17 = .ok (.astore_n 2, 1) := dk_77 (dk_at dksX0_mean_0 17 rfl rfl)
theorem dX0_mean_18 : decode cX0_mean 18 = .ok (.aload_n 2, 1) := dk_44 (dk_at dksX0_mean_0 18 rfl rfl)
theorem dX0_mean_19 : decode cX0_mean 19 = .ok (.aload_n 0, 1) := dk_42 (dk_at dksX0_mean_0 19 rfl rfl)
theorem dX0_mean_20 : decode cX0_mean 20 = .ok (.getfield 17, 3) := dk_180 0 17 (dk_at dksX0_mean_0 20 rfl rfl)
theorem dX0_mean_23 : decode cX0_mean 23 = .ok (.getfield 174, 3) := dk_180 0 174 (dk_at dksX0_mean_1 0 rfl rfl)
theorem dX0_mean_26 : decode cX0_mean 26 = .ok (.iconst 3, 1) := dk_6 (dk_at dksX0_mean_1 3 rfl rfl)
theorem dX0_mean_27 : decode cX0_mean 27 = .ok (.iaload, 1) := dk_46 (dk_at dksX0_mean_1 4 rfl rfl)
theorem dX0_mean_28 : decode cX0_mean 28 = .ok (.invokevirtual 239, 3) := dk_182 0 239 (dk_at dksX0_mean_1 5 rfl rfl)
theorem dX0_mean_31 : decode cX0_mean 31 = .ok (.astore_n 3, 1) := dk_78 (dk_at dksX0_mean_1 8 rfl rfl)
theorem dX0_mean_32 : decode cX0_mean 32 = .ok (.lconst 0, 1) := dk_9 (dk_at dksX0_mean_1 9 rfl rfl)
theorem dX0_mean_33 : decode cX0_mean 33 = .ok (.lstore 4, 2) := dk_55 4 (dk_at dksX0_mean_1 10 rfl rfl)
theorem dX0_mean_35 : decode cX0_mean 35 = .ok (.iconst 1, 1) := dk_4 (dk_at dksX0_mean_1 12 rfl rfl)
theorem dX0_mean_36 : decode cX0_mean 36 = .ok (.istore 6, 2) := dk_54 6 (dk_at dksX0_mean_1 13 rfl rfl)
theorem dX0_mean_38 : decode cX0_mean 38 = .ok (.iload 6, 2) := dk_21 6 (dk_at dksX0_mean_1 15 rfl rfl)
theorem dX0_mean_40 : decode cX0_mean 40 = .ok (.aload_n 2, 1) := dk_44 (dk_at dksX0_mean_1 17 rfl rfl)
theorem dX0_mean_41 : decode cX0_mean 41 = .ok (.getfield 243, 3) := dk_180 0 243 (dk_at dksX0_mean_1 18 rfl rfl)
theorem dX0_mean_44 : decode cX0_mean 44 = .ok (.getfield 247, 3) := dk_180 0 247 (dk_at dksX0_mean_1 21 rfl rfl)
theorem dX0_mean_47 : decode cX0_mean 47 = .ok (.if_icmp .gt 22, 3) := dk_163 0 22 (dk_at dksX0_mean_2 0 rfl rfl)
theorem dX0_mean_50 : decode cX0_mean 50 = .ok (.lload 4, 2) := dk_22 4 (dk_at dksX0_mean_2 3 rfl rfl)
theorem dX0_mean_52 : decode cX0_mean 52 = .ok (.iload 6, 2) := dk_21 6 (dk_at dksX0_mean_2 5 rfl rfl)
theorem dX0_mean_54 : decode cX0_mean 54 = .ok (.i2l, 1) := dk_133 (dk_at dksX0_mean_2 7 rfl rfl)
theorem dX0_mean_55 : decode cX0_mean 55 = .ok (.aload_n 3, 1) := dk_45 (dk_at dksX0_mean_2 8 rfl rfl)
theorem dX0_mean_56 : decode cX0_mean 56 = .ok (.iload 6, 2) := dk_21 6 (dk_at dksX0_mean_2 9 rfl rfl)
theorem dX0_mean_58 : decode cX0_mean 58 = .ok (.laload, 1) := dk_47 (dk_at dksX0_mean_2 11 rfl rfl)
theorem dX0_mean_59 : decode cX0_mean 59 = .ok (.lmul, 1) := dk_105 (dk_at dksX0_mean_2 12 rfl rfl)
theorem dX0_mean_60 : decode cX0_mean 60 = .ok (.ladd, 1) := dk_97 (dk_at dksX0_mean_2 13 rfl rfl)
theorem dX0_mean_61 : decode cX0_mean 61 = .ok (.lstore 4, 2) := dk_55 4 (dk_at dksX0_mean_2 14 rfl rfl)
theorem dX0_mean_63 : decode cX0_mean 63 = .ok (.iinc 6 1, 3) := dk_132 6 1 (dk_at dksX0_mean_2 16 rfl rfl)
theorem dX0_mean_66 : decode cX0_mean 66 = .ok (.goto (-28), 3) := dk_167 255 228 (dk_at dksX0_mean_2 19 rfl rfl)
theorem dX0_mean_69 : decode cX0_mean 69 = .ok (.new 232, 3) := dk_187 0 232 (dk_at dksX0_mean_3 0 rfl rfl)
theorem dX0_mean_72 : decode cX0_mean 72 = .ok (.dup, 1) := dk_89 (dk_at dksX0_mean_3 3 rfl rfl)
theorem dX0_mean_73 : decode cX0_mean 73 = .ok (.lload 4, 2) := dk_22 4 (dk_at dksX0_mean_3 4 rfl rfl)
theorem dX0_mean_75 : decode cX0_mean 75 = .ok (.aload_n 3, 1) := dk_45 (dk_at dksX0_mean_3 6 rfl rfl)
theorem dX0_mean_76 : decode cX0_mean 76 = .ok (.aload_n 2, 1) := dk_44 (dk_at dksX0_mean_3 7 rfl rfl)
theorem dX0_mean_77 : decode cX0_mean 77 = .ok (.getfield 243, 3) := dk_180 0 243 (dk_at dksX0_mean_3 8 rfl rfl)
theorem dX0_mean_80 : decode cX0_mean 80 = .ok (.getfield 247, 3) := dk_180 0 247 (dk_at dksX0_mean_3 11 rfl rfl)
theorem dX0_mean_83 : decode cX0_mean 83 = .ok (.iconst 1, 1) := dk_4 (dk_at dksX0_mean_3 14 rfl rfl)
theorem dX0_mean_84 : decode cX0_mean 84 = .ok (.iadd, 1) := dk_96 (dk_at dksX0_mean_3 15 rfl rfl)
theorem dX0_mean_85 : decode cX0_mean 85 = .ok (.laload, 1) := dk_47 (dk_at dksX0_mean_3 16 rfl rfl)
theorem dX0_mean_86 : decode cX0_mean 86 = .ok (.invokespecial 252, 3) := dk_183 0 252 (dk_at dksX0_mean_3 17 rfl rfl)
theorem dX0_mean_89 : decode cX0_mean 89 = .ok (.iload_n 1, 1) := dk_27 (dk_at dksX0_mean_3 20 rfl rfl)
theorem dX0_mean_90 : decode cX0_mean 90 = .ok (.invokevirtual 231, 3) := dk_182 0 231 (dk_at dksX0_mean_3 21 rfl rfl)
theorem dX0_mean_93 : decode cX0_mean 93 = .ok (.lreturn, 1) := dk_173 (dk_at dksX0_mean_4 0 rfl rfl)
abbrev cX0_sure : ByteArray := prog_1_method_38_code
def yX0_sure : MethodName := ⟨RX0, "sure", "(II)J"⟩
def dkwX0_sure_1 : List UInt8 := [182, 1, 2, 28, 182, 0, 231, 167, 0, 6, 20, 0, 237, 173]
abbrev dktX0_sure_1 : List UInt8 := dkwX0_sure_1 ++ []
def dkwX0_sure_0 : List UInt8 := [27, 133, 9, 42, 182, 0, 255, 133, 184, 0, 109, 153, 0, 22, 28, 184, 0, 220, 153, 0, 15, 42, 27]
abbrev dktX0_sure_0 : List UInt8 := dkwX0_sure_0 ++ dktX0_sure_1
theorem dksX0_sure_0 : cX0_sure.data.toList.drop 0 = dktX0_sure_0 := by decide +kernel
theorem dksX0_sure_1 : cX0_sure.data.toList.drop 23 = dktX0_sure_1 := dk_seg dksX0_sure_0 23 rfl rfl
theorem dX0_sure_0 : decode cX0_sure 0 = .ok (.iload_n 1, 1) := dk_27 (dk_at dksX0_sure_0 0 rfl rfl)
theorem dX0_sure_1 : decode cX0_sure 1 = .ok (.i2l, 1) := dk_133 (dk_at dksX0_sure_0 1 rfl rfl)
theorem dX0_sure_2 : decode cX0_sure 2 = .ok (.lconst 0, 1) := dk_9 (dk_at dksX0_sure_0 2 rfl rfl)
theorem dX0_sure_3 : decode cX0_sure 3 = .ok (.aload_n 0, 1) := dk_42 (dk_at dksX0_sure_0 3 rfl rfl)
theorem dX0_sure_4 : decode cX0_sure 4 = .ok (.invokevirtual 255, 3) := dk_182 0 255 (dk_at dksX0_sure_0 4 rfl rfl)
theorem dX0_sure_7 : decode cX0_sure 7 = .ok (.i2l, 1) := dk_133 (dk_at dksX0_sure_0 7 rfl rfl)
theorem dX0_sure_8 : decode cX0_sure 8 = .ok (.invokestatic 109, 3) := dk_184 0 109 (dk_at dksX0_sure_0 8 rfl rfl)
theorem dX0_sure_11 : decode cX0_sure 11 = .ok (.ifCond .eq 22, 3) := dk_153 0 22 (dk_at dksX0_sure_0 11 rfl rfl)
theorem dX0_sure_14 : decode cX0_sure 14 = .ok (.iload_n 2, 1) := dk_28 (dk_at dksX0_sure_0 14 rfl rfl)
theorem dX0_sure_15 : decode cX0_sure 15 = .ok (.invokestatic 220, 3) := dk_184 0 220 (dk_at dksX0_sure_0 15 rfl rfl)
theorem dX0_sure_18 : decode cX0_sure 18 = .ok (.ifCond .eq 15, 3) := dk_153 0 15 (dk_at dksX0_sure_0 18 rfl rfl)
theorem dX0_sure_21 : decode cX0_sure 21 = .ok (.aload_n 0, 1) := dk_42 (dk_at dksX0_sure_0 21 rfl rfl)
theorem dX0_sure_22 : decode cX0_sure 22 = .ok (.iload_n 1, 1) := dk_27 (dk_at dksX0_sure_0 22 rfl rfl)
theorem dX0_sure_23 : decode cX0_sure 23 = .ok (.invokevirtual 258, 3) := dk_182 1 2 (dk_at dksX0_sure_1 0 rfl rfl)
theorem dX0_sure_26 : decode cX0_sure 26 = .ok (.iload_n 2, 1) := dk_28 (dk_at dksX0_sure_1 3 rfl rfl)
theorem dX0_sure_27 : decode cX0_sure 27 = .ok (.invokevirtual 231, 3) := dk_182 0 231 (dk_at dksX0_sure_1 4 rfl rfl)
theorem dX0_sure_30 : decode cX0_sure 30 = .ok (.goto 6, 3) := dk_167 0 6 (dk_at dksX0_sure_1 7 rfl rfl)
theorem dX0_sure_33 : decode cX0_sure 33 = .ok (.ldc2_w 237, 3) := dk_20 0 237 (dk_at dksX0_sure_1 10 rfl rfl)
theorem dX0_sure_36 : decode cX0_sure 36 = .ok (.lreturn, 1) := dk_173 (dk_at dksX0_sure_1 13 rfl rfl)
abbrev cX0_inBowl : ByteArray := prog_1_method_36_code
def yX0_inBowl : MethodName := ⟨RX0, "inBowl", "()I"⟩
def dkwX0_inBowl_1 : List UInt8 := [192, 0, 33, 180, 0, 35, 153, 0, 7, 3, 167, 0, 4, 4, 96, 60, 132, 2, 1, 167, 255, 217, 27, 172]
abbrev dktX0_inBowl_1 : List UInt8 := dkwX0_inBowl_1 ++ []
def dkwX0_inBowl_0 : List UInt8 := [3, 60, 3, 61, 28, 42, 182, 0, 13, 162, 0, 37, 27, 42, 180, 0, 17, 180, 0, 21, 28, 182, 0, 27]
abbrev dktX0_inBowl_0 : List UInt8 := dkwX0_inBowl_0 ++ dktX0_inBowl_1
theorem dksX0_inBowl_0 : cX0_inBowl.data.toList.drop 0 = dktX0_inBowl_0 := by decide +kernel
theorem dksX0_inBowl_1 : cX0_inBowl.data.toList.drop 24 = dktX0_inBowl_1 := dk_seg dksX0_inBowl_0 24 rfl rfl
theorem dX0_inBowl_0 : decode cX0_inBowl 0 = .ok (.iconst 0, 1) := dk_3 (dk_at dksX0_inBowl_0 0 rfl rfl)
theorem dX0_inBowl_1 : decode cX0_inBowl 1 = .ok (.istore_n 1, 1) := dk_60 (dk_at dksX0_inBowl_0 1 rfl rfl)
theorem dX0_inBowl_2 : decode cX0_inBowl 2 = .ok (.iconst 0, 1) := dk_3 (dk_at dksX0_inBowl_0 2 rfl rfl)
theorem dX0_inBowl_3 : decode cX0_inBowl 3 = .ok (.istore_n 2, 1) := dk_61 (dk_at dksX0_inBowl_0 3 rfl rfl)
theorem dX0_inBowl_4 : decode cX0_inBowl 4 = .ok (.iload_n 2, 1) := dk_28 (dk_at dksX0_inBowl_0 4 rfl rfl)
theorem dX0_inBowl_5 : decode cX0_inBowl 5 = .ok (.aload_n 0, 1) := dk_42 (dk_at dksX0_inBowl_0 5 rfl rfl)
theorem dX0_inBowl_6 : decode cX0_inBowl 6 = .ok (.invokevirtual 13, 3) := dk_182 0 13 (dk_at dksX0_inBowl_0 6 rfl rfl)
theorem dX0_inBowl_9 : decode cX0_inBowl 9 = .ok (.if_icmp .ge 37, 3) := dk_162 0 37 (dk_at dksX0_inBowl_0 9 rfl rfl)
theorem dX0_inBowl_12 : decode cX0_inBowl 12 = .ok (.iload_n 1, 1) := dk_27 (dk_at dksX0_inBowl_0 12 rfl rfl)
theorem dX0_inBowl_13 : decode cX0_inBowl 13 = .ok (.aload_n 0, 1) := dk_42 (dk_at dksX0_inBowl_0 13 rfl rfl)
theorem dX0_inBowl_14 : decode cX0_inBowl 14 = .ok (.getfield 17, 3) := dk_180 0 17 (dk_at dksX0_inBowl_0 14 rfl rfl)
theorem dX0_inBowl_17 : decode cX0_inBowl 17 = .ok (.getfield 21, 3) := dk_180 0 21 (dk_at dksX0_inBowl_0 17 rfl rfl)
theorem dX0_inBowl_20 : decode cX0_inBowl 20 = .ok (.iload_n 2, 1) := dk_28 (dk_at dksX0_inBowl_0 20 rfl rfl)
theorem dX0_inBowl_21 : decode cX0_inBowl 21 = .ok (.invokevirtual 27, 3) := dk_182 0 27 (dk_at dksX0_inBowl_0 21 rfl rfl)
theorem dX0_inBowl_24 : decode cX0_inBowl 24 = .ok (.checkcast 33, 3) := dk_192 0 33 (dk_at dksX0_inBowl_1 0 rfl rfl)
theorem dX0_inBowl_27 : decode cX0_inBowl 27 = .ok (.getfield 35, 3) := dk_180 0 35 (dk_at dksX0_inBowl_1 3 rfl rfl)
theorem dX0_inBowl_30 : decode cX0_inBowl 30 = .ok (.ifCond .eq 7, 3) := dk_153 0 7 (dk_at dksX0_inBowl_1 6 rfl rfl)
theorem dX0_inBowl_33 : decode cX0_inBowl 33 = .ok (.iconst 0, 1) := dk_3 (dk_at dksX0_inBowl_1 9 rfl rfl)
theorem dX0_inBowl_34 : decode cX0_inBowl 34 = .ok (.goto 4, 3) := dk_167 0 4 (dk_at dksX0_inBowl_1 10 rfl rfl)
theorem dX0_inBowl_37 : decode cX0_inBowl 37 = .ok (.iconst 1, 1) := dk_4 (dk_at dksX0_inBowl_1 13 rfl rfl)
theorem dX0_inBowl_38 : decode cX0_inBowl 38 = .ok (.iadd, 1) := dk_96 (dk_at dksX0_inBowl_1 14 rfl rfl)
theorem dX0_inBowl_39 : decode cX0_inBowl 39 = .ok (.istore_n 1, 1) := dk_60 (dk_at dksX0_inBowl_1 15 rfl rfl)
theorem dX0_inBowl_40 : decode cX0_inBowl 40 = .ok (.iinc 2 1, 3) := dk_132 2 1 (dk_at dksX0_inBowl_1 16 rfl rfl)
theorem dX0_inBowl_43 : decode cX0_inBowl 43 = .ok (.goto (-39), 3) := dk_167 255 217 (dk_at dksX0_inBowl_1 19 rfl rfl)
theorem dX0_inBowl_46 : decode cX0_inBowl 46 = .ok (.iload_n 1, 1) := dk_27 (dk_at dksX0_inBowl_1 22 rfl rfl)
theorem dX0_inBowl_47 : decode cX0_inBowl 47 = .ok (.ireturn, 1) := dk_172 (dk_at dksX0_inBowl_1 23 rfl rfl)
abbrev cX0_sureWith : ByteArray := prog_1_method_37_code
def yX0_sureWith : MethodName := ⟨RX0, "sureWith", "(I)LExamSlips$Share;"⟩
def dkwX0_sureWith_2 : List UInt8 := [182, 0, 227, 176]
abbrev dktX0_sureWith_2 : List UInt8 := dkwX0_sureWith_2 ++ []
def dkwX0_sureWith_1 : List UInt8 := [21, 4, 27, 162, 0, 7, 5, 167, 0, 4, 3, 3, 182, 0, 46, 132, 4, 1, 167, 255, 231, 44, 3]
abbrev dktX0_sureWith_1 : List UInt8 := dkwX0_sureWith_1 ++ dktX0_sureWith_2
def dkwX0_sureWith_0 : List UInt8 := [187, 0, 7, 89, 42, 183, 0, 9, 77, 42, 182, 0, 255, 62, 3, 54, 4, 21, 4, 29, 162, 0, 25, 44]
abbrev dktX0_sureWith_0 : List UInt8 := dkwX0_sureWith_0 ++ dktX0_sureWith_1
theorem dksX0_sureWith_0 : cX0_sureWith.data.toList.drop 0 = dktX0_sureWith_0 := by decide +kernel
theorem dksX0_sureWith_1 : cX0_sureWith.data.toList.drop 24 = dktX0_sureWith_1 := dk_seg dksX0_sureWith_0 24 rfl rfl
theorem dksX0_sureWith_2 : cX0_sureWith.data.toList.drop 47 = dktX0_sureWith_2 := dk_seg dksX0_sureWith_1 23 rfl rfl
theorem dX0_sureWith_0 : decode cX0_sureWith 0 = .ok (.new 7, 3) := dk_187 0 7 (dk_at dksX0_sureWith_0 0 rfl rfl)
theorem dX0_sureWith_3 : decode cX0_sureWith 3 = .ok (.dup, 1) := dk_89 (dk_at dksX0_sureWith_0 3 rfl rfl)
theorem dX0_sureWith_4 : decode cX0_sureWith 4 = .ok (.aload_n 0, 1) := dk_42 (dk_at dksX0_sureWith_0 4 rfl rfl)
theorem dX0_sureWith_5 : decode cX0_sureWith 5 = .ok (.invokespecial 9, 3) := dk_183 0 9 (dk_at dksX0_sureWith_0 5 rfl rfl)
theorem dX0_sureWith_8 : decode cX0_sureWith 8 = .ok (.astore_n 2, 1) := dk_77 (dk_at dksX0_sureWith_0 8 rfl rfl)
theorem dX0_sureWith_9 : decode cX0_sureWith 9 = .ok (.aload_n 0, 1) := dk_42 (dk_at dksX0_sureWith_0 9 rfl rfl)
theorem dX0_sureWith_10 : decode cX0_sureWith 10 = .ok (.invokevirtual 255, 3) := dk_182 0 255 (dk_at dksX0_sureWith_0 10 rfl rfl)
theorem dX0_sureWith_13 : decode cX0_sureWith 13 = .ok (.istore_n 3, 1) := dk_62 (dk_at dksX0_sureWith_0 13 rfl rfl)
theorem dX0_sureWith_14 : decode cX0_sureWith 14 = .ok (.iconst 0, 1) := dk_3 (dk_at dksX0_sureWith_0 14 rfl rfl)
theorem dX0_sureWith_15 : decode cX0_sureWith 15 = .ok (.istore 4, 2) := dk_54 4 (dk_at dksX0_sureWith_0 15 rfl rfl)
theorem dX0_sureWith_17 : decode cX0_sureWith 17 = .ok (.iload 4, 2) := dk_21 4 (dk_at dksX0_sureWith_0 17 rfl rfl)
theorem dX0_sureWith_19 : decode cX0_sureWith 19 = .ok (.iload_n 3, 1) := dk_29 (dk_at dksX0_sureWith_0 19 rfl rfl)
theorem dX0_sureWith_20 : decode cX0_sureWith 20 = .ok (.if_icmp .ge 25, 3) := dk_162 0 25 (dk_at dksX0_sureWith_0 20 rfl rfl)
theorem dX0_sureWith_23 : decode cX0_sureWith 23 = .ok (.aload_n 2, 1) := dk_44 (dk_at dksX0_sureWith_0 23 rfl rfl)
theorem dX0_sureWith_24 : decode cX0_sureWith 24 = .ok (.iload 4, 2) := dk_21 4 (dk_at dksX0_sureWith_1 0 rfl rfl)
theorem dX0_sureWith_26 : decode cX0_sureWith 26 = .ok (.iload_n 1, 1) := dk_27 (dk_at dksX0_sureWith_1 2 rfl rfl)
theorem dX0_sureWith_27 : decode cX0_sureWith 27 = .ok (.if_icmp .ge 7, 3) := dk_162 0 7 (dk_at dksX0_sureWith_1 3 rfl rfl)
theorem dX0_sureWith_30 : decode cX0_sureWith 30 = .ok (.iconst 2, 1) := dk_5 (dk_at dksX0_sureWith_1 6 rfl rfl)
theorem dX0_sureWith_31 : decode cX0_sureWith 31 = .ok (.goto 4, 3) := dk_167 0 4 (dk_at dksX0_sureWith_1 7 rfl rfl)
theorem dX0_sureWith_34 : decode cX0_sureWith 34 = .ok (.iconst 0, 1) := dk_3 (dk_at dksX0_sureWith_1 10 rfl rfl)
theorem dX0_sureWith_35 : decode cX0_sureWith 35 = .ok (.iconst 0, 1) := dk_3 (dk_at dksX0_sureWith_1 11 rfl rfl)
theorem dX0_sureWith_36 : decode cX0_sureWith 36 = .ok (.invokevirtual 46, 3) := dk_182 0 46 (dk_at dksX0_sureWith_1 12 rfl rfl)
theorem dX0_sureWith_39 : decode cX0_sureWith 39 = .ok (.iinc 4 1, 3) := dk_132 4 1 (dk_at dksX0_sureWith_1 15 rfl rfl)
theorem dX0_sureWith_42 : decode cX0_sureWith 42 = .ok (.goto (-25), 3) := dk_167 255 231 (dk_at dksX0_sureWith_1 18 rfl rfl)
theorem dX0_sureWith_45 : decode cX0_sureWith 45 = .ok (.aload_n 2, 1) := dk_44 (dk_at dksX0_sureWith_1 21 rfl rfl)
theorem dX0_sureWith_46 : decode cX0_sureWith 46 = .ok (.iconst 0, 1) := dk_3 (dk_at dksX0_sureWith_1 22 rfl rfl)
theorem dX0_sureWith_47 : decode cX0_sureWith 47 = .ok (.invokevirtual 227, 3) := dk_182 0 227 (dk_at dksX0_sureWith_2 0 rfl rfl)
theorem dX0_sureWith_50 : decode cX0_sureWith 50 = .ok (.areturn, 1) := dk_176 (dk_at dksX0_sureWith_2 3 rfl rfl)
abbrev cX0_safe : ByteArray := prog_1_method_39_code
def yX0_safe : MethodName := ⟨RX0, "safe", "()I"⟩
def dkwX0_safe_1 : List UInt8 := [180, 1, 9, 148, 154, 0, 5, 28, 172, 132, 2, 1, 167, 255, 228, 2, 172]
abbrev dktX0_safe_1 : List UInt8 := dkwX0_safe_1 ++ []
def dkwX0_safe_0 : List UInt8 := [42, 182, 0, 255, 60, 3, 61, 28, 27, 163, 0, 29, 42, 28, 182, 1, 2, 78, 45, 180, 1, 5, 45]
abbrev dktX0_safe_0 : List UInt8 := dkwX0_safe_0 ++ dktX0_safe_1
theorem dksX0_safe_0 : cX0_safe.data.toList.drop 0 = dktX0_safe_0 := by decide +kernel
theorem dksX0_safe_1 : cX0_safe.data.toList.drop 23 = dktX0_safe_1 := dk_seg dksX0_safe_0 23 rfl rfl
theorem dX0_safe_0 : decode cX0_safe 0 = .ok (.aload_n 0, 1) := dk_42 (dk_at dksX0_safe_0 0 rfl rfl)
theorem dX0_safe_1 : decode cX0_safe 1 = .ok (.invokevirtual 255, 3) := dk_182 0 255 (dk_at dksX0_safe_0 1 rfl rfl)
theorem dX0_safe_4 : decode cX0_safe 4 = .ok (.istore_n 1, 1) := dk_60 (dk_at dksX0_safe_0 4 rfl rfl)
theorem dX0_safe_5 : decode cX0_safe 5 = .ok (.iconst 0, 1) := dk_3 (dk_at dksX0_safe_0 5 rfl rfl)
theorem dX0_safe_6 : decode cX0_safe 6 = .ok (.istore_n 2, 1) := dk_61 (dk_at dksX0_safe_0 6 rfl rfl)
theorem dX0_safe_7 : decode cX0_safe 7 = .ok (.iload_n 2, 1) := dk_28 (dk_at dksX0_safe_0 7 rfl rfl)
theorem dX0_safe_8 : decode cX0_safe 8 = .ok (.iload_n 1, 1) := dk_27 (dk_at dksX0_safe_0 8 rfl rfl)
theorem dX0_safe_9 : decode cX0_safe 9 = .ok (.if_icmp .gt 29, 3) := dk_163 0 29 (dk_at dksX0_safe_0 9 rfl rfl)
theorem dX0_safe_12 : decode cX0_safe 12 = .ok (.aload_n 0, 1) := dk_42 (dk_at dksX0_safe_0 12 rfl rfl)
theorem dX0_safe_13 : decode cX0_safe 13 = .ok (.iload_n 2, 1) := dk_28 (dk_at dksX0_safe_0 13 rfl rfl)
theorem dX0_safe_14 : decode cX0_safe 14 = .ok (.invokevirtual 258, 3) := dk_182 1 2 (dk_at dksX0_safe_0 14 rfl rfl)
theorem dX0_safe_17 : decode cX0_safe 17 = .ok (.astore_n 3, 1) := dk_78 (dk_at dksX0_safe_0 17 rfl rfl)
theorem dX0_safe_18 : decode cX0_safe 18 = .ok (.aload_n 3, 1) := dk_45 (dk_at dksX0_safe_0 18 rfl rfl)
theorem dX0_safe_19 : decode cX0_safe 19 = .ok (.getfield 261, 3) := dk_180 1 5 (dk_at dksX0_safe_0 19 rfl rfl)
theorem dX0_safe_22 : decode cX0_safe 22 = .ok (.aload_n 3, 1) := dk_45 (dk_at dksX0_safe_0 22 rfl rfl)
theorem dX0_safe_23 : decode cX0_safe 23 = .ok (.getfield 265, 3) := dk_180 1 9 (dk_at dksX0_safe_1 0 rfl rfl)
theorem dX0_safe_26 : decode cX0_safe 26 = .ok (.lcmp, 1) := dk_148 (dk_at dksX0_safe_1 3 rfl rfl)
theorem dX0_safe_27 : decode cX0_safe 27 = .ok (.ifCond .ne 5, 3) := dk_154 0 5 (dk_at dksX0_safe_1 4 rfl rfl)
theorem dX0_safe_30 : decode cX0_safe 30 = .ok (.iload_n 2, 1) := dk_28 (dk_at dksX0_safe_1 7 rfl rfl)
theorem dX0_safe_31 : decode cX0_safe 31 = .ok (.ireturn, 1) := dk_172 (dk_at dksX0_safe_1 8 rfl rfl)
theorem dX0_safe_32 : decode cX0_safe 32 = .ok (.iinc 2 1, 3) := dk_132 2 1 (dk_at dksX0_safe_1 9 rfl rfl)
theorem dX0_safe_35 : decode cX0_safe 35 = .ok (.goto (-28), 3) := dk_167 255 228 (dk_at dksX0_safe_1 12 rfl rfl)
theorem dX0_safe_38 : decode cX0_safe 38 = .ok (.iconst (-1), 1) := dk_2 (dk_at dksX0_safe_1 15 rfl rfl)
theorem dX0_safe_39 : decode cX0_safe 39 = .ok (.ireturn, 1) := dk_172 (dk_at dksX0_safe_1 16 rfl rfl)
abbrev cX0_worth : ByteArray := prog_1_method_40_code
def yX0_worth : MethodName := ⟨RX0, "worth", "(I)I"⟩
def dkwX0_worth_2 : List UInt8 := [42, 27, 3, 182, 0, 223, 42, 180, 0, 17, 180, 0, 174, 6, 46, 182, 0, 227, 182, 1, 13, 100, 172]
abbrev dktX0_worth_2 : List UInt8 := dkwX0_worth_2 ++ []
def dkwX0_worth_1 : List UInt8 := [167, 0, 46, 42, 27, 5, 182, 0, 223, 42, 180, 0, 17, 180, 0, 174, 6, 46, 182, 0, 227, 182, 1, 13]
abbrev dktX0_worth_1 : List UInt8 := dkwX0_worth_1 ++ dktX0_worth_2
def dkwX0_worth_0 : List UInt8 := [42, 27, 182, 0, 147, 77, 44, 199, 0, 7, 19, 1, 12, 172, 44, 180, 0, 35, 153, 0, 7, 3]
abbrev dktX0_worth_0 : List UInt8 := dkwX0_worth_0 ++ dktX0_worth_1
theorem dksX0_worth_0 : cX0_worth.data.toList.drop 0 = dktX0_worth_0 := by decide +kernel
theorem dksX0_worth_1 : cX0_worth.data.toList.drop 22 = dktX0_worth_1 := dk_seg dksX0_worth_0 22 rfl rfl
theorem dksX0_worth_2 : cX0_worth.data.toList.drop 46 = dktX0_worth_2 := dk_seg dksX0_worth_1 24 rfl rfl
theorem dX0_worth_0 : decode cX0_worth 0 = .ok (.aload_n 0, 1) := dk_42 (dk_at dksX0_worth_0 0 rfl rfl)
theorem dX0_worth_1 : decode cX0_worth 1 = .ok (.iload_n 1, 1) := dk_27 (dk_at dksX0_worth_0 1 rfl rfl)
theorem dX0_worth_2 : decode cX0_worth 2 = .ok (.invokevirtual 147, 3) := dk_182 0 147 (dk_at dksX0_worth_0 2 rfl rfl)
theorem dX0_worth_5 : decode cX0_worth 5 = .ok (.astore_n 2, 1) := dk_77 (dk_at dksX0_worth_0 5 rfl rfl)
theorem dX0_worth_6 : decode cX0_worth 6 = .ok (.aload_n 2, 1) := dk_44 (dk_at dksX0_worth_0 6 rfl rfl)
theorem dX0_worth_7 : decode cX0_worth 7 = .ok (.ifnonnull 7, 3) := dk_199 0 7 (dk_at dksX0_worth_0 7 rfl rfl)
theorem dX0_worth_10 : decode cX0_worth 10 = .ok (.ldc_w 268, 3) := dk_19 1 12 (dk_at dksX0_worth_0 10 rfl rfl)
theorem dX0_worth_13 : decode cX0_worth 13 = .ok (.ireturn, 1) := dk_172 (dk_at dksX0_worth_0 13 rfl rfl)
theorem dX0_worth_14 : decode cX0_worth 14 = .ok (.aload_n 2, 1) := dk_44 (dk_at dksX0_worth_0 14 rfl rfl)
theorem dX0_worth_15 : decode cX0_worth 15 = .ok (.getfield 35, 3) := dk_180 0 35 (dk_at dksX0_worth_0 15 rfl rfl)
theorem dX0_worth_18 : decode cX0_worth 18 = .ok (.ifCond .eq 7, 3) := dk_153 0 7 (dk_at dksX0_worth_0 18 rfl rfl)
theorem dX0_worth_21 : decode cX0_worth 21 = .ok (.iconst 0, 1) := dk_3 (dk_at dksX0_worth_0 21 rfl rfl)
theorem dX0_worth_22 : decode cX0_worth 22 = .ok (.goto 46, 3) := dk_167 0 46 (dk_at dksX0_worth_1 0 rfl rfl)
theorem dX0_worth_25 : decode cX0_worth 25 = .ok (.aload_n 0, 1) := dk_42 (dk_at dksX0_worth_1 3 rfl rfl)
theorem dX0_worth_26 : decode cX0_worth 26 = .ok (.iload_n 1, 1) := dk_27 (dk_at dksX0_worth_1 4 rfl rfl)
theorem dX0_worth_27 : decode cX0_worth 27 = .ok (.iconst 2, 1) := dk_5 (dk_at dksX0_worth_1 5 rfl rfl)
theorem dX0_worth_28 : decode cX0_worth 28 = .ok (.invokevirtual 223, 3) := dk_182 0 223 (dk_at dksX0_worth_1 6 rfl rfl)
theorem dX0_worth_31 : decode cX0_worth 31 = .ok (.aload_n 0, 1) := dk_42 (dk_at dksX0_worth_1 9 rfl rfl)
theorem dX0_worth_32 : decode cX0_worth 32 = .ok (.getfield 17, 3) := dk_180 0 17 (dk_at dksX0_worth_1 10 rfl rfl)
theorem dX0_worth_35 : decode cX0_worth 35 = .ok (.getfield 174, 3) := dk_180 0 174 (dk_at dksX0_worth_1 13 rfl rfl)
theorem dX0_worth_38 : decode cX0_worth 38 = .ok (.iconst 3, 1) := dk_6 (dk_at dksX0_worth_1 16 rfl rfl)
theorem dX0_worth_39 : decode cX0_worth 39 = .ok (.iaload, 1) := dk_46 (dk_at dksX0_worth_1 17 rfl rfl)
theorem dX0_worth_40 : decode cX0_worth 40 = .ok (.invokevirtual 227, 3) := dk_182 0 227 (dk_at dksX0_worth_1 18 rfl rfl)
theorem dX0_worth_43 : decode cX0_worth 43 = .ok (.invokevirtual 269, 3) := dk_182 1 13 (dk_at dksX0_worth_1 21 rfl rfl)
theorem dX0_worth_46 : decode cX0_worth 46 = .ok (.aload_n 0, 1) := dk_42 (dk_at dksX0_worth_2 0 rfl rfl)
theorem dX0_worth_47 : decode cX0_worth 47 = .ok (.iload_n 1, 1) := dk_27 (dk_at dksX0_worth_2 1 rfl rfl)
theorem dX0_worth_48 : decode cX0_worth 48 = .ok (.iconst 0, 1) := dk_3 (dk_at dksX0_worth_2 2 rfl rfl)
theorem dX0_worth_49 : decode cX0_worth 49 = .ok (.invokevirtual 223, 3) := dk_182 0 223 (dk_at dksX0_worth_2 3 rfl rfl)
theorem dX0_worth_52 : decode cX0_worth 52 = .ok (.aload_n 0, 1) := dk_42 (dk_at dksX0_worth_2 6 rfl rfl)
theorem dX0_worth_53 : decode cX0_worth 53 = .ok (.getfield 17, 3) := dk_180 0 17 (dk_at dksX0_worth_2 7 rfl rfl)
theorem dX0_worth_56 : decode cX0_worth 56 = .ok (.getfield 174, 3) := dk_180 0 174 (dk_at dksX0_worth_2 10 rfl rfl)
theorem dX0_worth_59 : decode cX0_worth 59 = .ok (.iconst 3, 1) := dk_6 (dk_at dksX0_worth_2 13 rfl rfl)
theorem dX0_worth_60 : decode cX0_worth 60 = .ok (.iaload, 1) := dk_46 (dk_at dksX0_worth_2 14 rfl rfl)
theorem dX0_worth_61 : decode cX0_worth 61 = .ok (.invokevirtual 227, 3) := dk_182 0 227 (dk_at dksX0_worth_2 15 rfl rfl)
theorem dX0_worth_64 : decode cX0_worth 64 = .ok (.invokevirtual 269, 3) := dk_182 1 13 (dk_at dksX0_worth_2 18 rfl rfl)
theorem dX0_worth_67 : decode cX0_worth 67 = .ok (.isub, 1) := dk_100 (dk_at dksX0_worth_2 21 rfl rfl)
theorem dX0_worth_68 : decode cX0_worth 68 = .ok (.ireturn, 1) := dk_172 (dk_at dksX0_worth_2 22 rfl rfl)
abbrev cX0_best : ByteArray := prog_1_method_42_code
def yX0_best : MethodName := ⟨RX0, "best", "(II)J"⟩
def dkwX0_best_2 : List UInt8 := [182, 1, 28, 45, 180, 1, 30, 183, 0, 252, 28, 182, 0, 231, 173]
abbrev dktX0_best_2 : List UInt8 := dkwX0_best_2 ++ []
def dkwX0_best_1 : List UInt8 := [182, 1, 21, 78, 28, 5, 160, 0, 12, 45, 27, 182, 1, 25, 133, 167, 0, 23, 187, 0, 232, 89, 45, 27]
abbrev dktX0_best_1 : List UInt8 := dkwX0_best_1 ++ dktX0_best_2
def dkwX0_best_0 : List UInt8 := [27, 184, 1, 18, 153, 0, 15, 28, 133, 9, 20, 0, 145, 184, 0, 109, 154, 0, 7, 20, 0, 237, 173, 42]
abbrev dktX0_best_0 : List UInt8 := dkwX0_best_0 ++ dktX0_best_1
theorem dksX0_best_0 : cX0_best.data.toList.drop 0 = dktX0_best_0 := by decide +kernel
theorem dksX0_best_1 : cX0_best.data.toList.drop 24 = dktX0_best_1 := dk_seg dksX0_best_0 24 rfl rfl
theorem dksX0_best_2 : cX0_best.data.toList.drop 48 = dktX0_best_2 := dk_seg dksX0_best_1 24 rfl rfl
theorem dX0_best_0 : decode cX0_best 0 = .ok (.iload_n 1, 1) := dk_27 (dk_at dksX0_best_0 0 rfl rfl)
theorem dX0_best_1 : decode cX0_best 1 = .ok (.invokestatic 274, 3) := dk_184 1 18 (dk_at dksX0_best_0 1 rfl rfl)
theorem dX0_best_4 : decode cX0_best 4 = .ok (.ifCond .eq 15, 3) := dk_153 0 15 (dk_at dksX0_best_0 4 rfl rfl)
theorem dX0_best_7 : decode cX0_best 7 = .ok (.iload_n 2, 1) := dk_28 (dk_at dksX0_best_0 7 rfl rfl)
theorem dX0_best_8 : decode cX0_best 8 = .ok (.i2l, 1) := dk_133 (dk_at dksX0_best_0 8 rfl rfl)
theorem dX0_best_9 : decode cX0_best 9 = .ok (.lconst 0, 1) := dk_9 (dk_at dksX0_best_0 9 rfl rfl)
theorem dX0_best_10 : decode cX0_best 10 = .ok (.ldc2_w 145, 3) := dk_20 0 145 (dk_at dksX0_best_0 10 rfl rfl)
theorem dX0_best_13 : decode cX0_best 13 = .ok (.invokestatic 109, 3) := dk_184 0 109 (dk_at dksX0_best_0 13 rfl rfl)
theorem dX0_best_16 : decode cX0_best 16 = .ok (.ifCond .ne 7, 3) := dk_154 0 7 (dk_at dksX0_best_0 16 rfl rfl)
theorem dX0_best_19 : decode cX0_best 19 = .ok (.ldc2_w 237, 3) := dk_20 0 237 (dk_at dksX0_best_0 19 rfl rfl)
theorem dX0_best_22 : decode cX0_best 22 = .ok (.lreturn, 1) := dk_173 (dk_at dksX0_best_0 22 rfl rfl)
theorem dX0_best_23 : decode cX0_best 23 = .ok (.aload_n 0, 1) := dk_42 (dk_at dksX0_best_0 23 rfl rfl)
theorem dX0_best_24 : decode cX0_best 24 = .ok (.invokevirtual 277, 3) := dk_182 1 21 (dk_at dksX0_best_1 0 rfl rfl)
theorem dX0_best_27 : decode cX0_best 27 = .ok (.astore_n 3, 1) := dk_78 (dk_at dksX0_best_1 3 rfl rfl)
theorem dX0_best_28 : decode cX0_best 28 = .ok (.iload_n 2, 1) := dk_28 (dk_at dksX0_best_1 4 rfl rfl)
theorem dX0_best_29 : decode cX0_best 29 = .ok (.iconst 2, 1) := dk_5 (dk_at dksX0_best_1 5 rfl rfl)
theorem dX0_best_30 : decode cX0_best 30 = .ok (.if_icmp .ne 12, 3) := dk_160 0 12 (dk_at dksX0_best_1 6 rfl rfl)
theorem dX0_best_33 : decode cX0_best 33 = .ok (.aload_n 3, 1) := dk_45 (dk_at dksX0_best_1 9 rfl rfl)
theorem dX0_best_34 : decode cX0_best 34 = .ok (.iload_n 1, 1) := dk_27 (dk_at dksX0_best_1 10 rfl rfl)
theorem dX0_best_35 : decode cX0_best 35 = .ok (.invokevirtual 281, 3) := dk_182 1 25 (dk_at dksX0_best_1 11 rfl rfl)
theorem dX0_best_38 : decode cX0_best 38 = .ok (.i2l, 1) := dk_133 (dk_at dksX0_best_1 14 rfl rfl)
theorem dX0_best_39 : decode cX0_best 39 = .ok (.goto 23, 3) := dk_167 0 23 (dk_at dksX0_best_1 15 rfl rfl)
theorem dX0_best_42 : decode cX0_best 42 = .ok (.new 232, 3) := dk_187 0 232 (dk_at dksX0_best_1 18 rfl rfl)
theorem dX0_best_45 : decode cX0_best 45 = .ok (.dup, 1) := dk_89 (dk_at dksX0_best_1 21 rfl rfl)
theorem dX0_best_46 : decode cX0_best 46 = .ok (.aload_n 3, 1) := dk_45 (dk_at dksX0_best_1 22 rfl rfl)
theorem dX0_best_47 : decode cX0_best 47 = .ok (.iload_n 1, 1) := dk_27 (dk_at dksX0_best_1 23 rfl rfl)
theorem dX0_best_48 : decode cX0_best 48 = .ok (.invokevirtual 284, 3) := dk_182 1 28 (dk_at dksX0_best_2 0 rfl rfl)
theorem dX0_best_51 : decode cX0_best 51 = .ok (.aload_n 3, 1) := dk_45 (dk_at dksX0_best_2 3 rfl rfl)
theorem dX0_best_52 : decode cX0_best 52 = .ok (.getfield 286, 3) := dk_180 1 30 (dk_at dksX0_best_2 4 rfl rfl)
theorem dX0_best_55 : decode cX0_best 55 = .ok (.invokespecial 252, 3) := dk_183 0 252 (dk_at dksX0_best_2 7 rfl rfl)
theorem dX0_best_58 : decode cX0_best 58 = .ok (.iload_n 2, 1) := dk_28 (dk_at dksX0_best_2 10 rfl rfl)
theorem dX0_best_59 : decode cX0_best 59 = .ok (.invokevirtual 231, 3) := dk_182 0 231 (dk_at dksX0_best_2 11 rfl rfl)
theorem dX0_best_62 : decode cX0_best 62 = .ok (.lreturn, 1) := dk_173 (dk_at dksX0_best_2 14 rfl rfl)
abbrev cX0_isHours : ByteArray := prog_1_method_41_code
def yX0_isHours : MethodName := ⟨RX0, "isHours", "(I)Z"⟩
def dkwX0_isHours_0 : List UInt8 := [26, 133, 9, 20, 1, 16, 184, 0, 109, 172]
abbrev dktX0_isHours_0 : List UInt8 := dkwX0_isHours_0 ++ []
theorem dksX0_isHours_0 : cX0_isHours.data.toList.drop 0 = dktX0_isHours_0 := by decide +kernel
theorem dX0_isHours_0 : decode cX0_isHours 0 = .ok (.iload_n 0, 1) := dk_26 (dk_at dksX0_isHours_0 0 rfl rfl)
theorem dX0_isHours_1 : decode cX0_isHours 1 = .ok (.i2l, 1) := dk_133 (dk_at dksX0_isHours_0 1 rfl rfl)
theorem dX0_isHours_2 : decode cX0_isHours 2 = .ok (.lconst 0, 1) := dk_9 (dk_at dksX0_isHours_0 2 rfl rfl)
theorem dX0_isHours_3 : decode cX0_isHours 3 = .ok (.ldc2_w 272, 3) := dk_20 1 16 (dk_at dksX0_isHours_0 3 rfl rfl)
theorem dX0_isHours_6 : decode cX0_isHours 6 = .ok (.invokestatic 109, 3) := dk_184 0 109 (dk_at dksX0_isHours_0 6 rfl rfl)
theorem dX0_isHours_9 : decode cX0_isHours 9 = .ok (.ireturn, 1) := dk_172 (dk_at dksX0_isHours_0 9 rfl rfl)
abbrev cX0_schemes : ByteArray := prog_1_method_13_code
def yX0_schemes : MethodName := ⟨RX0, "schemes", "()LExamSlips$Schemes;"⟩
def dkwX0_schemes_0 : List UInt8 := [42, 180, 0, 102, 199, 0, 15, 42, 187, 0, 119, 89, 42, 183, 0, 121, 181, 0, 102, 42, 180, 0, 102, 176]
abbrev dktX0_schemes_0 : List UInt8 := dkwX0_schemes_0 ++ []
theorem dksX0_schemes_0 : cX0_schemes.data.toList.drop 0 = dktX0_schemes_0 := by decide +kernel
theorem dX0_schemes_0 : decode cX0_schemes 0 = .ok (.aload_n 0, 1) := dk_42 (dk_at dksX0_schemes_0 0 rfl rfl)
theorem dX0_schemes_1 : decode cX0_schemes 1 = .ok (.getfield 102, 3) := dk_180 0 102 (dk_at dksX0_schemes_0 1 rfl rfl)
theorem dX0_schemes_4 : decode cX0_schemes 4 = .ok (.ifnonnull 15, 3) := dk_199 0 15 (dk_at dksX0_schemes_0 4 rfl rfl)
theorem dX0_schemes_7 : decode cX0_schemes 7 = .ok (.aload_n 0, 1) := dk_42 (dk_at dksX0_schemes_0 7 rfl rfl)
theorem dX0_schemes_8 : decode cX0_schemes 8 = .ok (.new 119, 3) := dk_187 0 119 (dk_at dksX0_schemes_0 8 rfl rfl)
theorem dX0_schemes_11 : decode cX0_schemes 11 = .ok (.dup, 1) := dk_89 (dk_at dksX0_schemes_0 11 rfl rfl)
theorem dX0_schemes_12 : decode cX0_schemes 12 = .ok (.aload_n 0, 1) := dk_42 (dk_at dksX0_schemes_0 12 rfl rfl)
theorem dX0_schemes_13 : decode cX0_schemes 13 = .ok (.invokespecial 121, 3) := dk_183 0 121 (dk_at dksX0_schemes_0 13 rfl rfl)
theorem dX0_schemes_16 : decode cX0_schemes 16 = .ok (.putfield 102, 3) := dk_181 0 102 (dk_at dksX0_schemes_0 16 rfl rfl)
theorem dX0_schemes_19 : decode cX0_schemes 19 = .ok (.aload_n 0, 1) := dk_42 (dk_at dksX0_schemes_0 19 rfl rfl)
theorem dX0_schemes_20 : decode cX0_schemes 20 = .ok (.getfield 102, 3) := dk_180 0 102 (dk_at dksX0_schemes_0 20 rfl rfl)
theorem dX0_schemes_23 : decode cX0_schemes 23 = .ok (.areturn, 1) := dk_176 (dk_at dksX0_schemes_0 23 rfl rfl)
abbrev cX0_level : ByteArray := prog_1_method_43_code
def yX0_level : MethodName := ⟨RX0, "level", "(II)I"⟩
def dkwX0_level_1 : List UInt8 := [27, 182, 1, 33, 28, 182, 1, 37, 172]
abbrev dktX0_level_1 : List UInt8 := dkwX0_level_1 ++ []
def dkwX0_level_0 : List UInt8 := [27, 184, 1, 18, 153, 0, 11, 42, 28, 182, 0, 147, 199, 0, 5, 2, 172, 42, 182, 1, 21, 78, 45, 45]
abbrev dktX0_level_0 : List UInt8 := dkwX0_level_0 ++ dktX0_level_1
theorem dksX0_level_0 : cX0_level.data.toList.drop 0 = dktX0_level_0 := by decide +kernel
theorem dksX0_level_1 : cX0_level.data.toList.drop 24 = dktX0_level_1 := dk_seg dksX0_level_0 24 rfl rfl
theorem dX0_level_0 : decode cX0_level 0 = .ok (.iload_n 1, 1) := dk_27 (dk_at dksX0_level_0 0 rfl rfl)
theorem dX0_level_1 : decode cX0_level 1 = .ok (.invokestatic 274, 3) := dk_184 1 18 (dk_at dksX0_level_0 1 rfl rfl)
theorem dX0_level_4 : decode cX0_level 4 = .ok (.ifCond .eq 11, 3) := dk_153 0 11 (dk_at dksX0_level_0 4 rfl rfl)
theorem dX0_level_7 : decode cX0_level 7 = .ok (.aload_n 0, 1) := dk_42 (dk_at dksX0_level_0 7 rfl rfl)
theorem dX0_level_8 : decode cX0_level 8 = .ok (.iload_n 2, 1) := dk_28 (dk_at dksX0_level_0 8 rfl rfl)
theorem dX0_level_9 : decode cX0_level 9 = .ok (.invokevirtual 147, 3) := dk_182 0 147 (dk_at dksX0_level_0 9 rfl rfl)
theorem dX0_level_12 : decode cX0_level 12 = .ok (.ifnonnull 5, 3) := dk_199 0 5 (dk_at dksX0_level_0 12 rfl rfl)
theorem dX0_level_15 : decode cX0_level 15 = .ok (.iconst (-1), 1) := dk_2 (dk_at dksX0_level_0 15 rfl rfl)
theorem dX0_level_16 : decode cX0_level 16 = .ok (.ireturn, 1) := dk_172 (dk_at dksX0_level_0 16 rfl rfl)
theorem dX0_level_17 : decode cX0_level 17 = .ok (.aload_n 0, 1) := dk_42 (dk_at dksX0_level_0 17 rfl rfl)
theorem dX0_level_18 : decode cX0_level 18 = .ok (.invokevirtual 277, 3) := dk_182 1 21 (dk_at dksX0_level_0 18 rfl rfl)
theorem dX0_level_21 : decode cX0_level 21 = .ok (.astore_n 3, 1) := dk_78 (dk_at dksX0_level_0 21 rfl rfl)
theorem dX0_level_22 : decode cX0_level 22 = .ok (.aload_n 3, 1) := dk_45 (dk_at dksX0_level_0 22 rfl rfl)
theorem dX0_level_23 : decode cX0_level 23 = .ok (.aload_n 3, 1) := dk_45 (dk_at dksX0_level_0 23 rfl rfl)
theorem dX0_level_24 : decode cX0_level 24 = .ok (.iload_n 1, 1) := dk_27 (dk_at dksX0_level_1 0 rfl rfl)
theorem dX0_level_25 : decode cX0_level 25 = .ok (.invokevirtual 289, 3) := dk_182 1 33 (dk_at dksX0_level_1 1 rfl rfl)
theorem dX0_level_28 : decode cX0_level 28 = .ok (.iload_n 2, 1) := dk_28 (dk_at dksX0_level_1 4 rfl rfl)
theorem dX0_level_29 : decode cX0_level 29 = .ok (.invokevirtual 293, 3) := dk_182 1 37 (dk_at dksX0_level_1 5 rfl rfl)
theorem dX0_level_32 : decode cX0_level 32 = .ok (.ireturn, 1) := dk_172 (dk_at dksX0_level_1 8 rfl rfl)
abbrev cX0_enough : ByteArray := prog_1_method_44_code
def yX0_enough : MethodName := ⟨RX0, "enough", "(I)I"⟩
def dkwX0_enough_2 : List UInt8 := [155, 0, 5, 29, 172, 132, 3, 1, 167, 255, 224, 2, 172]
abbrev dktX0_enough_2 : List UInt8 := dkwX0_enough_2 ++ []
def dkwX0_enough_1 : List UInt8 := [17, 1, 144, 163, 0, 31, 20, 0, 164, 44, 29, 182, 1, 28, 105, 27, 133, 44, 180, 1, 30, 105, 148]
abbrev dktX0_enough_1 : List UInt8 := dkwX0_enough_1 ++ dktX0_enough_2
def dkwX0_enough_0 : List UInt8 := [27, 133, 9, 20, 0, 164, 184, 0, 109, 154, 0, 5, 2, 172, 42, 182, 1, 21, 77, 3, 62, 29]
abbrev dktX0_enough_0 : List UInt8 := dkwX0_enough_0 ++ dktX0_enough_1
theorem dksX0_enough_0 : cX0_enough.data.toList.drop 0 = dktX0_enough_0 := by decide +kernel
theorem dksX0_enough_1 : cX0_enough.data.toList.drop 22 = dktX0_enough_1 := dk_seg dksX0_enough_0 22 rfl rfl
theorem dksX0_enough_2 : cX0_enough.data.toList.drop 45 = dktX0_enough_2 := dk_seg dksX0_enough_1 23 rfl rfl
theorem dX0_enough_0 : decode cX0_enough 0 = .ok (.iload_n 1, 1) := dk_27 (dk_at dksX0_enough_0 0 rfl rfl)
theorem dX0_enough_1 : decode cX0_enough 1 = .ok (.i2l, 1) := dk_133 (dk_at dksX0_enough_0 1 rfl rfl)
theorem dX0_enough_2 : decode cX0_enough 2 = .ok (.lconst 0, 1) := dk_9 (dk_at dksX0_enough_0 2 rfl rfl)
theorem dX0_enough_3 : decode cX0_enough 3 = .ok (.ldc2_w 164, 3) := dk_20 0 164 (dk_at dksX0_enough_0 3 rfl rfl)
theorem dX0_enough_6 : decode cX0_enough 6 = .ok (.invokestatic 109, 3) := dk_184 0 109 (dk_at dksX0_enough_0 6 rfl rfl)
theorem dX0_enough_9 : decode cX0_enough 9 = .ok (.ifCond .ne 5, 3) := dk_154 0 5 (dk_at dksX0_enough_0 9 rfl rfl)
theorem dX0_enough_12 : decode cX0_enough 12 = .ok (.iconst (-1), 1) := dk_2 (dk_at dksX0_enough_0 12 rfl rfl)
theorem dX0_enough_13 : decode cX0_enough 13 = .ok (.ireturn, 1) := dk_172 (dk_at dksX0_enough_0 13 rfl rfl)
theorem dX0_enough_14 : decode cX0_enough 14 = .ok (.aload_n 0, 1) := dk_42 (dk_at dksX0_enough_0 14 rfl rfl)
theorem dX0_enough_15 : decode cX0_enough 15 = .ok (.invokevirtual 277, 3) := dk_182 1 21 (dk_at dksX0_enough_0 15 rfl rfl)
theorem dX0_enough_18 : decode cX0_enough 18 = .ok (.astore_n 2, 1) := dk_77 (dk_at dksX0_enough_0 18 rfl rfl)
theorem dX0_enough_19 : decode cX0_enough 19 = .ok (.iconst 0, 1) := dk_3 (dk_at dksX0_enough_0 19 rfl rfl)
theorem dX0_enough_20 : decode cX0_enough 20 = .ok (.istore_n 3, 1) := dk_62 (dk_at dksX0_enough_0 20 rfl rfl)
theorem dX0_enough_21 : decode cX0_enough 21 = .ok (.iload_n 3, 1) := dk_29 (dk_at dksX0_enough_0 21 rfl rfl)
theorem dX0_enough_22 : decode cX0_enough 22 = .ok (.sipush 400, 3) := dk_17 1 144 (dk_at dksX0_enough_1 0 rfl rfl)
theorem dX0_enough_25 : decode cX0_enough 25 = .ok (.if_icmp .gt 31, 3) := dk_163 0 31 (dk_at dksX0_enough_1 3 rfl rfl)
theorem dX0_enough_28 : decode cX0_enough 28 = .ok (.ldc2_w 164, 3) := dk_20 0 164 (dk_at dksX0_enough_1 6 rfl rfl)
theorem dX0_enough_31 : decode cX0_enough 31 = .ok (.aload_n 2, 1) := dk_44 (dk_at dksX0_enough_1 9 rfl rfl)
theorem dX0_enough_32 : decode cX0_enough 32 = .ok (.iload_n 3, 1) := dk_29 (dk_at dksX0_enough_1 10 rfl rfl)
theorem dX0_enough_33 : decode cX0_enough 33 = .ok (.invokevirtual 284, 3) := dk_182 1 28 (dk_at dksX0_enough_1 11 rfl rfl)
theorem dX0_enough_36 : decode cX0_enough 36 = .ok (.lmul, 1) := dk_105 (dk_at dksX0_enough_1 14 rfl rfl)
theorem dX0_enough_37 : decode cX0_enough 37 = .ok (.iload_n 1, 1) := dk_27 (dk_at dksX0_enough_1 15 rfl rfl)
theorem dX0_enough_38 : decode cX0_enough 38 = .ok (.i2l, 1) := dk_133 (dk_at dksX0_enough_1 16 rfl rfl)
theorem dX0_enough_39 : decode cX0_enough 39 = .ok (.aload_n 2, 1) := dk_44 (dk_at dksX0_enough_1 17 rfl rfl)
theorem dX0_enough_40 : decode cX0_enough 40 = .ok (.getfield 286, 3) := dk_180 1 30 (dk_at dksX0_enough_1 18 rfl rfl)
theorem dX0_enough_43 : decode cX0_enough 43 = .ok (.lmul, 1) := dk_105 (dk_at dksX0_enough_1 21 rfl rfl)
theorem dX0_enough_44 : decode cX0_enough 44 = .ok (.lcmp, 1) := dk_148 (dk_at dksX0_enough_1 22 rfl rfl)
theorem dX0_enough_45 : decode cX0_enough 45 = .ok (.ifCond .lt 5, 3) := dk_155 0 5 (dk_at dksX0_enough_2 0 rfl rfl)
theorem dX0_enough_48 : decode cX0_enough 48 = .ok (.iload_n 3, 1) := dk_29 (dk_at dksX0_enough_2 3 rfl rfl)
theorem dX0_enough_49 : decode cX0_enough 49 = .ok (.ireturn, 1) := dk_172 (dk_at dksX0_enough_2 4 rfl rfl)
theorem dX0_enough_50 : decode cX0_enough 50 = .ok (.iinc 3 1, 3) := dk_132 3 1 (dk_at dksX0_enough_2 5 rfl rfl)
theorem dX0_enough_53 : decode cX0_enough 53 = .ok (.goto (-32), 3) := dk_167 255 224 (dk_at dksX0_enough_2 8 rfl rfl)
theorem dX0_enough_56 : decode cX0_enough 56 = .ok (.iconst (-1), 1) := dk_2 (dk_at dksX0_enough_2 11 rfl rfl)
theorem dX0_enough_57 : decode cX0_enough 57 = .ok (.ireturn, 1) := dk_172 (dk_at dksX0_enough_2 12 rfl rfl)
abbrev cX0_lesson : ByteArray := prog_1_method_45_code
def yX0_lesson : MethodName := ⟨RX0, "lesson", "(II)I"⟩
def dkwX0_lesson_3 : List UInt8 := [183, 1, 48, 182, 0, 139, 87, 42, 42, 180, 0, 17, 180, 1, 43, 182, 0, 106, 182, 0, 133, 172]
abbrev dktX0_lesson_3 : List UInt8 := dkwX0_lesson_3 ++ []
def dkwX0_lesson_2 : List UInt8 := [160, 0, 10, 42, 16, 251, 182, 0, 133, 172, 42, 180, 0, 17, 180, 1, 43, 187, 1, 46, 89, 27, 28]
abbrev dktX0_lesson_2 : List UInt8 := dkwX0_lesson_2 ++ dktX0_lesson_3
def dkwX0_lesson_1 : List UInt8 := [199, 0, 10, 42, 16, 254, 182, 0, 133, 172, 42, 180, 0, 17, 180, 1, 43, 182, 0, 106, 16, 120]
abbrev dktX0_lesson_1 : List UInt8 := dkwX0_lesson_1 ++ dktX0_lesson_2
def dkwX0_lesson_0 : List UInt8 := [27, 133, 9, 20, 1, 41, 184, 0, 109, 154, 0, 9, 42, 2, 182, 0, 133, 172, 42, 28, 182, 0, 147]
abbrev dktX0_lesson_0 : List UInt8 := dkwX0_lesson_0 ++ dktX0_lesson_1
theorem dksX0_lesson_0 : cX0_lesson.data.toList.drop 0 = dktX0_lesson_0 := by decide +kernel
theorem dksX0_lesson_1 : cX0_lesson.data.toList.drop 23 = dktX0_lesson_1 := dk_seg dksX0_lesson_0 23 rfl rfl
theorem dksX0_lesson_2 : cX0_lesson.data.toList.drop 45 = dktX0_lesson_2 := dk_seg dksX0_lesson_1 22 rfl rfl
theorem dksX0_lesson_3 : cX0_lesson.data.toList.drop 68 = dktX0_lesson_3 := dk_seg dksX0_lesson_2 23 rfl rfl
theorem dX0_lesson_0 : decode cX0_lesson 0 = .ok (.iload_n 1, 1) := dk_27 (dk_at dksX0_lesson_0 0 rfl rfl)
theorem dX0_lesson_1 : decode cX0_lesson 1 = .ok (.i2l, 1) := dk_133 (dk_at dksX0_lesson_0 1 rfl rfl)
theorem dX0_lesson_2 : decode cX0_lesson 2 = .ok (.lconst 0, 1) := dk_9 (dk_at dksX0_lesson_0 2 rfl rfl)
theorem dX0_lesson_3 : decode cX0_lesson 3 = .ok (.ldc2_w 297, 3) := dk_20 1 41 (dk_at dksX0_lesson_0 3 rfl rfl)
theorem dX0_lesson_6 : decode cX0_lesson 6 = .ok (.invokestatic 109, 3) := dk_184 0 109 (dk_at dksX0_lesson_0 6 rfl rfl)
theorem dX0_lesson_9 : decode cX0_lesson 9 = .ok (.ifCond .ne 9, 3) := dk_154 0 9 (dk_at dksX0_lesson_0 9 rfl rfl)
theorem dX0_lesson_12 : decode cX0_lesson 12 = .ok (.aload_n 0, 1) := dk_42 (dk_at dksX0_lesson_0 12 rfl rfl)
theorem dX0_lesson_13 : decode cX0_lesson 13 = .ok (.iconst (-1), 1) := dk_2 (dk_at dksX0_lesson_0 13 rfl rfl)
theorem dX0_lesson_14 : decode cX0_lesson 14 = .ok (.invokevirtual 133, 3) := dk_182 0 133 (dk_at dksX0_lesson_0 14 rfl rfl)
theorem dX0_lesson_17 : decode cX0_lesson 17 = .ok (.ireturn, 1) := dk_172 (dk_at dksX0_lesson_0 17 rfl rfl)
theorem dX0_lesson_18 : decode cX0_lesson 18 = .ok (.aload_n 0, 1) := dk_42 (dk_at dksX0_lesson_0 18 rfl rfl)
theorem dX0_lesson_19 : decode cX0_lesson 19 = .ok (.iload_n 2, 1) := dk_28 (dk_at dksX0_lesson_0 19 rfl rfl)
theorem dX0_lesson_20 : decode cX0_lesson 20 = .ok (.invokevirtual 147, 3) := dk_182 0 147 (dk_at dksX0_lesson_0 20 rfl rfl)
theorem dX0_lesson_23 : decode cX0_lesson 23 = .ok (.ifnonnull 10, 3) := dk_199 0 10 (dk_at dksX0_lesson_1 0 rfl rfl)
theorem dX0_lesson_26 : decode cX0_lesson 26 = .ok (.aload_n 0, 1) := dk_42 (dk_at dksX0_lesson_1 3 rfl rfl)
theorem dX0_lesson_27 : decode cX0_lesson 27 = .ok (.bipush (-2), 2) := dk_16 254 (dk_at dksX0_lesson_1 4 rfl rfl)
theorem dX0_lesson_29 : decode cX0_lesson 29 = .ok (.invokevirtual 133, 3) := dk_182 0 133 (dk_at dksX0_lesson_1 6 rfl rfl)
theorem dX0_lesson_32 : decode cX0_lesson 32 = .ok (.ireturn, 1) := dk_172 (dk_at dksX0_lesson_1 9 rfl rfl)
theorem dX0_lesson_33 : decode cX0_lesson 33 = .ok (.aload_n 0, 1) := dk_42 (dk_at dksX0_lesson_1 10 rfl rfl)
theorem dX0_lesson_34 : decode cX0_lesson 34 = .ok (.getfield 17, 3) := dk_180 0 17 (dk_at dksX0_lesson_1 11 rfl rfl)
theorem dX0_lesson_37 : decode cX0_lesson 37 = .ok (.getfield 299, 3) := dk_180 1 43 (dk_at dksX0_lesson_1 14 rfl rfl)
theorem dX0_lesson_40 : decode cX0_lesson 40 = .ok (.invokevirtual 106, 3) := dk_182 0 106 (dk_at dksX0_lesson_1 17 rfl rfl)
theorem dX0_lesson_43 : decode cX0_lesson 43 = .ok (.bipush 120, 2) := dk_16 120 (dk_at dksX0_lesson_1 20 rfl rfl)
theorem dX0_lesson_45 : decode cX0_lesson 45 = .ok (.if_icmp .ne 10, 3) := dk_160 0 10 (dk_at dksX0_lesson_2 0 rfl rfl)
theorem dX0_lesson_48 : decode cX0_lesson 48 = .ok (.aload_n 0, 1) := dk_42 (dk_at dksX0_lesson_2 3 rfl rfl)
theorem dX0_lesson_49 : decode cX0_lesson 49 = .ok (.bipush (-5), 2) := dk_16 251 (dk_at dksX0_lesson_2 4 rfl rfl)
theorem dX0_lesson_51 : decode cX0_lesson 51 = .ok (.invokevirtual 133, 3) := dk_182 0 133 (dk_at dksX0_lesson_2 6 rfl rfl)
theorem dX0_lesson_54 : decode cX0_lesson 54 = .ok (.ireturn, 1) := dk_172 (dk_at dksX0_lesson_2 9 rfl rfl)
theorem dX0_lesson_55 : decode cX0_lesson 55 = .ok (.aload_n 0, 1) := dk_42 (dk_at dksX0_lesson_2 10 rfl rfl)
theorem dX0_lesson_56 : decode cX0_lesson 56 = .ok (.getfield 17, 3) := dk_180 0 17 (dk_at dksX0_lesson_2 11 rfl rfl)
theorem dX0_lesson_59 : decode cX0_lesson 59 = .ok (.getfield 299, 3) := dk_180 1 43 (dk_at dksX0_lesson_2 14 rfl rfl)
theorem dX0_lesson_62 : decode cX0_lesson 62 = .ok (.new 302, 3) := dk_187 1 46 (dk_at dksX0_lesson_2 17 rfl rfl)
theorem dX0_lesson_65 : decode cX0_lesson 65 = .ok (.dup, 1) := dk_89 (dk_at dksX0_lesson_2 20 rfl rfl)
theorem dX0_lesson_66 : decode cX0_lesson 66 = .ok (.iload_n 1, 1) := dk_27 (dk_at dksX0_lesson_2 21 rfl rfl)
theorem dX0_lesson_67 : decode cX0_lesson 67 = .ok (.iload_n 2, 1) := dk_28 (dk_at dksX0_lesson_2 22 rfl rfl)
theorem dX0_lesson_68 : decode cX0_lesson 68 = .ok (.invokespecial 304, 3) := dk_183 1 48 (dk_at dksX0_lesson_3 0 rfl rfl)
theorem dX0_lesson_71 : decode cX0_lesson 71 = .ok (.invokevirtual 139, 3) := dk_182 0 139 (dk_at dksX0_lesson_3 3 rfl rfl)
theorem dX0_lesson_74 : decode cX0_lesson 74 = .ok (.pop, 1) := dk_87 (dk_at dksX0_lesson_3 6 rfl rfl)
theorem dX0_lesson_75 : decode cX0_lesson 75 = .ok (.aload_n 0, 1) := dk_42 (dk_at dksX0_lesson_3 7 rfl rfl)
theorem dX0_lesson_76 : decode cX0_lesson 76 = .ok (.aload_n 0, 1) := dk_42 (dk_at dksX0_lesson_3 8 rfl rfl)
theorem dX0_lesson_77 : decode cX0_lesson 77 = .ok (.getfield 17, 3) := dk_180 0 17 (dk_at dksX0_lesson_3 9 rfl rfl)
theorem dX0_lesson_80 : decode cX0_lesson 80 = .ok (.getfield 299, 3) := dk_180 1 43 (dk_at dksX0_lesson_3 12 rfl rfl)
theorem dX0_lesson_83 : decode cX0_lesson 83 = .ok (.invokevirtual 106, 3) := dk_182 0 106 (dk_at dksX0_lesson_3 15 rfl rfl)
theorem dX0_lesson_86 : decode cX0_lesson 86 = .ok (.invokevirtual 133, 3) := dk_182 0 133 (dk_at dksX0_lesson_3 18 rfl rfl)
theorem dX0_lesson_89 : decode cX0_lesson 89 = .ok (.ireturn, 1) := dk_172 (dk_at dksX0_lesson_3 21 rfl rfl)
abbrev cX0_clear : ByteArray := prog_1_method_46_code
def yX0_clear : MethodName := ⟨RX0, "clear", "()I"⟩
def dkwX0_clear_0 : List UInt8 := [42, 180, 0, 17, 180, 1, 43, 182, 0, 106, 60, 42, 180, 0, 17, 180, 1, 43, 182, 1, 51, 27, 172]
abbrev dktX0_clear_0 : List UInt8 := dkwX0_clear_0 ++ []
theorem dksX0_clear_0 : cX0_clear.data.toList.drop 0 = dktX0_clear_0 := by decide +kernel
theorem dX0_clear_0 : decode cX0_clear 0 = .ok (.aload_n 0, 1) := dk_42 (dk_at dksX0_clear_0 0 rfl rfl)
theorem dX0_clear_1 : decode cX0_clear 1 = .ok (.getfield 17, 3) := dk_180 0 17 (dk_at dksX0_clear_0 1 rfl rfl)
theorem dX0_clear_4 : decode cX0_clear 4 = .ok (.getfield 299, 3) := dk_180 1 43 (dk_at dksX0_clear_0 4 rfl rfl)
theorem dX0_clear_7 : decode cX0_clear 7 = .ok (.invokevirtual 106, 3) := dk_182 0 106 (dk_at dksX0_clear_0 7 rfl rfl)
theorem dX0_clear_10 : decode cX0_clear 10 = .ok (.istore_n 1, 1) := dk_60 (dk_at dksX0_clear_0 10 rfl rfl)
theorem dX0_clear_11 : decode cX0_clear 11 = .ok (.aload_n 0, 1) := dk_42 (dk_at dksX0_clear_0 11 rfl rfl)
theorem dX0_clear_12 : decode cX0_clear 12 = .ok (.getfield 17, 3) := dk_180 0 17 (dk_at dksX0_clear_0 12 rfl rfl)
theorem dX0_clear_15 : decode cX0_clear 15 = .ok (.getfield 299, 3) := dk_180 1 43 (dk_at dksX0_clear_0 15 rfl rfl)
theorem dX0_clear_18 : decode cX0_clear 18 = .ok (.invokevirtual 307, 3) := dk_182 1 51 (dk_at dksX0_clear_0 18 rfl rfl)
theorem dX0_clear_21 : decode cX0_clear 21 = .ok (.iload_n 1, 1) := dk_27 (dk_at dksX0_clear_0 21 rfl rfl)
theorem dX0_clear_22 : decode cX0_clear 22 = .ok (.ireturn, 1) := dk_172 (dk_at dksX0_clear_0 22 rfl rfl)
abbrev cX0_behind : ByteArray := prog_1_method_47_code
def yX0_behind : MethodName := ⟨RX0, "behind", "(II)I"⟩
def dkwX0_behind_2 : List UInt8 := [2, 160, 0, 10, 45, 180, 1, 58, 167, 0, 9, 45, 180, 1, 61, 28, 46, 172]
abbrev dktX0_behind_2 : List UInt8 := dkwX0_behind_2 ++ []
def dkwX0_behind_1 : List UInt8 := [159, 0, 13, 42, 28, 182, 0, 147, 199, 0, 5, 2, 172, 187, 1, 53, 89, 42, 27, 183, 1, 55, 78, 28]
abbrev dktX0_behind_1 : List UInt8 := dkwX0_behind_1 ++ dktX0_behind_2
def dkwX0_behind_0 : List UInt8 := [27, 133, 9, 42, 180, 0, 17, 180, 0, 174, 8, 46, 4, 100, 133, 184, 0, 109, 153, 0, 16, 28, 2]
abbrev dktX0_behind_0 : List UInt8 := dkwX0_behind_0 ++ dktX0_behind_1
theorem dksX0_behind_0 : cX0_behind.data.toList.drop 0 = dktX0_behind_0 := by decide +kernel
theorem dksX0_behind_1 : cX0_behind.data.toList.drop 23 = dktX0_behind_1 := dk_seg dksX0_behind_0 23 rfl rfl
theorem dksX0_behind_2 : cX0_behind.data.toList.drop 47 = dktX0_behind_2 := dk_seg dksX0_behind_1 24 rfl rfl
theorem dX0_behind_0 : decode cX0_behind 0 = .ok (.iload_n 1, 1) := dk_27 (dk_at dksX0_behind_0 0 rfl rfl)
theorem dX0_behind_1 : decode cX0_behind 1 = .ok (.i2l, 1) := dk_133 (dk_at dksX0_behind_0 1 rfl rfl)
theorem dX0_behind_2 : decode cX0_behind 2 = .ok (.lconst 0, 1) := dk_9 (dk_at dksX0_behind_0 2 rfl rfl)
theorem dX0_behind_3 : decode cX0_behind 3 = .ok (.aload_n 0, 1) := dk_42 (dk_at dksX0_behind_0 3 rfl rfl)
theorem dX0_behind_4 : decode cX0_behind 4 = .ok (.getfield 17, 3) := dk_180 0 17 (dk_at dksX0_behind_0 4 rfl rfl)
theorem dX0_behind_7 : decode cX0_behind 7 = .ok (.getfield 174, 3) := dk_180 0 174 (dk_at dksX0_behind_0 7 rfl rfl)
theorem dX0_behind_10 : decode cX0_behind 10 = .ok (.iconst 5, 1) := dk_8 (dk_at dksX0_behind_0 10 rfl rfl)
theorem dX0_behind_11 : decode cX0_behind 11 = .ok (.iaload, 1) := dk_46 (dk_at dksX0_behind_0 11 rfl rfl)
theorem dX0_behind_12 : decode cX0_behind 12 = .ok (.iconst 1, 1) := dk_4 (dk_at dksX0_behind_0 12 rfl rfl)
theorem dX0_behind_13 : decode cX0_behind 13 = .ok (.isub, 1) := dk_100 (dk_at dksX0_behind_0 13 rfl rfl)
theorem dX0_behind_14 : decode cX0_behind 14 = .ok (.i2l, 1) := dk_133 (dk_at dksX0_behind_0 14 rfl rfl)
theorem dX0_behind_15 : decode cX0_behind 15 = .ok (.invokestatic 109, 3) := dk_184 0 109 (dk_at dksX0_behind_0 15 rfl rfl)
theorem dX0_behind_18 : decode cX0_behind 18 = .ok (.ifCond .eq 16, 3) := dk_153 0 16 (dk_at dksX0_behind_0 18 rfl rfl)
theorem dX0_behind_21 : decode cX0_behind 21 = .ok (.iload_n 2, 1) := dk_28 (dk_at dksX0_behind_0 21 rfl rfl)
theorem dX0_behind_22 : decode cX0_behind 22 = .ok (.iconst (-1), 1) := dk_2 (dk_at dksX0_behind_0 22 rfl rfl)
theorem dX0_behind_23 : decode cX0_behind 23 = .ok (.if_icmp .eq 13, 3) := dk_159 0 13 (dk_at dksX0_behind_1 0 rfl rfl)
theorem dX0_behind_26 : decode cX0_behind 26 = .ok (.aload_n 0, 1) := dk_42 (dk_at dksX0_behind_1 3 rfl rfl)
theorem dX0_behind_27 : decode cX0_behind 27 = .ok (.iload_n 2, 1) := dk_28 (dk_at dksX0_behind_1 4 rfl rfl)
theorem dX0_behind_28 : decode cX0_behind 28 = .ok (.invokevirtual 147, 3) := dk_182 0 147 (dk_at dksX0_behind_1 5 rfl rfl)
theorem dX0_behind_31 : decode cX0_behind 31 = .ok (.ifnonnull 5, 3) := dk_199 0 5 (dk_at dksX0_behind_1 8 rfl rfl)
theorem dX0_behind_34 : decode cX0_behind 34 = .ok (.iconst (-1), 1) := dk_2 (dk_at dksX0_behind_1 11 rfl rfl)
theorem dX0_behind_35 : decode cX0_behind 35 = .ok (.ireturn, 1) := dk_172 (dk_at dksX0_behind_1 12 rfl rfl)
theorem dX0_behind_36 : decode cX0_behind 36 = .ok (.new 309, 3) := dk_187 1 53 (dk_at dksX0_behind_1 13 rfl rfl)
theorem dX0_behind_39 : decode cX0_behind 39 = .ok (.dup, 1) := dk_89 (dk_at dksX0_behind_1 16 rfl rfl)
theorem dX0_behind_40 : decode cX0_behind 40 = .ok (.aload_n 0, 1) := dk_42 (dk_at dksX0_behind_1 17 rfl rfl)
theorem dX0_behind_41 : decode cX0_behind 41 = .ok (.iload_n 1, 1) := dk_27 (dk_at dksX0_behind_1 18 rfl rfl)
theorem dX0_behind_42 : decode cX0_behind 42 = .ok (.invokespecial 311, 3) := dk_183 1 55 (dk_at dksX0_behind_1 19 rfl rfl)
theorem dX0_behind_45 : decode cX0_behind 45 = .ok (.astore_n 3, 1) := dk_78 (dk_at dksX0_behind_1 22 rfl rfl)
theorem dX0_behind_46 : decode cX0_behind 46 = .ok (.iload_n 2, 1) := dk_28 (dk_at dksX0_behind_1 23 rfl rfl)
theorem dX0_behind_47 : decode cX0_behind 47 = .ok (.iconst (-1), 1) := dk_2 (dk_at dksX0_behind_2 0 rfl rfl)
theorem dX0_behind_48 : decode cX0_behind 48 = .ok (.if_icmp .ne 10, 3) := dk_160 0 10 (dk_at dksX0_behind_2 1 rfl rfl)
theorem dX0_behind_51 : decode cX0_behind 51 = .ok (.aload_n 3, 1) := dk_45 (dk_at dksX0_behind_2 4 rfl rfl)
theorem dX0_behind_52 : decode cX0_behind 52 = .ok (.getfield 314, 3) := dk_180 1 58 (dk_at dksX0_behind_2 5 rfl rfl)
theorem dX0_behind_55 : decode cX0_behind 55 = .ok (.goto 9, 3) := dk_167 0 9 (dk_at dksX0_behind_2 8 rfl rfl)
theorem dX0_behind_58 : decode cX0_behind 58 = .ok (.aload_n 3, 1) := dk_45 (dk_at dksX0_behind_2 11 rfl rfl)
theorem dX0_behind_59 : decode cX0_behind 59 = .ok (.getfield 317, 3) := dk_180 1 61 (dk_at dksX0_behind_2 12 rfl rfl)
theorem dX0_behind_62 : decode cX0_behind 62 = .ok (.iload_n 2, 1) := dk_28 (dk_at dksX0_behind_2 15 rfl rfl)
theorem dX0_behind_63 : decode cX0_behind 63 = .ok (.iaload, 1) := dk_46 (dk_at dksX0_behind_2 16 rfl rfl)
theorem dX0_behind_64 : decode cX0_behind 64 = .ok (.ireturn, 1) := dk_172 (dk_at dksX0_behind_2 17 rfl rfl)
abbrev cX0_judge : ByteArray := prog_1_method_48_code
def yX0_judge : MethodName := ⟨RX0, "judge", "(I)I"⟩
def dkwX0_judge_2 : List UInt8 := [44, 180, 1, 64, 172, 44, 180, 1, 67, 172, 44, 180, 1, 70, 172, 2, 172]
abbrev dktX0_judge_2 : List UInt8 := dkwX0_judge_2 ++ []
def dkwX0_judge_1 : List UInt8 := [170, 0, 0, 0, 0, 0, 42, 0, 0, 0, 0, 0, 0, 0, 2, 0, 0, 0, 27, 0, 0, 0, 32, 0, 0, 0, 37]
abbrev dktX0_judge_1 : List UInt8 := dkwX0_judge_1 ++ dktX0_judge_2
def dkwX0_judge_0 : List UInt8 := [187, 1, 53, 89, 42, 42, 180, 0, 17, 180, 0, 174, 8, 46, 4, 100, 183, 1, 55, 77, 27]
abbrev dktX0_judge_0 : List UInt8 := dkwX0_judge_0 ++ dktX0_judge_1
theorem dksX0_judge_0 : cX0_judge.data.toList.drop 0 = dktX0_judge_0 := by decide +kernel
theorem dksX0_judge_1 : cX0_judge.data.toList.drop 21 = dktX0_judge_1 := dk_seg dksX0_judge_0 21 rfl rfl
theorem dksX0_judge_2 : cX0_judge.data.toList.drop 48 = dktX0_judge_2 := dk_seg dksX0_judge_1 27 rfl rfl
theorem dX0_judge_0 : decode cX0_judge 0 = .ok (.new 309, 3) := dk_187 1 53 (dk_at dksX0_judge_0 0 rfl rfl)
theorem dX0_judge_3 : decode cX0_judge 3 = .ok (.dup, 1) := dk_89 (dk_at dksX0_judge_0 3 rfl rfl)
theorem dX0_judge_4 : decode cX0_judge 4 = .ok (.aload_n 0, 1) := dk_42 (dk_at dksX0_judge_0 4 rfl rfl)
theorem dX0_judge_5 : decode cX0_judge 5 = .ok (.aload_n 0, 1) := dk_42 (dk_at dksX0_judge_0 5 rfl rfl)
theorem dX0_judge_6 : decode cX0_judge 6 = .ok (.getfield 17, 3) := dk_180 0 17 (dk_at dksX0_judge_0 6 rfl rfl)
theorem dX0_judge_9 : decode cX0_judge 9 = .ok (.getfield 174, 3) := dk_180 0 174 (dk_at dksX0_judge_0 9 rfl rfl)
theorem dX0_judge_12 : decode cX0_judge 12 = .ok (.iconst 5, 1) := dk_8 (dk_at dksX0_judge_0 12 rfl rfl)
theorem dX0_judge_13 : decode cX0_judge 13 = .ok (.iaload, 1) := dk_46 (dk_at dksX0_judge_0 13 rfl rfl)
theorem dX0_judge_14 : decode cX0_judge 14 = .ok (.iconst 1, 1) := dk_4 (dk_at dksX0_judge_0 14 rfl rfl)
theorem dX0_judge_15 : decode cX0_judge 15 = .ok (.isub, 1) := dk_100 (dk_at dksX0_judge_0 15 rfl rfl)
theorem dX0_judge_16 : decode cX0_judge 16 = .ok (.invokespecial 311, 3) := dk_183 1 55 (dk_at dksX0_judge_0 16 rfl rfl)
theorem dX0_judge_19 : decode cX0_judge 19 = .ok (.astore_n 2, 1) := dk_77 (dk_at dksX0_judge_0 19 rfl rfl)
theorem dX0_judge_20 : decode cX0_judge 20 = .ok (.iload_n 1, 1) := dk_27 (dk_at dksX0_judge_0 20 rfl rfl)
theorem dX0_judge_21 : decode cX0_judge 21 = .ok (.tableswitch 42 0 2 #[27, 32, 37], 27) := by decide +kernel
theorem dX0_judge_48 : decode cX0_judge 48 = .ok (.aload_n 2, 1) := dk_44 (dk_at dksX0_judge_2 0 rfl rfl)
theorem dX0_judge_49 : decode cX0_judge 49 = .ok (.getfield 320, 3) := dk_180 1 64 (dk_at dksX0_judge_2 1 rfl rfl)
theorem dX0_judge_52 : decode cX0_judge 52 = .ok (.ireturn, 1) := dk_172 (dk_at dksX0_judge_2 4 rfl rfl)
theorem dX0_judge_53 : decode cX0_judge 53 = .ok (.aload_n 2, 1) := dk_44 (dk_at dksX0_judge_2 5 rfl rfl)
theorem dX0_judge_54 : decode cX0_judge 54 = .ok (.getfield 323, 3) := dk_180 1 67 (dk_at dksX0_judge_2 6 rfl rfl)
theorem dX0_judge_57 : decode cX0_judge 57 = .ok (.ireturn, 1) := dk_172 (dk_at dksX0_judge_2 9 rfl rfl)
theorem dX0_judge_58 : decode cX0_judge 58 = .ok (.aload_n 2, 1) := dk_44 (dk_at dksX0_judge_2 10 rfl rfl)
theorem dX0_judge_59 : decode cX0_judge 59 = .ok (.getfield 326, 3) := dk_180 1 70 (dk_at dksX0_judge_2 11 rfl rfl)
theorem dX0_judge_62 : decode cX0_judge 62 = .ok (.ireturn, 1) := dk_172 (dk_at dksX0_judge_2 14 rfl rfl)
theorem dX0_judge_63 : decode cX0_judge 63 = .ok (.iconst (-1), 1) := dk_2 (dk_at dksX0_judge_2 15 rfl rfl)
theorem dX0_judge_64 : decode cX0_judge 64 = .ok (.ireturn, 1) := dk_172 (dk_at dksX0_judge_2 16 rfl rfl)
abbrev cX0_learn : ByteArray := prog_1_method_49_code
def yX0_learn : MethodName := ⟨RX0, "learn", "()I"⟩
def dkwX0_learn_3 : List UInt8 := [61, 132, 3, 1, 167, 255, 205, 42, 28, 182, 0, 142, 172]
abbrev dktX0_learn_3 : List UInt8 := dkwX0_learn_3 ++ []
def dkwX0_learn_2 : List UInt8 := [180, 1, 61, 29, 46, 181, 0, 39, 28, 43, 180, 1, 61, 29, 46, 158, 0, 7, 4, 167, 0, 4, 3, 96]
abbrev dktX0_learn_2 : List UInt8 := dkwX0_learn_2 ++ dktX0_learn_3
def dkwX0_learn_1 : List UInt8 := [29, 42, 182, 0, 13, 162, 0, 49, 42, 180, 0, 17, 180, 0, 21, 29, 182, 0, 27, 192, 0, 33, 43]
abbrev dktX0_learn_1 : List UInt8 := dkwX0_learn_1 ++ dktX0_learn_2
def dkwX0_learn_0 : List UInt8 := [187, 1, 53, 89, 42, 42, 180, 0, 17, 180, 0, 174, 8, 46, 4, 100, 183, 1, 55, 76, 3, 61, 3, 62]
abbrev dktX0_learn_0 : List UInt8 := dkwX0_learn_0 ++ dktX0_learn_1
theorem dksX0_learn_0 : cX0_learn.data.toList.drop 0 = dktX0_learn_0 := by decide +kernel
theorem dksX0_learn_1 : cX0_learn.data.toList.drop 24 = dktX0_learn_1 := dk_seg dksX0_learn_0 24 rfl rfl
theorem dksX0_learn_2 : cX0_learn.data.toList.drop 47 = dktX0_learn_2 := dk_seg dksX0_learn_1 23 rfl rfl
theorem dksX0_learn_3 : cX0_learn.data.toList.drop 71 = dktX0_learn_3 := dk_seg dksX0_learn_2 24 rfl rfl
theorem dX0_learn_0 : decode cX0_learn 0 = .ok (.new 309, 3) := dk_187 1 53 (dk_at dksX0_learn_0 0 rfl rfl)
theorem dX0_learn_3 : decode cX0_learn 3 = .ok (.dup, 1) := dk_89 (dk_at dksX0_learn_0 3 rfl rfl)
theorem dX0_learn_4 : decode cX0_learn 4 = .ok (.aload_n 0, 1) := dk_42 (dk_at dksX0_learn_0 4 rfl rfl)
theorem dX0_learn_5 : decode cX0_learn 5 = .ok (.aload_n 0, 1) := dk_42 (dk_at dksX0_learn_0 5 rfl rfl)
theorem dX0_learn_6 : decode cX0_learn 6 = .ok (.getfield 17, 3) := dk_180 0 17 (dk_at dksX0_learn_0 6 rfl rfl)
theorem dX0_learn_9 : decode cX0_learn 9 = .ok (.getfield 174, 3) := dk_180 0 174 (dk_at dksX0_learn_0 9 rfl rfl)
theorem dX0_learn_12 : decode cX0_learn 12 = .ok (.iconst 5, 1) := dk_8 (dk_at dksX0_learn_0 12 rfl rfl)
theorem dX0_learn_13 : decode cX0_learn 13 = .ok (.iaload, 1) := dk_46 (dk_at dksX0_learn_0 13 rfl rfl)
theorem dX0_learn_14 : decode cX0_learn 14 = .ok (.iconst 1, 1) := dk_4 (dk_at dksX0_learn_0 14 rfl rfl)
theorem dX0_learn_15 : decode cX0_learn 15 = .ok (.isub, 1) := dk_100 (dk_at dksX0_learn_0 15 rfl rfl)
theorem dX0_learn_16 : decode cX0_learn 16 = .ok (.invokespecial 311, 3) := dk_183 1 55 (dk_at dksX0_learn_0 16 rfl rfl)
theorem dX0_learn_19 : decode cX0_learn 19 = .ok (.astore_n 1, 1) := dk_76 (dk_at dksX0_learn_0 19 rfl rfl)
theorem dX0_learn_20 : decode cX0_learn 20 = .ok (.iconst 0, 1) := dk_3 (dk_at dksX0_learn_0 20 rfl rfl)
theorem dX0_learn_21 : decode cX0_learn 21 = .ok (.istore_n 2, 1) := dk_61 (dk_at dksX0_learn_0 21 rfl rfl)
theorem dX0_learn_22 : decode cX0_learn 22 = .ok (.iconst 0, 1) := dk_3 (dk_at dksX0_learn_0 22 rfl rfl)
theorem dX0_learn_23 : decode cX0_learn 23 = .ok (.istore_n 3, 1) := dk_62 (dk_at dksX0_learn_0 23 rfl rfl)
theorem dX0_learn_24 : decode cX0_learn 24 = .ok (.iload_n 3, 1) := dk_29 (dk_at dksX0_learn_1 0 rfl rfl)
theorem dX0_learn_25 : decode cX0_learn 25 = .ok (.aload_n 0, 1) := dk_42 (dk_at dksX0_learn_1 1 rfl rfl)
theorem dX0_learn_26 : decode cX0_learn 26 = .ok (.invokevirtual 13, 3) := dk_182 0 13 (dk_at dksX0_learn_1 2 rfl rfl)
theorem dX0_learn_29 : decode cX0_learn 29 = .ok (.if_icmp .ge 49, 3) := dk_162 0 49 (dk_at dksX0_learn_1 5 rfl rfl)
theorem dX0_learn_32 : decode cX0_learn 32 = .ok (.aload_n 0, 1) := dk_42 (dk_at dksX0_learn_1 8 rfl rfl)
theorem dX0_learn_33 : decode cX0_learn 33 = .ok (.getfield 17, 3) := dk_180 0 17 (dk_at dksX0_learn_1 9 rfl rfl)
theorem dX0_learn_36 : decode cX0_learn 36 = .ok (.getfield 21, 3) := dk_180 0 21 (dk_at dksX0_learn_1 12 rfl rfl)
theorem dX0_learn_39 : decode cX0_learn 39 = .ok (.iload_n 3, 1) := dk_29 (dk_at dksX0_learn_1 15 rfl rfl)
theorem dX0_learn_40 : decode cX0_learn 40 = .ok (.invokevirtual 27, 3) := dk_182 0 27 (dk_at dksX0_learn_1 16 rfl rfl)
theorem dX0_learn_43 : decode cX0_learn 43 = .ok (.checkcast 33, 3) := dk_192 0 33 (dk_at dksX0_learn_1 19 rfl rfl)
theorem dX0_learn_46 : decode cX0_learn 46 = .ok (.aload_n 1, 1) := dk_43 (dk_at dksX0_learn_1 22 rfl rfl)
theorem dX0_learn_47 : decode cX0_learn 47 = .ok (.getfield 317, 3) := dk_180 1 61 (dk_at dksX0_learn_2 0 rfl rfl)
theorem dX0_learn_50 : decode cX0_learn 50 = .ok (.iload_n 3, 1) := dk_29 (dk_at dksX0_learn_2 3 rfl rfl)
theorem dX0_learn_51 : decode cX0_learn 51 = .ok (.iaload, 1) := dk_46 (dk_at dksX0_learn_2 4 rfl rfl)
theorem dX0_learn_52 : decode cX0_learn 52 = .ok (.putfield 39, 3) := dk_181 0 39 (dk_at dksX0_learn_2 5 rfl rfl)
theorem dX0_learn_55 : decode cX0_learn 55 = .ok (.iload_n 2, 1) := dk_28 (dk_at dksX0_learn_2 8 rfl rfl)
theorem dX0_learn_56 : decode cX0_learn 56 = .ok (.aload_n 1, 1) := dk_43 (dk_at dksX0_learn_2 9 rfl rfl)
theorem dX0_learn_57 : decode cX0_learn 57 = .ok (.getfield 317, 3) := dk_180 1 61 (dk_at dksX0_learn_2 10 rfl rfl)
theorem dX0_learn_60 : decode cX0_learn 60 = .ok (.iload_n 3, 1) := dk_29 (dk_at dksX0_learn_2 13 rfl rfl)
theorem dX0_learn_61 : decode cX0_learn 61 = .ok (.iaload, 1) := dk_46 (dk_at dksX0_learn_2 14 rfl rfl)
theorem dX0_learn_62 : decode cX0_learn 62 = .ok (.ifCond .le 7, 3) := dk_158 0 7 (dk_at dksX0_learn_2 15 rfl rfl)
theorem dX0_learn_65 : decode cX0_learn 65 = .ok (.iconst 1, 1) := dk_4 (dk_at dksX0_learn_2 18 rfl rfl)
theorem dX0_learn_66 : decode cX0_learn 66 = .ok (.goto 4, 3) := dk_167 0 4 (dk_at dksX0_learn_2 19 rfl rfl)
theorem dX0_learn_69 : decode cX0_learn 69 = .ok (.iconst 0, 1) := dk_3 (dk_at dksX0_learn_2 22 rfl rfl)
theorem dX0_learn_70 : decode cX0_learn 70 = .ok (.iadd, 1) := dk_96 (dk_at dksX0_learn_2 23 rfl rfl)
theorem dX0_learn_71 : decode cX0_learn 71 = .ok (.istore_n 2, 1) := dk_61 (dk_at dksX0_learn_3 0 rfl rfl)
theorem dX0_learn_72 : decode cX0_learn 72 = .ok (.iinc 3 1, 3) := dk_132 3 1 (dk_at dksX0_learn_3 1 rfl rfl)
theorem dX0_learn_75 : decode cX0_learn 75 = .ok (.goto (-51), 3) := dk_167 255 205 (dk_at dksX0_learn_3 4 rfl rfl)
theorem dX0_learn_78 : decode cX0_learn 78 = .ok (.aload_n 0, 1) := dk_42 (dk_at dksX0_learn_3 7 rfl rfl)
theorem dX0_learn_79 : decode cX0_learn 79 = .ok (.iload_n 2, 1) := dk_28 (dk_at dksX0_learn_3 8 rfl rfl)
theorem dX0_learn_80 : decode cX0_learn 80 = .ok (.invokevirtual 142, 3) := dk_182 0 142 (dk_at dksX0_learn_3 9 rfl rfl)
theorem dX0_learn_83 : decode cX0_learn 83 = .ok (.ireturn, 1) := dk_172 (dk_at dksX0_learn_3 12 rfl rfl)
abbrev cX0_backward : ByteArray := prog_1_method_50_code
def yX0_backward : MethodName := ⟨RX0, "backward", "(II)I"⟩
def dkwX0_backward_2 : List UInt8 := [50, 28, 46, 172, 28, 4, 160, 0, 10, 45, 180, 1, 80, 167, 0, 7, 45, 180, 1, 83, 172]
abbrev dktX0_backward_2 : List UInt8 := dkwX0_backward_2 ++ []
def dkwX0_backward_1 : List UInt8 := [199, 0, 5, 2, 172, 187, 1, 73, 89, 42, 183, 1, 75, 78, 27, 2, 159, 0, 12, 45, 180, 1, 76, 27]
abbrev dktX0_backward_1 : List UInt8 := dkwX0_backward_1 ++ dktX0_backward_2
def dkwX0_backward_0 : List UInt8 := [28, 133, 10, 20, 0, 145, 184, 0, 109, 153, 0, 16, 27, 2, 159, 0, 13, 42, 27, 182, 0, 147]
abbrev dktX0_backward_0 : List UInt8 := dkwX0_backward_0 ++ dktX0_backward_1
theorem dksX0_backward_0 : cX0_backward.data.toList.drop 0 = dktX0_backward_0 := by decide +kernel
theorem dksX0_backward_1 : cX0_backward.data.toList.drop 22 = dktX0_backward_1 := dk_seg dksX0_backward_0 22 rfl rfl
theorem dksX0_backward_2 : cX0_backward.data.toList.drop 46 = dktX0_backward_2 := dk_seg dksX0_backward_1 24 rfl rfl
theorem dX0_backward_0 : decode cX0_backward 0 = .ok (.iload_n 2, 1) := dk_28 (dk_at dksX0_backward_0 0 rfl rfl)
theorem dX0_backward_1 : decode cX0_backward 1 = .ok (.i2l, 1) := dk_133 (dk_at dksX0_backward_0 1 rfl rfl)
theorem dX0_backward_2 : decode cX0_backward 2 = .ok (.lconst 1, 1) := dk_10 (dk_at dksX0_backward_0 2 rfl rfl)
theorem dX0_backward_3 : decode cX0_backward 3 = .ok (.ldc2_w 145, 3) := dk_20 0 145 (dk_at dksX0_backward_0 3 rfl rfl)
theorem dX0_backward_6 : decode cX0_backward 6 = .ok (.invokestatic 109, 3) := dk_184 0 109 (dk_at dksX0_backward_0 6 rfl rfl)
theorem dX0_backward_9 : decode cX0_backward 9 = .ok (.ifCond .eq 16, 3) := dk_153 0 16 (dk_at dksX0_backward_0 9 rfl rfl)
theorem dX0_backward_12 : decode cX0_backward 12 = .ok (.iload_n 1, 1) := dk_27 (dk_at dksX0_backward_0 12 rfl rfl)
theorem dX0_backward_13 : decode cX0_backward 13 = .ok (.iconst (-1), 1) := dk_2 (dk_at dksX0_backward_0 13 rfl rfl)
theorem dX0_backward_14 : decode cX0_backward 14 = .ok (.if_icmp .eq 13, 3) := dk_159 0 13 (dk_at dksX0_backward_0 14 rfl rfl)
theorem dX0_backward_17 : decode cX0_backward 17 = .ok (.aload_n 0, 1) := dk_42 (dk_at dksX0_backward_0 17 rfl rfl)
theorem dX0_backward_18 : decode cX0_backward 18 = .ok (.iload_n 1, 1) := dk_27 (dk_at dksX0_backward_0 18 rfl rfl)
theorem dX0_backward_19 : decode cX0_backward 19 = .ok (.invokevirtual 147, 3) := dk_182 0 147 (dk_at dksX0_backward_0 19 rfl rfl)
theorem dX0_backward_22 : decode cX0_backward 22 = .ok (.ifnonnull 5, 3) := dk_199 0 5 (dk_at dksX0_backward_1 0 rfl rfl)
theorem dX0_backward_25 : decode cX0_backward 25 = .ok (.iconst (-1), 1) := dk_2 (dk_at dksX0_backward_1 3 rfl rfl)
theorem dX0_backward_26 : decode cX0_backward 26 = .ok (.ireturn, 1) := dk_172 (dk_at dksX0_backward_1 4 rfl rfl)
theorem dX0_backward_27 : decode cX0_backward 27 = .ok (.new 329, 3) := dk_187 1 73 (dk_at dksX0_backward_1 5 rfl rfl)
theorem dX0_backward_30 : decode cX0_backward 30 = .ok (.dup, 1) := dk_89 (dk_at dksX0_backward_1 8 rfl rfl)
theorem dX0_backward_31 : decode cX0_backward 31 = .ok (.aload_n 0, 1) := dk_42 (dk_at dksX0_backward_1 9 rfl rfl)
theorem dX0_backward_32 : decode cX0_backward 32 = .ok (.invokespecial 331, 3) := dk_183 1 75 (dk_at dksX0_backward_1 10 rfl rfl)
theorem dX0_backward_35 : decode cX0_backward 35 = .ok (.astore_n 3, 1) := dk_78 (dk_at dksX0_backward_1 13 rfl rfl)
theorem dX0_backward_36 : decode cX0_backward 36 = .ok (.iload_n 1, 1) := dk_27 (dk_at dksX0_backward_1 14 rfl rfl)
theorem dX0_backward_37 : decode cX0_backward 37 = .ok (.iconst (-1), 1) := dk_2 (dk_at dksX0_backward_1 15 rfl rfl)
theorem dX0_backward_38 : decode cX0_backward 38 = .ok (.if_icmp .eq 12, 3) := dk_159 0 12 (dk_at dksX0_backward_1 16 rfl rfl)
theorem dX0_backward_41 : decode cX0_backward 41 = .ok (.aload_n 3, 1) := dk_45 (dk_at dksX0_backward_1 19 rfl rfl)
theorem dX0_backward_42 : decode cX0_backward 42 = .ok (.getfield 332, 3) := dk_180 1 76 (dk_at dksX0_backward_1 20 rfl rfl)
theorem dX0_backward_45 : decode cX0_backward 45 = .ok (.iload_n 1, 1) := dk_27 (dk_at dksX0_backward_1 23 rfl rfl)
theorem dX0_backward_46 : decode cX0_backward 46 = .ok (.aaload, 1) := dk_50 (dk_at dksX0_backward_2 0 rfl rfl)
theorem dX0_backward_47 : decode cX0_backward 47 = .ok (.iload_n 2, 1) := dk_28 (dk_at dksX0_backward_2 1 rfl rfl)
theorem dX0_backward_48 : decode cX0_backward 48 = .ok (.iaload, 1) := dk_46 (dk_at dksX0_backward_2 2 rfl rfl)
theorem dX0_backward_49 : decode cX0_backward 49 = .ok (.ireturn, 1) := dk_172 (dk_at dksX0_backward_2 3 rfl rfl)
theorem dX0_backward_50 : decode cX0_backward 50 = .ok (.iload_n 2, 1) := dk_28 (dk_at dksX0_backward_2 4 rfl rfl)
theorem dX0_backward_51 : decode cX0_backward 51 = .ok (.iconst 1, 1) := dk_4 (dk_at dksX0_backward_2 5 rfl rfl)
theorem dX0_backward_52 : decode cX0_backward 52 = .ok (.if_icmp .ne 10, 3) := dk_160 0 10 (dk_at dksX0_backward_2 6 rfl rfl)
theorem dX0_backward_55 : decode cX0_backward 55 = .ok (.aload_n 3, 1) := dk_45 (dk_at dksX0_backward_2 9 rfl rfl)
theorem dX0_backward_56 : decode cX0_backward 56 = .ok (.getfield 336, 3) := dk_180 1 80 (dk_at dksX0_backward_2 10 rfl rfl)
theorem dX0_backward_59 : decode cX0_backward 59 = .ok (.goto 7, 3) := dk_167 0 7 (dk_at dksX0_backward_2 13 rfl rfl)
theorem dX0_backward_62 : decode cX0_backward 62 = .ok (.aload_n 3, 1) := dk_45 (dk_at dksX0_backward_2 16 rfl rfl)
theorem dX0_backward_63 : decode cX0_backward 63 = .ok (.getfield 339, 3) := dk_180 1 83 (dk_at dksX0_backward_2 17 rfl rfl)
theorem dX0_backward_66 : decode cX0_backward 66 = .ok (.ireturn, 1) := dk_172 (dk_at dksX0_backward_2 20 rfl rfl)
abbrev cX0_friend : ByteArray := prog_1_method_51_code
def yX0_friend : MethodName := ⟨RX0, "friend", "(II)I"⟩
def dkwX0_friend_2 : List UInt8 := [28, 79, 42, 29, 182, 0, 142, 172]
abbrev dktX0_friend_2 : List UInt8 := dkwX0_friend_2 ++ []
def dkwX0_friend_1 : List UInt8 := [42, 2, 182, 0, 133, 172, 42, 180, 0, 17, 180, 1, 85, 27, 46, 62, 42, 180, 0, 17, 180, 1, 85, 27]
abbrev dktX0_friend_1 : List UInt8 := dkwX0_friend_1 ++ dktX0_friend_2
def dkwX0_friend_0 : List UInt8 := [27, 133, 9, 20, 0, 145, 184, 0, 109, 153, 0, 15, 28, 133, 9, 20, 0, 131, 184, 0, 109, 154, 0, 9]
abbrev dktX0_friend_0 : List UInt8 := dkwX0_friend_0 ++ dktX0_friend_1
theorem dksX0_friend_0 : cX0_friend.data.toList.drop 0 = dktX0_friend_0 := by decide +kernel
theorem dksX0_friend_1 : cX0_friend.data.toList.drop 24 = dktX0_friend_1 := dk_seg dksX0_friend_0 24 rfl rfl
theorem dksX0_friend_2 : cX0_friend.data.toList.drop 48 = dktX0_friend_2 := dk_seg dksX0_friend_1 24 rfl rfl
theorem dX0_friend_0 : decode cX0_friend 0 = .ok (.iload_n 1, 1) := dk_27 (dk_at dksX0_friend_0 0 rfl rfl)
theorem dX0_friend_1 : decode cX0_friend 1 = .ok (.i2l, 1) := dk_133 (dk_at dksX0_friend_0 1 rfl rfl)
theorem dX0_friend_2 : decode cX0_friend 2 = .ok (.lconst 0, 1) := dk_9 (dk_at dksX0_friend_0 2 rfl rfl)
theorem dX0_friend_3 : decode cX0_friend 3 = .ok (.ldc2_w 145, 3) := dk_20 0 145 (dk_at dksX0_friend_0 3 rfl rfl)
theorem dX0_friend_6 : decode cX0_friend 6 = .ok (.invokestatic 109, 3) := dk_184 0 109 (dk_at dksX0_friend_0 6 rfl rfl)
theorem dX0_friend_9 : decode cX0_friend 9 = .ok (.ifCond .eq 15, 3) := dk_153 0 15 (dk_at dksX0_friend_0 9 rfl rfl)
theorem dX0_friend_12 : decode cX0_friend 12 = .ok (.iload_n 2, 1) := dk_28 (dk_at dksX0_friend_0 12 rfl rfl)
theorem dX0_friend_13 : decode cX0_friend 13 = .ok (.i2l, 1) := dk_133 (dk_at dksX0_friend_0 13 rfl rfl)
theorem dX0_friend_14 : decode cX0_friend 14 = .ok (.lconst 0, 1) := dk_9 (dk_at dksX0_friend_0 14 rfl rfl)
theorem dX0_friend_15 : decode cX0_friend 15 = .ok (.ldc2_w 131, 3) := dk_20 0 131 (dk_at dksX0_friend_0 15 rfl rfl)
theorem dX0_friend_18 : decode cX0_friend 18 = .ok (.invokestatic 109, 3) := dk_184 0 109 (dk_at dksX0_friend_0 18 rfl rfl)
theorem dX0_friend_21 : decode cX0_friend 21 = .ok (.ifCond .ne 9, 3) := dk_154 0 9 (dk_at dksX0_friend_0 21 rfl rfl)
theorem dX0_friend_24 : decode cX0_friend 24 = .ok (.aload_n 0, 1) := dk_42 (dk_at dksX0_friend_1 0 rfl rfl)
theorem dX0_friend_25 : decode cX0_friend 25 = .ok (.iconst (-1), 1) := dk_2 (dk_at dksX0_friend_1 1 rfl rfl)
theorem dX0_friend_26 : decode cX0_friend 26 = .ok (.invokevirtual 133, 3) := dk_182 0 133 (dk_at dksX0_friend_1 2 rfl rfl)
theorem dX0_friend_29 : decode cX0_friend 29 = .ok (.ireturn, 1) := dk_172 (dk_at dksX0_friend_1 5 rfl rfl)
theorem dX0_friend_30 : decode cX0_friend 30 = .ok (.aload_n 0, 1) := dk_42 (dk_at dksX0_friend_1 6 rfl rfl)
theorem dX0_friend_31 : decode cX0_friend 31 = .ok (.getfield 17, 3) := dk_180 0 17 (dk_at dksX0_friend_1 7 rfl rfl)
theorem dX0_friend_34 : decode cX0_friend 34 = .ok (.getfield 341, 3) := dk_180 1 85 (dk_at dksX0_friend_1 10 rfl rfl)
theorem dX0_friend_37 : decode cX0_friend 37 = .ok (.iload_n 1, 1) := dk_27 (dk_at dksX0_friend_1 13 rfl rfl)
theorem dX0_friend_38 : decode cX0_friend 38 = .ok (.iaload, 1) := dk_46 (dk_at dksX0_friend_1 14 rfl rfl)
theorem dX0_friend_39 : decode cX0_friend 39 = .ok (.istore_n 3, 1) := dk_62 (dk_at dksX0_friend_1 15 rfl rfl)
theorem dX0_friend_40 : decode cX0_friend 40 = .ok (.aload_n 0, 1) := dk_42 (dk_at dksX0_friend_1 16 rfl rfl)
theorem dX0_friend_41 : decode cX0_friend 41 = .ok (.getfield 17, 3) := dk_180 0 17 (dk_at dksX0_friend_1 17 rfl rfl)
theorem dX0_friend_44 : decode cX0_friend 44 = .ok (.getfield 341, 3) := dk_180 1 85 (dk_at dksX0_friend_1 20 rfl rfl)
theorem dX0_friend_47 : decode cX0_friend 47 = .ok (.iload_n 1, 1) := dk_27 (dk_at dksX0_friend_1 23 rfl rfl)
theorem dX0_friend_48 : decode cX0_friend 48 = .ok (.iload_n 2, 1) := dk_28 (dk_at dksX0_friend_2 0 rfl rfl)
theorem dX0_friend_49 : decode cX0_friend 49 = .ok (.iastore, 1) := dk_79 (dk_at dksX0_friend_2 1 rfl rfl)
theorem dX0_friend_50 : decode cX0_friend 50 = .ok (.aload_n 0, 1) := dk_42 (dk_at dksX0_friend_2 2 rfl rfl)
theorem dX0_friend_51 : decode cX0_friend 51 = .ok (.iload_n 3, 1) := dk_29 (dk_at dksX0_friend_2 3 rfl rfl)
theorem dX0_friend_52 : decode cX0_friend 52 = .ok (.invokevirtual 142, 3) := dk_182 0 142 (dk_at dksX0_friend_2 4 rfl rfl)
theorem dX0_friend_55 : decode cX0_friend 55 = .ok (.ireturn, 1) := dk_172 (dk_at dksX0_friend_2 7 rfl rfl)
abbrev cX0_share : ByteArray := prog_1_method_52_code
def yX0_share : MethodName := ⟨RX0, "share", "(I)I"⟩
def dkwX0_share_2 : List UInt8 := [167, 0, 4, 2, 172]
abbrev dktX0_share_2 : List UInt8 := dkwX0_share_2 ++ []
def dkwX0_share_1 : List UInt8 := [27, 2, 160, 0, 8, 44, 180, 1, 91, 172, 27, 44, 180, 1, 93, 162, 0, 12, 44, 180, 1, 95, 27, 46]
abbrev dktX0_share_1 : List UInt8 := dkwX0_share_1 ++ dktX0_share_2
def dkwX0_share_0 : List UInt8 := [27, 2, 159, 0, 13, 42, 27, 182, 0, 147, 199, 0, 5, 2, 172, 187, 1, 88, 89, 42, 183, 1, 90, 77]
abbrev dktX0_share_0 : List UInt8 := dkwX0_share_0 ++ dktX0_share_1
theorem dksX0_share_0 : cX0_share.data.toList.drop 0 = dktX0_share_0 := by decide +kernel
theorem dksX0_share_1 : cX0_share.data.toList.drop 24 = dktX0_share_1 := dk_seg dksX0_share_0 24 rfl rfl
theorem dksX0_share_2 : cX0_share.data.toList.drop 48 = dktX0_share_2 := dk_seg dksX0_share_1 24 rfl rfl
theorem dX0_share_0 : decode cX0_share 0 = .ok (.iload_n 1, 1) := dk_27 (dk_at dksX0_share_0 0 rfl rfl)
theorem dX0_share_1 : decode cX0_share 1 = .ok (.iconst (-1), 1) := dk_2 (dk_at dksX0_share_0 1 rfl rfl)
theorem dX0_share_2 : decode cX0_share 2 = .ok (.if_icmp .eq 13, 3) := dk_159 0 13 (dk_at dksX0_share_0 2 rfl rfl)
theorem dX0_share_5 : decode cX0_share 5 = .ok (.aload_n 0, 1) := dk_42 (dk_at dksX0_share_0 5 rfl rfl)
theorem dX0_share_6 : decode cX0_share 6 = .ok (.iload_n 1, 1) := dk_27 (dk_at dksX0_share_0 6 rfl rfl)
theorem dX0_share_7 : decode cX0_share 7 = .ok (.invokevirtual 147, 3) := dk_182 0 147 (dk_at dksX0_share_0 7 rfl rfl)
theorem dX0_share_10 : decode cX0_share 10 = .ok (.ifnonnull 5, 3) := dk_199 0 5 (dk_at dksX0_share_0 10 rfl rfl)
theorem dX0_share_13 : decode cX0_share 13 = .ok (.iconst (-1), 1) := dk_2 (dk_at dksX0_share_0 13 rfl rfl)
theorem dX0_share_14 : decode cX0_share 14 = .ok (.ireturn, 1) := dk_172 (dk_at dksX0_share_0 14 rfl rfl)
theorem dX0_share_15 : decode cX0_share 15 = .ok (.new 344, 3) := dk_187 1 88 (dk_at dksX0_share_0 15 rfl rfl)
theorem dX0_share_18 : decode cX0_share 18 = .ok (.dup, 1) := dk_89 (dk_at dksX0_share_0 18 rfl rfl)
theorem dX0_share_19 : decode cX0_share 19 = .ok (.aload_n 0, 1) := dk_42 (dk_at dksX0_share_0 19 rfl rfl)
theorem dX0_share_20 : decode cX0_share 20 = .ok (.invokespecial 346, 3) := dk_183 1 90 (dk_at dksX0_share_0 20 rfl rfl)
theorem dX0_share_23 : decode cX0_share 23 = .ok (.astore_n 2, 1) := dk_77 (dk_at dksX0_share_0 23 rfl rfl)
theorem dX0_share_24 : decode cX0_share 24 = .ok (.iload_n 1, 1) := dk_27 (dk_at dksX0_share_1 0 rfl rfl)
theorem dX0_share_25 : decode cX0_share 25 = .ok (.iconst (-1), 1) := dk_2 (dk_at dksX0_share_1 1 rfl rfl)
theorem dX0_share_26 : decode cX0_share 26 = .ok (.if_icmp .ne 8, 3) := dk_160 0 8 (dk_at dksX0_share_1 2 rfl rfl)
theorem dX0_share_29 : decode cX0_share 29 = .ok (.aload_n 2, 1) := dk_44 (dk_at dksX0_share_1 5 rfl rfl)
theorem dX0_share_30 : decode cX0_share 30 = .ok (.getfield 347, 3) := dk_180 1 91 (dk_at dksX0_share_1 6 rfl rfl)
theorem dX0_share_33 : decode cX0_share 33 = .ok (.ireturn, 1) := dk_172 (dk_at dksX0_share_1 9 rfl rfl)
theorem dX0_share_34 : decode cX0_share 34 = .ok (.iload_n 1, 1) := dk_27 (dk_at dksX0_share_1 10 rfl rfl)
theorem dX0_share_35 : decode cX0_share 35 = .ok (.aload_n 2, 1) := dk_44 (dk_at dksX0_share_1 11 rfl rfl)
theorem dX0_share_36 : decode cX0_share 36 = .ok (.getfield 349, 3) := dk_180 1 93 (dk_at dksX0_share_1 12 rfl rfl)
theorem dX0_share_39 : decode cX0_share 39 = .ok (.if_icmp .ge 12, 3) := dk_162 0 12 (dk_at dksX0_share_1 15 rfl rfl)
theorem dX0_share_42 : decode cX0_share 42 = .ok (.aload_n 2, 1) := dk_44 (dk_at dksX0_share_1 18 rfl rfl)
theorem dX0_share_43 : decode cX0_share 43 = .ok (.getfield 351, 3) := dk_180 1 95 (dk_at dksX0_share_1 19 rfl rfl)
theorem dX0_share_46 : decode cX0_share 46 = .ok (.iload_n 1, 1) := dk_27 (dk_at dksX0_share_1 22 rfl rfl)
theorem dX0_share_47 : decode cX0_share 47 = .ok (.iaload, 1) := dk_46 (dk_at dksX0_share_1 23 rfl rfl)
theorem dX0_share_48 : decode cX0_share 48 = .ok (.goto 4, 3) := dk_167 0 4 (dk_at dksX0_share_2 0 rfl rfl)
theorem dX0_share_51 : decode cX0_share 51 = .ok (.iconst (-1), 1) := dk_2 (dk_at dksX0_share_2 3 rfl rfl)
theorem dX0_share_52 : decode cX0_share 52 = .ok (.ireturn, 1) := dk_172 (dk_at dksX0_share_2 4 rfl rfl)
abbrev cX0_ill : ByteArray := prog_1_method_53_code
def yX0_ill : MethodName := ⟨RX0, "ill", "(II)I"⟩
def dkwX0_ill_7 : List UInt8 := [22, 6, 183, 0, 252, 182, 1, 13, 172]
abbrev dktX0_ill_7 : List UInt8 := dkwX0_ill_7 ++ []
def dkwX0_ill_6 : List UInt8 := [162, 0, 17, 22, 6, 20, 0, 164, 105, 55, 6, 132, 8, 1, 167, 255, 239, 187, 0, 232, 89, 22, 4]
abbrev dktX0_ill_6 : List UInt8 := dkwX0_ill_6 ++ dktX0_ill_7
def dkwX0_ill_5 : List UInt8 := [100, 28, 104, 182, 1, 28, 105, 97, 55, 4, 132, 8, 1, 167, 255, 168, 3, 54, 8, 21, 8, 27]
abbrev dktX0_ill_5 : List UInt8 := dkwX0_ill_5 ++ dktX0_ill_6
def dkwX0_ill_4 : List UInt8 := [180, 0, 174, 7, 46, 100, 133, 105, 55, 9, 132, 11, 1, 167, 255, 209, 22, 4, 22, 9, 45, 27, 21, 8]
abbrev dktX0_ill_4 : List UInt8 := dkwX0_ill_4 ++ dktX0_ill_5
def dkwX0_ill_3 : List UInt8 := [21, 8, 162, 0, 16, 42, 180, 0, 17, 180, 0, 174, 7, 46, 133, 167, 0, 16, 16, 100, 42, 180, 0, 17]
abbrev dktX0_ill_3 : List UInt8 := dkwX0_ill_3 ++ dktX0_ill_4
def dkwX0_ill_2 : List UInt8 := [163, 0, 88, 27, 21, 8, 184, 1, 98, 55, 9, 3, 54, 11, 21, 11, 27, 162, 0, 47, 22, 9, 21, 11]
abbrev dktX0_ill_2 : List UInt8 := dkwX0_ill_2 ++ dktX0_ill_3
def dkwX0_ill_1 : List UInt8 := [2, 172, 42, 182, 1, 21, 78, 9, 55, 4, 45, 180, 1, 30, 55, 6, 3, 54, 8, 21, 8, 27]
abbrev dktX0_ill_1 : List UInt8 := dkwX0_ill_1 ++ dktX0_ill_2
def dkwX0_ill_0 : List UInt8 := [27, 133, 9, 20, 0, 162, 184, 0, 109, 153, 0, 15, 28, 133, 9, 20, 0, 164, 184, 0, 109, 154, 0, 5]
abbrev dktX0_ill_0 : List UInt8 := dkwX0_ill_0 ++ dktX0_ill_1
theorem dksX0_ill_0 : cX0_ill.data.toList.drop 0 = dktX0_ill_0 := by decide +kernel
theorem dksX0_ill_1 : cX0_ill.data.toList.drop 24 = dktX0_ill_1 := dk_seg dksX0_ill_0 24 rfl rfl
theorem dksX0_ill_2 : cX0_ill.data.toList.drop 46 = dktX0_ill_2 := dk_seg dksX0_ill_1 22 rfl rfl
theorem dksX0_ill_3 : cX0_ill.data.toList.drop 70 = dktX0_ill_3 := dk_seg dksX0_ill_2 24 rfl rfl
theorem dksX0_ill_4 : cX0_ill.data.toList.drop 94 = dktX0_ill_4 := dk_seg dksX0_ill_3 24 rfl rfl
theorem dksX0_ill_5 : cX0_ill.data.toList.drop 118 = dktX0_ill_5 := dk_seg dksX0_ill_4 24 rfl rfl
theorem dksX0_ill_6 : cX0_ill.data.toList.drop 140 = dktX0_ill_6 := dk_seg dksX0_ill_5 22 rfl rfl
theorem dksX0_ill_7 : cX0_ill.data.toList.drop 163 = dktX0_ill_7 := dk_seg dksX0_ill_6 23 rfl rfl
theorem dX0_ill_0 : decode cX0_ill 0 = .ok (.iload_n 1, 1) := dk_27 (dk_at dksX0_ill_0 0 rfl rfl)
theorem dX0_ill_1 : decode cX0_ill 1 = .ok (.i2l, 1) := dk_133 (dk_at dksX0_ill_0 1 rfl rfl)
theorem dX0_ill_2 : decode cX0_ill 2 = .ok (.lconst 0, 1) := dk_9 (dk_at dksX0_ill_0 2 rfl rfl)
theorem dX0_ill_3 : decode cX0_ill 3 = .ok (.ldc2_w 162, 3) := dk_20 0 162 (dk_at dksX0_ill_0 3 rfl rfl)
theorem dX0_ill_6 : decode cX0_ill 6 = .ok (.invokestatic 109, 3) := dk_184 0 109 (dk_at dksX0_ill_0 6 rfl rfl)
theorem dX0_ill_9 : decode cX0_ill 9 = .ok (.ifCond .eq 15, 3) := dk_153 0 15 (dk_at dksX0_ill_0 9 rfl rfl)
theorem dX0_ill_12 : decode cX0_ill 12 = .ok (.iload_n 2, 1) := dk_28 (dk_at dksX0_ill_0 12 rfl rfl)
theorem dX0_ill_13 : decode cX0_ill 13 = .ok (.i2l, 1) := dk_133 (dk_at dksX0_ill_0 13 rfl rfl)
theorem dX0_ill_14 : decode cX0_ill 14 = .ok (.lconst 0, 1) := dk_9 (dk_at dksX0_ill_0 14 rfl rfl)
theorem dX0_ill_15 : decode cX0_ill 15 = .ok (.ldc2_w 164, 3) := dk_20 0 164 (dk_at dksX0_ill_0 15 rfl rfl)
theorem dX0_ill_18 : decode cX0_ill 18 = .ok (.invokestatic 109, 3) := dk_184 0 109 (dk_at dksX0_ill_0 18 rfl rfl)
theorem dX0_ill_21 : decode cX0_ill 21 = .ok (.ifCond .ne 5, 3) := dk_154 0 5 (dk_at dksX0_ill_0 21 rfl rfl)
theorem dX0_ill_24 : decode cX0_ill 24 = .ok (.iconst (-1), 1) := dk_2 (dk_at dksX0_ill_1 0 rfl rfl)
theorem dX0_ill_25 : decode cX0_ill 25 = .ok (.ireturn, 1) := dk_172 (dk_at dksX0_ill_1 1 rfl rfl)
theorem dX0_ill_26 : decode cX0_ill 26 = .ok (.aload_n 0, 1) := dk_42 (dk_at dksX0_ill_1 2 rfl rfl)
theorem dX0_ill_27 : decode cX0_ill 27 = .ok (.invokevirtual 277, 3) := dk_182 1 21 (dk_at dksX0_ill_1 3 rfl rfl)
theorem dX0_ill_30 : decode cX0_ill 30 = .ok (.astore_n 3, 1) := dk_78 (dk_at dksX0_ill_1 6 rfl rfl)
theorem dX0_ill_31 : decode cX0_ill 31 = .ok (.lconst 0, 1) := dk_9 (dk_at dksX0_ill_1 7 rfl rfl)
theorem dX0_ill_32 : decode cX0_ill 32 = .ok (.lstore 4, 2) := dk_55 4 (dk_at dksX0_ill_1 8 rfl rfl)
theorem dX0_ill_34 : decode cX0_ill 34 = .ok (.aload_n 3, 1) := dk_45 (dk_at dksX0_ill_1 10 rfl rfl)
theorem dX0_ill_35 : decode cX0_ill 35 = .ok (.getfield 286, 3) := dk_180 1 30 (dk_at dksX0_ill_1 11 rfl rfl)
theorem dX0_ill_38 : decode cX0_ill 38 = .ok (.lstore 6, 2) := dk_55 6 (dk_at dksX0_ill_1 14 rfl rfl)
theorem dX0_ill_40 : decode cX0_ill 40 = .ok (.iconst 0, 1) := dk_3 (dk_at dksX0_ill_1 16 rfl rfl)
theorem dX0_ill_41 : decode cX0_ill 41 = .ok (.istore 8, 2) := dk_54 8 (dk_at dksX0_ill_1 17 rfl rfl)
theorem dX0_ill_43 : decode cX0_ill 43 = .ok (.iload 8, 2) := dk_21 8 (dk_at dksX0_ill_1 19 rfl rfl)
theorem dX0_ill_45 : decode cX0_ill 45 = .ok (.iload_n 1, 1) := dk_27 (dk_at dksX0_ill_1 21 rfl rfl)
theorem dX0_ill_46 : decode cX0_ill 46 = .ok (.if_icmp .gt 88, 3) := dk_163 0 88 (dk_at dksX0_ill_2 0 rfl rfl)
theorem dX0_ill_49 : decode cX0_ill 49 = .ok (.iload_n 1, 1) := dk_27 (dk_at dksX0_ill_2 3 rfl rfl)
theorem dX0_ill_50 : decode cX0_ill 50 = .ok (.iload 8, 2) := dk_21 8 (dk_at dksX0_ill_2 4 rfl rfl)
theorem dX0_ill_52 : decode cX0_ill 52 = .ok (.invokestatic 354, 3) := dk_184 1 98 (dk_at dksX0_ill_2 6 rfl rfl)
theorem dX0_ill_55 : decode cX0_ill 55 = .ok (.lstore 9, 2) := dk_55 9 (dk_at dksX0_ill_2 9 rfl rfl)
theorem dX0_ill_57 : decode cX0_ill 57 = .ok (.iconst 0, 1) := dk_3 (dk_at dksX0_ill_2 11 rfl rfl)
theorem dX0_ill_58 : decode cX0_ill 58 = .ok (.istore 11, 2) := dk_54 11 (dk_at dksX0_ill_2 12 rfl rfl)
theorem dX0_ill_60 : decode cX0_ill 60 = .ok (.iload 11, 2) := dk_21 11 (dk_at dksX0_ill_2 14 rfl rfl)
theorem dX0_ill_62 : decode cX0_ill 62 = .ok (.iload_n 1, 1) := dk_27 (dk_at dksX0_ill_2 16 rfl rfl)
theorem dX0_ill_63 : decode cX0_ill 63 = .ok (.if_icmp .ge 47, 3) := dk_162 0 47 (dk_at dksX0_ill_2 17 rfl rfl)
theorem dX0_ill_66 : decode cX0_ill 66 = .ok (.lload 9, 2) := dk_22 9 (dk_at dksX0_ill_2 20 rfl rfl)
theorem dX0_ill_68 : decode cX0_ill 68 = .ok (.iload 11, 2) := dk_21 11 (dk_at dksX0_ill_2 22 rfl rfl)
theorem dX0_ill_70 : decode cX0_ill 70 = .ok (.iload 8, 2) := dk_21 8 (dk_at dksX0_ill_3 0 rfl rfl)
theorem dX0_ill_72 : decode cX0_ill 72 = .ok (.if_icmp .ge 16, 3) := dk_162 0 16 (dk_at dksX0_ill_3 2 rfl rfl)
theorem dX0_ill_75 : decode cX0_ill 75 = .ok (.aload_n 0, 1) := dk_42 (dk_at dksX0_ill_3 5 rfl rfl)
theorem dX0_ill_76 : decode cX0_ill 76 = .ok (.getfield 17, 3) := dk_180 0 17 (dk_at dksX0_ill_3 6 rfl rfl)
theorem dX0_ill_79 : decode cX0_ill 79 = .ok (.getfield 174, 3) := dk_180 0 174 (dk_at dksX0_ill_3 9 rfl rfl)
theorem dX0_ill_82 : decode cX0_ill 82 = .ok (.iconst 4, 1) := dk_7 (dk_at dksX0_ill_3 12 rfl rfl)
theorem dX0_ill_83 : decode cX0_ill 83 = .ok (.iaload, 1) := dk_46 (dk_at dksX0_ill_3 13 rfl rfl)
theorem dX0_ill_84 : decode cX0_ill 84 = .ok (.i2l, 1) := dk_133 (dk_at dksX0_ill_3 14 rfl rfl)
theorem dX0_ill_85 : decode cX0_ill 85 = .ok (.goto 16, 3) := dk_167 0 16 (dk_at dksX0_ill_3 15 rfl rfl)
theorem dX0_ill_88 : decode cX0_ill 88 = .ok (.bipush 100, 2) := dk_16 100 (dk_at dksX0_ill_3 18 rfl rfl)
theorem dX0_ill_90 : decode cX0_ill 90 = .ok (.aload_n 0, 1) := dk_42 (dk_at dksX0_ill_3 20 rfl rfl)
theorem dX0_ill_91 : decode cX0_ill 91 = .ok (.getfield 17, 3) := dk_180 0 17 (dk_at dksX0_ill_3 21 rfl rfl)
theorem dX0_ill_94 : decode cX0_ill 94 = .ok (.getfield 174, 3) := dk_180 0 174 (dk_at dksX0_ill_4 0 rfl rfl)
theorem dX0_ill_97 : decode cX0_ill 97 = .ok (.iconst 4, 1) := dk_7 (dk_at dksX0_ill_4 3 rfl rfl)
theorem dX0_ill_98 : decode cX0_ill 98 = .ok (.iaload, 1) := dk_46 (dk_at dksX0_ill_4 4 rfl rfl)
theorem dX0_ill_99 : decode cX0_ill 99 = .ok (.isub, 1) := dk_100 (dk_at dksX0_ill_4 5 rfl rfl)
theorem dX0_ill_100 : decode cX0_ill 100 = .ok (.i2l, 1) := dk_133 (dk_at dksX0_ill_4 6 rfl rfl)
theorem dX0_ill_101 : decode cX0_ill 101 = .ok (.lmul, 1) := dk_105 (dk_at dksX0_ill_4 7 rfl rfl)
theorem dX0_ill_102 : decode cX0_ill 102 = .ok (.lstore 9, 2) := dk_55 9 (dk_at dksX0_ill_4 8 rfl rfl)
theorem dX0_ill_104 : decode cX0_ill 104 = .ok (.iinc 11 1, 3) := dk_132 11 1 (dk_at dksX0_ill_4 10 rfl rfl)
theorem dX0_ill_107 : decode cX0_ill 107 = .ok (.goto (-47), 3) := dk_167 255 209 (dk_at dksX0_ill_4 13 rfl rfl)
theorem dX0_ill_110 : decode cX0_ill 110 = .ok (.lload 4, 2) := dk_22 4 (dk_at dksX0_ill_4 16 rfl rfl)
theorem dX0_ill_112 : decode cX0_ill 112 = .ok (.lload 9, 2) := dk_22 9 (dk_at dksX0_ill_4 18 rfl rfl)
theorem dX0_ill_114 : decode cX0_ill 114 = .ok (.aload_n 3, 1) := dk_45 (dk_at dksX0_ill_4 20 rfl rfl)
theorem dX0_ill_115 : decode cX0_ill 115 = .ok (.iload_n 1, 1) := dk_27 (dk_at dksX0_ill_4 21 rfl rfl)
theorem dX0_ill_116 : decode cX0_ill 116 = .ok (.iload 8, 2) := dk_21 8 (dk_at dksX0_ill_4 22 rfl rfl)
theorem dX0_ill_118 : decode cX0_ill 118 = .ok (.isub, 1) := dk_100 (dk_at dksX0_ill_5 0 rfl rfl)
theorem dX0_ill_119 : decode cX0_ill 119 = .ok (.iload_n 2, 1) := dk_28 (dk_at dksX0_ill_5 1 rfl rfl)
theorem dX0_ill_120 : decode cX0_ill 120 = .ok (.imul, 1) := dk_104 (dk_at dksX0_ill_5 2 rfl rfl)
theorem dX0_ill_121 : decode cX0_ill 121 = .ok (.invokevirtual 284, 3) := dk_182 1 28 (dk_at dksX0_ill_5 3 rfl rfl)
theorem dX0_ill_124 : decode cX0_ill 124 = .ok (.lmul, 1) := dk_105 (dk_at dksX0_ill_5 6 rfl rfl)
theorem dX0_ill_125 : decode cX0_ill 125 = .ok (.ladd, 1) := dk_97 (dk_at dksX0_ill_5 7 rfl rfl)
theorem dX0_ill_126 : decode cX0_ill 126 = .ok (.lstore 4, 2) := dk_55 4 (dk_at dksX0_ill_5 8 rfl rfl)
theorem dX0_ill_128 : decode cX0_ill 128 = .ok (.iinc 8 1, 3) := dk_132 8 1 (dk_at dksX0_ill_5 10 rfl rfl)
theorem dX0_ill_131 : decode cX0_ill 131 = .ok (.goto (-88), 3) := dk_167 255 168 (dk_at dksX0_ill_5 13 rfl rfl)
theorem dX0_ill_134 : decode cX0_ill 134 = .ok (.iconst 0, 1) := dk_3 (dk_at dksX0_ill_5 16 rfl rfl)
theorem dX0_ill_135 : decode cX0_ill 135 = .ok (.istore 8, 2) := dk_54 8 (dk_at dksX0_ill_5 17 rfl rfl)
theorem dX0_ill_137 : decode cX0_ill 137 = .ok (.iload 8, 2) := dk_21 8 (dk_at dksX0_ill_5 19 rfl rfl)
theorem dX0_ill_139 : decode cX0_ill 139 = .ok (.iload_n 1, 1) := dk_27 (dk_at dksX0_ill_5 21 rfl rfl)
theorem dX0_ill_140 : decode cX0_ill 140 = .ok (.if_icmp .ge 17, 3) := dk_162 0 17 (dk_at dksX0_ill_6 0 rfl rfl)
theorem dX0_ill_143 : decode cX0_ill 143 = .ok (.lload 6, 2) := dk_22 6 (dk_at dksX0_ill_6 3 rfl rfl)
theorem dX0_ill_145 : decode cX0_ill 145 = .ok (.ldc2_w 164, 3) := dk_20 0 164 (dk_at dksX0_ill_6 5 rfl rfl)
theorem dX0_ill_148 : decode cX0_ill 148 = .ok (.lmul, 1) := dk_105 (dk_at dksX0_ill_6 8 rfl rfl)
theorem dX0_ill_149 : decode cX0_ill 149 = .ok (.lstore 6, 2) := dk_55 6 (dk_at dksX0_ill_6 9 rfl rfl)
theorem dX0_ill_151 : decode cX0_ill 151 = .ok (.iinc 8 1, 3) := dk_132 8 1 (dk_at dksX0_ill_6 11 rfl rfl)
theorem dX0_ill_154 : decode cX0_ill 154 = .ok (.goto (-17), 3) := dk_167 255 239 (dk_at dksX0_ill_6 14 rfl rfl)
theorem dX0_ill_157 : decode cX0_ill 157 = .ok (.new 232, 3) := dk_187 0 232 (dk_at dksX0_ill_6 17 rfl rfl)
theorem dX0_ill_160 : decode cX0_ill 160 = .ok (.dup, 1) := dk_89 (dk_at dksX0_ill_6 20 rfl rfl)
theorem dX0_ill_161 : decode cX0_ill 161 = .ok (.lload 4, 2) := dk_22 4 (dk_at dksX0_ill_6 21 rfl rfl)
theorem dX0_ill_163 : decode cX0_ill 163 = .ok (.lload 6, 2) := dk_22 6 (dk_at dksX0_ill_7 0 rfl rfl)
theorem dX0_ill_165 : decode cX0_ill 165 = .ok (.invokespecial 252, 3) := dk_183 0 252 (dk_at dksX0_ill_7 2 rfl rfl)
theorem dX0_ill_168 : decode cX0_ill 168 = .ok (.invokevirtual 269, 3) := dk_182 1 13 (dk_at dksX0_ill_7 5 rfl rfl)
theorem dX0_ill_171 : decode cX0_ill 171 = .ok (.ireturn, 1) := dk_172 (dk_at dksX0_ill_7 8 rfl rfl)
abbrev cX0_year : ByteArray := prog_1_method_55_code
def yX0_year : MethodName := ⟨RX0, "year", "(I)I"⟩
def dkwX0_year_3 : List UInt8 := [182, 0, 133, 172]
abbrev dktX0_year_3 : List UInt8 := dkwX0_year_3 ++ []
def dkwX0_year_2 : List UInt8 := [27, 79, 42, 180, 0, 17, 89, 180, 1, 105, 4, 96, 181, 1, 105, 42, 42, 180, 0, 17, 180, 1, 105]
abbrev dktX0_year_2 : List UInt8 := dkwX0_year_2 ++ dktX0_year_3
def dkwX0_year_1 : List UInt8 := [160, 0, 10, 42, 16, 251, 182, 0, 133, 172, 42, 180, 0, 17, 180, 1, 108, 42, 180, 0, 17, 180, 1, 105]
abbrev dktX0_year_1 : List UInt8 := dkwX0_year_1 ++ dktX0_year_2
def dkwX0_year_0 : List UInt8 := [42, 27, 182, 1, 102, 154, 0, 9, 42, 2, 182, 0, 133, 172, 42, 180, 0, 17, 180, 1, 105, 16, 40]
abbrev dktX0_year_0 : List UInt8 := dkwX0_year_0 ++ dktX0_year_1
theorem dksX0_year_0 : cX0_year.data.toList.drop 0 = dktX0_year_0 := by decide +kernel
theorem dksX0_year_1 : cX0_year.data.toList.drop 23 = dktX0_year_1 := dk_seg dksX0_year_0 23 rfl rfl
theorem dksX0_year_2 : cX0_year.data.toList.drop 47 = dktX0_year_2 := dk_seg dksX0_year_1 24 rfl rfl
theorem dksX0_year_3 : cX0_year.data.toList.drop 70 = dktX0_year_3 := dk_seg dksX0_year_2 23 rfl rfl
theorem dX0_year_0 : decode cX0_year 0 = .ok (.aload_n 0, 1) := dk_42 (dk_at dksX0_year_0 0 rfl rfl)
theorem dX0_year_1 : decode cX0_year 1 = .ok (.iload_n 1, 1) := dk_27 (dk_at dksX0_year_0 1 rfl rfl)
theorem dX0_year_2 : decode cX0_year 2 = .ok (.invokevirtual 358, 3) := dk_182 1 102 (dk_at dksX0_year_0 2 rfl rfl)
theorem dX0_year_5 : decode cX0_year 5 = .ok (.ifCond .ne 9, 3) := dk_154 0 9 (dk_at dksX0_year_0 5 rfl rfl)
theorem dX0_year_8 : decode cX0_year 8 = .ok (.aload_n 0, 1) := dk_42 (dk_at dksX0_year_0 8 rfl rfl)
theorem dX0_year_9 : decode cX0_year 9 = .ok (.iconst (-1), 1) := dk_2 (dk_at dksX0_year_0 9 rfl rfl)
theorem dX0_year_10 : decode cX0_year 10 = .ok (.invokevirtual 133, 3) := dk_182 0 133 (dk_at dksX0_year_0 10 rfl rfl)
theorem dX0_year_13 : decode cX0_year 13 = .ok (.ireturn, 1) := dk_172 (dk_at dksX0_year_0 13 rfl rfl)
theorem dX0_year_14 : decode cX0_year 14 = .ok (.aload_n 0, 1) := dk_42 (dk_at dksX0_year_0 14 rfl rfl)
theorem dX0_year_15 : decode cX0_year 15 = .ok (.getfield 17, 3) := dk_180 0 17 (dk_at dksX0_year_0 15 rfl rfl)
theorem dX0_year_18 : decode cX0_year 18 = .ok (.getfield 361, 3) := dk_180 1 105 (dk_at dksX0_year_0 18 rfl rfl)
theorem dX0_year_21 : decode cX0_year 21 = .ok (.bipush 40, 2) := dk_16 40 (dk_at dksX0_year_0 21 rfl rfl)
theorem dX0_year_23 : decode cX0_year 23 = .ok (.if_icmp .ne 10, 3) := dk_160 0 10 (dk_at dksX0_year_1 0 rfl rfl)
theorem dX0_year_26 : decode cX0_year 26 = .ok (.aload_n 0, 1) := dk_42 (dk_at dksX0_year_1 3 rfl rfl)
theorem dX0_year_27 : decode cX0_year 27 = .ok (.bipush (-5), 2) := dk_16 251 (dk_at dksX0_year_1 4 rfl rfl)
theorem dX0_year_29 : decode cX0_year 29 = .ok (.invokevirtual 133, 3) := dk_182 0 133 (dk_at dksX0_year_1 6 rfl rfl)
theorem dX0_year_32 : decode cX0_year 32 = .ok (.ireturn, 1) := dk_172 (dk_at dksX0_year_1 9 rfl rfl)
theorem dX0_year_33 : decode cX0_year 33 = .ok (.aload_n 0, 1) := dk_42 (dk_at dksX0_year_1 10 rfl rfl)
theorem dX0_year_34 : decode cX0_year 34 = .ok (.getfield 17, 3) := dk_180 0 17 (dk_at dksX0_year_1 11 rfl rfl)
theorem dX0_year_37 : decode cX0_year 37 = .ok (.getfield 364, 3) := dk_180 1 108 (dk_at dksX0_year_1 14 rfl rfl)
theorem dX0_year_40 : decode cX0_year 40 = .ok (.aload_n 0, 1) := dk_42 (dk_at dksX0_year_1 17 rfl rfl)
theorem dX0_year_41 : decode cX0_year 41 = .ok (.getfield 17, 3) := dk_180 0 17 (dk_at dksX0_year_1 18 rfl rfl)
theorem dX0_year_44 : decode cX0_year 44 = .ok (.getfield 361, 3) := dk_180 1 105 (dk_at dksX0_year_1 21 rfl rfl)
theorem dX0_year_47 : decode cX0_year 47 = .ok (.iload_n 1, 1) := dk_27 (dk_at dksX0_year_2 0 rfl rfl)
theorem dX0_year_48 : decode cX0_year 48 = .ok (.iastore, 1) := dk_79 (dk_at dksX0_year_2 1 rfl rfl)
theorem dX0_year_49 : decode cX0_year 49 = .ok (.aload_n 0, 1) := dk_42 (dk_at dksX0_year_2 2 rfl rfl)
theorem dX0_year_50 : decode cX0_year 50 = .ok (.getfield 17, 3) := dk_180 0 17 (dk_at dksX0_year_2 3 rfl rfl)
theorem dX0_year_53 : decode cX0_year 53 = .ok (.dup, 1) := dk_89 (dk_at dksX0_year_2 6 rfl rfl)
theorem dX0_year_54 : decode cX0_year 54 = .ok (.getfield 361, 3) := dk_180 1 105 (dk_at dksX0_year_2 7 rfl rfl)
theorem dX0_year_57 : decode cX0_year 57 = .ok (.iconst 1, 1) := dk_4 (dk_at dksX0_year_2 10 rfl rfl)
theorem dX0_year_58 : decode cX0_year 58 = .ok (.iadd, 1) := dk_96 (dk_at dksX0_year_2 11 rfl rfl)
theorem dX0_year_59 : decode cX0_year 59 = .ok (.putfield 361, 3) := dk_181 1 105 (dk_at dksX0_year_2 12 rfl rfl)
theorem dX0_year_62 : decode cX0_year 62 = .ok (.aload_n 0, 1) := dk_42 (dk_at dksX0_year_2 15 rfl rfl)
theorem dX0_year_63 : decode cX0_year 63 = .ok (.aload_n 0, 1) := dk_42 (dk_at dksX0_year_2 16 rfl rfl)
theorem dX0_year_64 : decode cX0_year 64 = .ok (.getfield 17, 3) := dk_180 0 17 (dk_at dksX0_year_2 17 rfl rfl)
theorem dX0_year_67 : decode cX0_year 67 = .ok (.getfield 361, 3) := dk_180 1 105 (dk_at dksX0_year_2 20 rfl rfl)
theorem dX0_year_70 : decode cX0_year 70 = .ok (.invokevirtual 133, 3) := dk_182 0 133 (dk_at dksX0_year_3 0 rfl rfl)
theorem dX0_year_73 : decode cX0_year 73 = .ok (.ireturn, 1) := dk_172 (dk_at dksX0_year_3 3 rfl rfl)
abbrev cX0_isDrawn : ByteArray := prog_1_method_54_code
def yX0_isDrawn : MethodName := ⟨RX0, "isDrawn", "(I)Z"⟩
def dkwX0_isDrawn_0 : List UInt8 := [27, 133, 9, 4, 42, 182, 0, 13, 120, 4, 100, 133, 184, 0, 109, 172]
abbrev dktX0_isDrawn_0 : List UInt8 := dkwX0_isDrawn_0 ++ []
theorem dksX0_isDrawn_0 : cX0_isDrawn.data.toList.drop 0 = dktX0_isDrawn_0 := by decide +kernel
theorem dX0_isDrawn_0 : decode cX0_isDrawn 0 = .ok (.iload_n 1, 1) := dk_27 (dk_at dksX0_isDrawn_0 0 rfl rfl)
theorem dX0_isDrawn_1 : decode cX0_isDrawn 1 = .ok (.i2l, 1) := dk_133 (dk_at dksX0_isDrawn_0 1 rfl rfl)
theorem dX0_isDrawn_2 : decode cX0_isDrawn 2 = .ok (.lconst 0, 1) := dk_9 (dk_at dksX0_isDrawn_0 2 rfl rfl)
theorem dX0_isDrawn_3 : decode cX0_isDrawn 3 = .ok (.iconst 1, 1) := dk_4 (dk_at dksX0_isDrawn_0 3 rfl rfl)
theorem dX0_isDrawn_4 : decode cX0_isDrawn 4 = .ok (.aload_n 0, 1) := dk_42 (dk_at dksX0_isDrawn_0 4 rfl rfl)
theorem dX0_isDrawn_5 : decode cX0_isDrawn 5 = .ok (.invokevirtual 13, 3) := dk_182 0 13 (dk_at dksX0_isDrawn_0 5 rfl rfl)
theorem dX0_isDrawn_8 : decode cX0_isDrawn 8 = .ok (.ishl, 1) := dk_120 (dk_at dksX0_isDrawn_0 8 rfl rfl)
theorem dX0_isDrawn_9 : decode cX0_isDrawn 9 = .ok (.iconst 1, 1) := dk_4 (dk_at dksX0_isDrawn_0 9 rfl rfl)
theorem dX0_isDrawn_10 : decode cX0_isDrawn 10 = .ok (.isub, 1) := dk_100 (dk_at dksX0_isDrawn_0 10 rfl rfl)
theorem dX0_isDrawn_11 : decode cX0_isDrawn 11 = .ok (.i2l, 1) := dk_133 (dk_at dksX0_isDrawn_0 11 rfl rfl)
theorem dX0_isDrawn_12 : decode cX0_isDrawn 12 = .ok (.invokestatic 109, 3) := dk_184 0 109 (dk_at dksX0_isDrawn_0 12 rfl rfl)
theorem dX0_isDrawn_15 : decode cX0_isDrawn 15 = .ok (.ireturn, 1) := dk_172 (dk_at dksX0_isDrawn_0 15 rfl rfl)
abbrev cX0_row : ByteArray := prog_1_method_57_code
def yX0_row : MethodName := ⟨RX0, "row", "()I"⟩
def dkwX0_row_16 : List UInt8 := [28, 182, 0, 133, 172]
abbrev dktX0_row_16 : List UInt8 := dkwX0_row_16 ++ []
def dkwX0_row_15 : List UInt8 := [21, 7, 153, 0, 7, 3, 167, 0, 4, 4, 96, 181, 1, 117, 25, 6, 191, 132, 3, 4, 167, 254, 192, 42]
abbrev dktX0_row_15 : List UInt8 := dkwX0_row_15 ++ dktX0_row_16
def dkwX0_row_14 : List UInt8 := [4, 96, 181, 1, 105, 28, 21, 7, 153, 0, 7, 4, 167, 0, 4, 3, 96, 61, 42, 89, 180, 1, 117]
abbrev dktX0_row_14 : List UInt8 := dkwX0_row_14 ++ dktX0_row_15
def dkwX0_row_13 : List UInt8 := [180, 0, 17, 180, 1, 108, 42, 180, 0, 17, 180, 1, 105, 21, 4, 79, 42, 180, 0, 17, 89, 180, 1, 105]
abbrev dktX0_row_13 : List UInt8 := dkwX0_row_13 ++ dktX0_row_14
def dkwX0_row_12 : List UInt8 := [180, 0, 17, 180, 1, 105, 16, 40, 162, 0, 7, 4, 167, 0, 4, 3, 54, 7, 21, 7, 153, 0, 33, 42]
abbrev dktX0_row_12 : List UInt8 := dkwX0_row_12 ++ dktX0_row_13
def dkwX0_row_11 : List UInt8 := [167, 0, 4, 4, 96, 181, 1, 117, 167, 0, 103, 58, 6, 42, 21, 4, 182, 1, 102, 153, 0, 19, 42]
abbrev dktX0_row_11 : List UInt8 := dkwX0_row_11 ++ dktX0_row_12
def dkwX0_row_10 : List UInt8 := [21, 5, 153, 0, 7, 4, 167, 0, 4, 3, 96, 61, 42, 89, 180, 1, 117, 21, 5, 153, 0, 7, 3]
abbrev dktX0_row_10 : List UInt8 := dkwX0_row_10 ++ dktX0_row_11
def dkwX0_row_9 : List UInt8 := [180, 0, 17, 180, 1, 105, 21, 4, 79, 42, 180, 0, 17, 89, 180, 1, 105, 4, 96, 181, 1, 105, 28]
abbrev dktX0_row_9 : List UInt8 := dkwX0_row_9 ++ dktX0_row_10
def dkwX0_row_8 : List UInt8 := [162, 0, 7, 4, 167, 0, 4, 3, 54, 5, 21, 5, 153, 0, 33, 42, 180, 0, 17, 180, 1, 108, 42]
abbrev dktX0_row_8 : List UInt8 := dkwX0_row_8 ++ dktX0_row_9
def dkwX0_row_7 : List UInt8 := [58, 5, 2, 54, 4, 42, 21, 4, 182, 1, 102, 153, 0, 19, 42, 180, 0, 17, 180, 1, 105, 16, 40]
abbrev dktX0_row_7 : List UInt8 := dkwX0_row_7 ++ dktX0_row_8
def dkwX0_row_6 : List UInt8 := [96, 61, 42, 89, 180, 1, 117, 21, 5, 153, 0, 7, 3, 167, 0, 4, 4, 96, 181, 1, 117, 167, 0, 206]
abbrev dktX0_row_6 : List UInt8 := dkwX0_row_6 ++ dktX0_row_7
def dkwX0_row_5 : List UInt8 := [42, 180, 0, 17, 89, 180, 1, 105, 4, 96, 181, 1, 105, 28, 21, 5, 153, 0, 7, 4, 167, 0, 4, 3]
abbrev dktX0_row_5 : List UInt8 := dkwX0_row_5 ++ dktX0_row_6
def dkwX0_row_4 : List UInt8 := [54, 5, 21, 5, 153, 0, 33, 42, 180, 0, 17, 180, 1, 108, 42, 180, 0, 17, 180, 1, 105, 21, 4, 79]
abbrev dktX0_row_4 : List UInt8 := dkwX0_row_4 ++ dktX0_row_5
def dkwX0_row_3 : List UInt8 := [182, 1, 102, 153, 0, 19, 42, 180, 0, 17, 180, 1, 105, 16, 40, 162, 0, 7, 4, 167, 0, 4, 3]
abbrev dktX0_row_3 : List UInt8 := dkwX0_row_3 ++ dktX0_row_4
def dkwX0_row_2 : List UInt8 := [61, 3, 62, 29, 43, 190, 162, 1, 64, 2, 54, 4, 43, 29, 184, 1, 120, 54, 4, 42, 21, 4]
abbrev dktX0_row_2 : List UInt8 := dkwX0_row_2 ++ dktX0_row_3
def dkwX0_row_1 : List UInt8 := [180, 0, 89, 3, 43, 3, 42, 180, 0, 122, 184, 1, 111, 42, 3, 181, 0, 122, 42, 3, 181, 1, 117, 3]
abbrev dktX0_row_1 : List UInt8 := dkwX0_row_1 ++ dktX0_row_2
def dkwX0_row_0 : List UInt8 := [42, 180, 0, 122, 154, 0, 10, 42, 16, 250, 182, 0, 133, 172, 42, 180, 0, 122, 188, 8, 76, 42]
abbrev dktX0_row_0 : List UInt8 := dkwX0_row_0 ++ dktX0_row_1
theorem dksX0_row_0 : cX0_row.data.toList.drop 0 = dktX0_row_0 := by decide +kernel
theorem dksX0_row_1 : cX0_row.data.toList.drop 22 = dktX0_row_1 := dk_seg dksX0_row_0 22 rfl rfl
theorem dksX0_row_2 : cX0_row.data.toList.drop 46 = dktX0_row_2 := dk_seg dksX0_row_1 24 rfl rfl
theorem dksX0_row_3 : cX0_row.data.toList.drop 68 = dktX0_row_3 := dk_seg dksX0_row_2 22 rfl rfl
theorem dksX0_row_4 : cX0_row.data.toList.drop 91 = dktX0_row_4 := dk_seg dksX0_row_3 23 rfl rfl
theorem dksX0_row_5 : cX0_row.data.toList.drop 115 = dktX0_row_5 := dk_seg dksX0_row_4 24 rfl rfl
theorem dksX0_row_6 : cX0_row.data.toList.drop 139 = dktX0_row_6 := dk_seg dksX0_row_5 24 rfl rfl
theorem dksX0_row_7 : cX0_row.data.toList.drop 163 = dktX0_row_7 := dk_seg dksX0_row_6 24 rfl rfl
theorem dksX0_row_8 : cX0_row.data.toList.drop 186 = dktX0_row_8 := dk_seg dksX0_row_7 23 rfl rfl
theorem dksX0_row_9 : cX0_row.data.toList.drop 209 = dktX0_row_9 := dk_seg dksX0_row_8 23 rfl rfl
theorem dksX0_row_10 : cX0_row.data.toList.drop 232 = dktX0_row_10 := dk_seg dksX0_row_9 23 rfl rfl
theorem dksX0_row_11 : cX0_row.data.toList.drop 255 = dktX0_row_11 := dk_seg dksX0_row_10 23 rfl rfl
theorem dksX0_row_12 : cX0_row.data.toList.drop 278 = dktX0_row_12 := dk_seg dksX0_row_11 23 rfl rfl
theorem dksX0_row_13 : cX0_row.data.toList.drop 302 = dktX0_row_13 := dk_seg dksX0_row_12 24 rfl rfl
theorem dksX0_row_14 : cX0_row.data.toList.drop 326 = dktX0_row_14 := dk_seg dksX0_row_13 24 rfl rfl
theorem dksX0_row_15 : cX0_row.data.toList.drop 349 = dktX0_row_15 := dk_seg dksX0_row_14 23 rfl rfl
theorem dksX0_row_16 : cX0_row.data.toList.drop 373 = dktX0_row_16 := dk_seg dksX0_row_15 24 rfl rfl
theorem dX0_row_0 : decode cX0_row 0 = .ok (.aload_n 0, 1) := dk_42 (dk_at dksX0_row_0 0 rfl rfl)
theorem dX0_row_1 : decode cX0_row 1 = .ok (.getfield 122, 3) := dk_180 0 122 (dk_at dksX0_row_0 1 rfl rfl)
theorem dX0_row_4 : decode cX0_row 4 = .ok (.ifCond .ne 10, 3) := dk_154 0 10 (dk_at dksX0_row_0 4 rfl rfl)
theorem dX0_row_7 : decode cX0_row 7 = .ok (.aload_n 0, 1) := dk_42 (dk_at dksX0_row_0 7 rfl rfl)
theorem dX0_row_8 : decode cX0_row 8 = .ok (.bipush (-6), 2) := dk_16 250 (dk_at dksX0_row_0 8 rfl rfl)
theorem dX0_row_10 : decode cX0_row 10 = .ok (.invokevirtual 133, 3) := dk_182 0 133 (dk_at dksX0_row_0 10 rfl rfl)
theorem dX0_row_13 : decode cX0_row 13 = .ok (.ireturn, 1) := dk_172 (dk_at dksX0_row_0 13 rfl rfl)
theorem dX0_row_14 : decode cX0_row 14 = .ok (.aload_n 0, 1) := dk_42 (dk_at dksX0_row_0 14 rfl rfl)
theorem dX0_row_15 : decode cX0_row 15 = .ok (.getfield 122, 3) := dk_180 0 122 (dk_at dksX0_row_0 15 rfl rfl)
theorem dX0_row_18 : decode cX0_row 18 = .ok (.newarray .byte, 2) := dk_188_8 (dk_at dksX0_row_0 18 rfl rfl)
theorem dX0_row_20 : decode cX0_row 20 = .ok (.astore_n 1, 1) := dk_76 (dk_at dksX0_row_0 20 rfl rfl)
theorem dX0_row_21 : decode cX0_row 21 = .ok (.aload_n 0, 1) := dk_42 (dk_at dksX0_row_0 21 rfl rfl)
theorem dX0_row_22 : decode cX0_row 22 = .ok (.getfield 89, 3) := dk_180 0 89 (dk_at dksX0_row_1 0 rfl rfl)
theorem dX0_row_25 : decode cX0_row 25 = .ok (.iconst 0, 1) := dk_3 (dk_at dksX0_row_1 3 rfl rfl)
theorem dX0_row_26 : decode cX0_row 26 = .ok (.aload_n 1, 1) := dk_43 (dk_at dksX0_row_1 4 rfl rfl)
theorem dX0_row_27 : decode cX0_row 27 = .ok (.iconst 0, 1) := dk_3 (dk_at dksX0_row_1 5 rfl rfl)
theorem dX0_row_28 : decode cX0_row 28 = .ok (.aload_n 0, 1) := dk_42 (dk_at dksX0_row_1 6 rfl rfl)
theorem dX0_row_29 : decode cX0_row 29 = .ok (.getfield 122, 3) := dk_180 0 122 (dk_at dksX0_row_1 7 rfl rfl)
theorem dX0_row_32 : decode cX0_row 32 = .ok (.invokestatic 367, 3) := dk_184 1 111 (dk_at dksX0_row_1 10 rfl rfl)
theorem dX0_row_35 : decode cX0_row 35 = .ok (.aload_n 0, 1) := dk_42 (dk_at dksX0_row_1 13 rfl rfl)
theorem dX0_row_36 : decode cX0_row 36 = .ok (.iconst 0, 1) := dk_3 (dk_at dksX0_row_1 14 rfl rfl)
theorem dX0_row_37 : decode cX0_row 37 = .ok (.putfield 122, 3) := dk_181 0 122 (dk_at dksX0_row_1 15 rfl rfl)
theorem dX0_row_40 : decode cX0_row 40 = .ok (.aload_n 0, 1) := dk_42 (dk_at dksX0_row_1 18 rfl rfl)
theorem dX0_row_41 : decode cX0_row 41 = .ok (.iconst 0, 1) := dk_3 (dk_at dksX0_row_1 19 rfl rfl)
theorem dX0_row_42 : decode cX0_row 42 = .ok (.putfield 373, 3) := dk_181 1 117 (dk_at dksX0_row_1 20 rfl rfl)
theorem dX0_row_45 : decode cX0_row 45 = .ok (.iconst 0, 1) := dk_3 (dk_at dksX0_row_1 23 rfl rfl)
theorem dX0_row_46 : decode cX0_row 46 = .ok (.istore_n 2, 1) := dk_61 (dk_at dksX0_row_2 0 rfl rfl)
theorem dX0_row_47 : decode cX0_row 47 = .ok (.iconst 0, 1) := dk_3 (dk_at dksX0_row_2 1 rfl rfl)
theorem dX0_row_48 : decode cX0_row 48 = .ok (.istore_n 3, 1) := dk_62 (dk_at dksX0_row_2 2 rfl rfl)
theorem dX0_row_49 : decode cX0_row 49 = .ok (.iload_n 3, 1) := dk_29 (dk_at dksX0_row_2 3 rfl rfl)
theorem dX0_row_50 : decode cX0_row 50 = .ok (.aload_n 1, 1) := dk_43 (dk_at dksX0_row_2 4 rfl rfl)
theorem dX0_row_51 : decode cX0_row 51 = .ok (.arraylength, 1) := dk_190 (dk_at dksX0_row_2 5 rfl rfl)
theorem dX0_row_52 : decode cX0_row 52 = .ok (.if_icmp .ge 320, 3) := dk_162 1 64 (dk_at dksX0_row_2 6 rfl rfl)
theorem dX0_row_55 : decode cX0_row 55 = .ok (.iconst (-1), 1) := dk_2 (dk_at dksX0_row_2 9 rfl rfl)
theorem dX0_row_56 : decode cX0_row 56 = .ok (.istore 4, 2) := dk_54 4 (dk_at dksX0_row_2 10 rfl rfl)
theorem dX0_row_58 : decode cX0_row 58 = .ok (.aload_n 1, 1) := dk_43 (dk_at dksX0_row_2 12 rfl rfl)
theorem dX0_row_59 : decode cX0_row 59 = .ok (.iload_n 3, 1) := dk_29 (dk_at dksX0_row_2 13 rfl rfl)
theorem dX0_row_60 : decode cX0_row 60 = .ok (.invokestatic 376, 3) := dk_184 1 120 (dk_at dksX0_row_2 14 rfl rfl)
theorem dX0_row_63 : decode cX0_row 63 = .ok (.istore 4, 2) := dk_54 4 (dk_at dksX0_row_2 17 rfl rfl)
theorem dX0_row_65 : decode cX0_row 65 = .ok (.aload_n 0, 1) := dk_42 (dk_at dksX0_row_2 19 rfl rfl)
theorem dX0_row_66 : decode cX0_row 66 = .ok (.iload 4, 2) := dk_21 4 (dk_at dksX0_row_2 20 rfl rfl)
theorem dX0_row_68 : decode cX0_row 68 = .ok (.invokevirtual 358, 3) := dk_182 1 102 (dk_at dksX0_row_3 0 rfl rfl)
theorem dX0_row_71 : decode cX0_row 71 = .ok (.ifCond .eq 19, 3) := dk_153 0 19 (dk_at dksX0_row_3 3 rfl rfl)
theorem dX0_row_74 : decode cX0_row 74 = .ok (.aload_n 0, 1) := dk_42 (dk_at dksX0_row_3 6 rfl rfl)
theorem dX0_row_75 : decode cX0_row 75 = .ok (.getfield 17, 3) := dk_180 0 17 (dk_at dksX0_row_3 7 rfl rfl)
theorem dX0_row_78 : decode cX0_row 78 = .ok (.getfield 361, 3) := dk_180 1 105 (dk_at dksX0_row_3 10 rfl rfl)
theorem dX0_row_81 : decode cX0_row 81 = .ok (.bipush 40, 2) := dk_16 40 (dk_at dksX0_row_3 13 rfl rfl)
theorem dX0_row_83 : decode cX0_row 83 = .ok (.if_icmp .ge 7, 3) := dk_162 0 7 (dk_at dksX0_row_3 15 rfl rfl)
theorem dX0_row_86 : decode cX0_row 86 = .ok (.iconst 1, 1) := dk_4 (dk_at dksX0_row_3 18 rfl rfl)
theorem dX0_row_87 : decode cX0_row 87 = .ok (.goto 4, 3) := dk_167 0 4 (dk_at dksX0_row_3 19 rfl rfl)
theorem dX0_row_90 : decode cX0_row 90 = .ok (.iconst 0, 1) := dk_3 (dk_at dksX0_row_3 22 rfl rfl)
theorem dX0_row_91 : decode cX0_row 91 = .ok (.istore 5, 2) := dk_54 5 (dk_at dksX0_row_4 0 rfl rfl)
theorem dX0_row_93 : decode cX0_row 93 = .ok (.iload 5, 2) := dk_21 5 (dk_at dksX0_row_4 2 rfl rfl)
theorem dX0_row_95 : decode cX0_row 95 = .ok (.ifCond .eq 33, 3) := dk_153 0 33 (dk_at dksX0_row_4 4 rfl rfl)
theorem dX0_row_98 : decode cX0_row 98 = .ok (.aload_n 0, 1) := dk_42 (dk_at dksX0_row_4 7 rfl rfl)
theorem dX0_row_99 : decode cX0_row 99 = .ok (.getfield 17, 3) := dk_180 0 17 (dk_at dksX0_row_4 8 rfl rfl)
theorem dX0_row_102 : decode cX0_row 102 = .ok (.getfield 364, 3) := dk_180 1 108 (dk_at dksX0_row_4 11 rfl rfl)
theorem dX0_row_105 : decode cX0_row 105 = .ok (.aload_n 0, 1) := dk_42 (dk_at dksX0_row_4 14 rfl rfl)
theorem dX0_row_106 : decode cX0_row 106 = .ok (.getfield 17, 3) := dk_180 0 17 (dk_at dksX0_row_4 15 rfl rfl)
theorem dX0_row_109 : decode cX0_row 109 = .ok (.getfield 361, 3) := dk_180 1 105 (dk_at dksX0_row_4 18 rfl rfl)
theorem dX0_row_112 : decode cX0_row 112 = .ok (.iload 4, 2) := dk_21 4 (dk_at dksX0_row_4 21 rfl rfl)
theorem dX0_row_114 : decode cX0_row 114 = .ok (.iastore, 1) := dk_79 (dk_at dksX0_row_4 23 rfl rfl)
theorem dX0_row_115 : decode cX0_row 115 = .ok (.aload_n 0, 1) := dk_42 (dk_at dksX0_row_5 0 rfl rfl)
theorem dX0_row_116 : decode cX0_row 116 = .ok (.getfield 17, 3) := dk_180 0 17 (dk_at dksX0_row_5 1 rfl rfl)
theorem dX0_row_119 : decode cX0_row 119 = .ok (.dup, 1) := dk_89 (dk_at dksX0_row_5 4 rfl rfl)
theorem dX0_row_120 : decode cX0_row 120 = .ok (.getfield 361, 3) := dk_180 1 105 (dk_at dksX0_row_5 5 rfl rfl)
theorem dX0_row_123 : decode cX0_row 123 = .ok (.iconst 1, 1) := dk_4 (dk_at dksX0_row_5 8 rfl rfl)
theorem dX0_row_124 : decode cX0_row 124 = .ok (.iadd, 1) := dk_96 (dk_at dksX0_row_5 9 rfl rfl)
theorem dX0_row_125 : decode cX0_row 125 = .ok (.putfield 361, 3) := dk_181 1 105 (dk_at dksX0_row_5 10 rfl rfl)
theorem dX0_row_128 : decode cX0_row 128 = .ok (.iload_n 2, 1) := dk_28 (dk_at dksX0_row_5 13 rfl rfl)
theorem dX0_row_129 : decode cX0_row 129 = .ok (.iload 5, 2) := dk_21 5 (dk_at dksX0_row_5 14 rfl rfl)
theorem dX0_row_131 : decode cX0_row 131 = .ok (.ifCond .eq 7, 3) := dk_153 0 7 (dk_at dksX0_row_5 16 rfl rfl)
theorem dX0_row_134 : decode cX0_row 134 = .ok (.iconst 1, 1) := dk_4 (dk_at dksX0_row_5 19 rfl rfl)
theorem dX0_row_135 : decode cX0_row 135 = .ok (.goto 4, 3) := dk_167 0 4 (dk_at dksX0_row_5 20 rfl rfl)
theorem dX0_row_138 : decode cX0_row 138 = .ok (.iconst 0, 1) := dk_3 (dk_at dksX0_row_5 23 rfl rfl)
theorem dX0_row_139 : decode cX0_row 139 = .ok (.iadd, 1) := dk_96 (dk_at dksX0_row_6 0 rfl rfl)
theorem dX0_row_140 : decode cX0_row 140 = .ok (.istore_n 2, 1) := dk_61 (dk_at dksX0_row_6 1 rfl rfl)
theorem dX0_row_141 : decode cX0_row 141 = .ok (.aload_n 0, 1) := dk_42 (dk_at dksX0_row_6 2 rfl rfl)
theorem dX0_row_142 : decode cX0_row 142 = .ok (.dup, 1) := dk_89 (dk_at dksX0_row_6 3 rfl rfl)
theorem dX0_row_143 : decode cX0_row 143 = .ok (.getfield 373, 3) := dk_180 1 117 (dk_at dksX0_row_6 4 rfl rfl)
theorem dX0_row_146 : decode cX0_row 146 = .ok (.iload 5, 2) := dk_21 5 (dk_at dksX0_row_6 7 rfl rfl)
theorem dX0_row_148 : decode cX0_row 148 = .ok (.ifCond .eq 7, 3) := dk_153 0 7 (dk_at dksX0_row_6 9 rfl rfl)
theorem dX0_row_151 : decode cX0_row 151 = .ok (.iconst 0, 1) := dk_3 (dk_at dksX0_row_6 12 rfl rfl)
theorem dX0_row_152 : decode cX0_row 152 = .ok (.goto 4, 3) := dk_167 0 4 (dk_at dksX0_row_6 13 rfl rfl)
theorem dX0_row_155 : decode cX0_row 155 = .ok (.iconst 1, 1) := dk_4 (dk_at dksX0_row_6 16 rfl rfl)
theorem dX0_row_156 : decode cX0_row 156 = .ok (.iadd, 1) := dk_96 (dk_at dksX0_row_6 17 rfl rfl)
theorem dX0_row_157 : decode cX0_row 157 = .ok (.putfield 373, 3) := dk_181 1 117 (dk_at dksX0_row_6 18 rfl rfl)
theorem dX0_row_160 : decode cX0_row 160 = .ok (.goto 206, 3) := dk_167 0 206 (dk_at dksX0_row_6 21 rfl rfl)
theorem dX0_row_163 : decode cX0_row 163 = .ok (.astore 5, 2) := dk_58 5 (dk_at dksX0_row_7 0 rfl rfl)
theorem dX0_row_165 : decode cX0_row 165 = .ok (.iconst (-1), 1) := dk_2 (dk_at dksX0_row_7 2 rfl rfl)
theorem dX0_row_166 : decode cX0_row 166 = .ok (.istore 4, 2) := dk_54 4 (dk_at dksX0_row_7 3 rfl rfl)
theorem dX0_row_168 : decode cX0_row 168 = .ok (.aload_n 0, 1) := dk_42 (dk_at dksX0_row_7 5 rfl rfl)
theorem dX0_row_169 : decode cX0_row 169 = .ok (.iload 4, 2) := dk_21 4 (dk_at dksX0_row_7 6 rfl rfl)
theorem dX0_row_171 : decode cX0_row 171 = .ok (.invokevirtual 358, 3) := dk_182 1 102 (dk_at dksX0_row_7 8 rfl rfl)
theorem dX0_row_174 : decode cX0_row 174 = .ok (.ifCond .eq 19, 3) := dk_153 0 19 (dk_at dksX0_row_7 11 rfl rfl)
theorem dX0_row_177 : decode cX0_row 177 = .ok (.aload_n 0, 1) := dk_42 (dk_at dksX0_row_7 14 rfl rfl)
theorem dX0_row_178 : decode cX0_row 178 = .ok (.getfield 17, 3) := dk_180 0 17 (dk_at dksX0_row_7 15 rfl rfl)
theorem dX0_row_181 : decode cX0_row 181 = .ok (.getfield 361, 3) := dk_180 1 105 (dk_at dksX0_row_7 18 rfl rfl)
theorem dX0_row_184 : decode cX0_row 184 = .ok (.bipush 40, 2) := dk_16 40 (dk_at dksX0_row_7 21 rfl rfl)
theorem dX0_row_186 : decode cX0_row 186 = .ok (.if_icmp .ge 7, 3) := dk_162 0 7 (dk_at dksX0_row_8 0 rfl rfl)
theorem dX0_row_189 : decode cX0_row 189 = .ok (.iconst 1, 1) := dk_4 (dk_at dksX0_row_8 3 rfl rfl)
theorem dX0_row_190 : decode cX0_row 190 = .ok (.goto 4, 3) := dk_167 0 4 (dk_at dksX0_row_8 4 rfl rfl)
theorem dX0_row_193 : decode cX0_row 193 = .ok (.iconst 0, 1) := dk_3 (dk_at dksX0_row_8 7 rfl rfl)
theorem dX0_row_194 : decode cX0_row 194 = .ok (.istore 5, 2) := dk_54 5 (dk_at dksX0_row_8 8 rfl rfl)
theorem dX0_row_196 : decode cX0_row 196 = .ok (.iload 5, 2) := dk_21 5 (dk_at dksX0_row_8 10 rfl rfl)
theorem dX0_row_198 : decode cX0_row 198 = .ok (.ifCond .eq 33, 3) := dk_153 0 33 (dk_at dksX0_row_8 12 rfl rfl)
theorem dX0_row_201 : decode cX0_row 201 = .ok (.aload_n 0, 1) := dk_42 (dk_at dksX0_row_8 15 rfl rfl)
theorem dX0_row_202 : decode cX0_row 202 = .ok (.getfield 17, 3) := dk_180 0 17 (dk_at dksX0_row_8 16 rfl rfl)
theorem dX0_row_205 : decode cX0_row 205 = .ok (.getfield 364, 3) := dk_180 1 108 (dk_at dksX0_row_8 19 rfl rfl)
theorem dX0_row_208 : decode cX0_row 208 = .ok (.aload_n 0, 1) := dk_42 (dk_at dksX0_row_8 22 rfl rfl)
theorem dX0_row_209 : decode cX0_row 209 = .ok (.getfield 17, 3) := dk_180 0 17 (dk_at dksX0_row_9 0 rfl rfl)
theorem dX0_row_212 : decode cX0_row 212 = .ok (.getfield 361, 3) := dk_180 1 105 (dk_at dksX0_row_9 3 rfl rfl)
theorem dX0_row_215 : decode cX0_row 215 = .ok (.iload 4, 2) := dk_21 4 (dk_at dksX0_row_9 6 rfl rfl)
theorem dX0_row_217 : decode cX0_row 217 = .ok (.iastore, 1) := dk_79 (dk_at dksX0_row_9 8 rfl rfl)
theorem dX0_row_218 : decode cX0_row 218 = .ok (.aload_n 0, 1) := dk_42 (dk_at dksX0_row_9 9 rfl rfl)
theorem dX0_row_219 : decode cX0_row 219 = .ok (.getfield 17, 3) := dk_180 0 17 (dk_at dksX0_row_9 10 rfl rfl)
theorem dX0_row_222 : decode cX0_row 222 = .ok (.dup, 1) := dk_89 (dk_at dksX0_row_9 13 rfl rfl)
theorem dX0_row_223 : decode cX0_row 223 = .ok (.getfield 361, 3) := dk_180 1 105 (dk_at dksX0_row_9 14 rfl rfl)
theorem dX0_row_226 : decode cX0_row 226 = .ok (.iconst 1, 1) := dk_4 (dk_at dksX0_row_9 17 rfl rfl)
theorem dX0_row_227 : decode cX0_row 227 = .ok (.iadd, 1) := dk_96 (dk_at dksX0_row_9 18 rfl rfl)
theorem dX0_row_228 : decode cX0_row 228 = .ok (.putfield 361, 3) := dk_181 1 105 (dk_at dksX0_row_9 19 rfl rfl)
theorem dX0_row_231 : decode cX0_row 231 = .ok (.iload_n 2, 1) := dk_28 (dk_at dksX0_row_9 22 rfl rfl)
theorem dX0_row_232 : decode cX0_row 232 = .ok (.iload 5, 2) := dk_21 5 (dk_at dksX0_row_10 0 rfl rfl)
theorem dX0_row_234 : decode cX0_row 234 = .ok (.ifCond .eq 7, 3) := dk_153 0 7 (dk_at dksX0_row_10 2 rfl rfl)
theorem dX0_row_237 : decode cX0_row 237 = .ok (.iconst 1, 1) := dk_4 (dk_at dksX0_row_10 5 rfl rfl)
theorem dX0_row_238 : decode cX0_row 238 = .ok (.goto 4, 3) := dk_167 0 4 (dk_at dksX0_row_10 6 rfl rfl)
theorem dX0_row_241 : decode cX0_row 241 = .ok (.iconst 0, 1) := dk_3 (dk_at dksX0_row_10 9 rfl rfl)
theorem dX0_row_242 : decode cX0_row 242 = .ok (.iadd, 1) := dk_96 (dk_at dksX0_row_10 10 rfl rfl)
theorem dX0_row_243 : decode cX0_row 243 = .ok (.istore_n 2, 1) := dk_61 (dk_at dksX0_row_10 11 rfl rfl)
theorem dX0_row_244 : decode cX0_row 244 = .ok (.aload_n 0, 1) := dk_42 (dk_at dksX0_row_10 12 rfl rfl)
theorem dX0_row_245 : decode cX0_row 245 = .ok (.dup, 1) := dk_89 (dk_at dksX0_row_10 13 rfl rfl)
theorem dX0_row_246 : decode cX0_row 246 = .ok (.getfield 373, 3) := dk_180 1 117 (dk_at dksX0_row_10 14 rfl rfl)
theorem dX0_row_249 : decode cX0_row 249 = .ok (.iload 5, 2) := dk_21 5 (dk_at dksX0_row_10 17 rfl rfl)
theorem dX0_row_251 : decode cX0_row 251 = .ok (.ifCond .eq 7, 3) := dk_153 0 7 (dk_at dksX0_row_10 19 rfl rfl)
theorem dX0_row_254 : decode cX0_row 254 = .ok (.iconst 0, 1) := dk_3 (dk_at dksX0_row_10 22 rfl rfl)
theorem dX0_row_255 : decode cX0_row 255 = .ok (.goto 4, 3) := dk_167 0 4 (dk_at dksX0_row_11 0 rfl rfl)
theorem dX0_row_258 : decode cX0_row 258 = .ok (.iconst 1, 1) := dk_4 (dk_at dksX0_row_11 3 rfl rfl)
theorem dX0_row_259 : decode cX0_row 259 = .ok (.iadd, 1) := dk_96 (dk_at dksX0_row_11 4 rfl rfl)
theorem dX0_row_260 : decode cX0_row 260 = .ok (.putfield 373, 3) := dk_181 1 117 (dk_at dksX0_row_11 5 rfl rfl)
theorem dX0_row_263 : decode cX0_row 263 = .ok (.goto 103, 3) := dk_167 0 103 (dk_at dksX0_row_11 8 rfl rfl)
theorem dX0_row_266 : decode cX0_row 266 = .ok (.astore 6, 2) := dk_58 6 (dk_at dksX0_row_11 11 rfl rfl)
theorem dX0_row_268 : decode cX0_row 268 = .ok (.aload_n 0, 1) := dk_42 (dk_at dksX0_row_11 13 rfl rfl)
theorem dX0_row_269 : decode cX0_row 269 = .ok (.iload 4, 2) := dk_21 4 (dk_at dksX0_row_11 14 rfl rfl)
theorem dX0_row_271 : decode cX0_row 271 = .ok (.invokevirtual 358, 3) := dk_182 1 102 (dk_at dksX0_row_11 16 rfl rfl)
theorem dX0_row_274 : decode cX0_row 274 = .ok (.ifCond .eq 19, 3) := dk_153 0 19 (dk_at dksX0_row_11 19 rfl rfl)
theorem dX0_row_277 : decode cX0_row 277 = .ok (.aload_n 0, 1) := dk_42 (dk_at dksX0_row_11 22 rfl rfl)
theorem dX0_row_278 : decode cX0_row 278 = .ok (.getfield 17, 3) := dk_180 0 17 (dk_at dksX0_row_12 0 rfl rfl)
theorem dX0_row_281 : decode cX0_row 281 = .ok (.getfield 361, 3) := dk_180 1 105 (dk_at dksX0_row_12 3 rfl rfl)
theorem dX0_row_284 : decode cX0_row 284 = .ok (.bipush 40, 2) := dk_16 40 (dk_at dksX0_row_12 6 rfl rfl)
theorem dX0_row_286 : decode cX0_row 286 = .ok (.if_icmp .ge 7, 3) := dk_162 0 7 (dk_at dksX0_row_12 8 rfl rfl)
theorem dX0_row_289 : decode cX0_row 289 = .ok (.iconst 1, 1) := dk_4 (dk_at dksX0_row_12 11 rfl rfl)
theorem dX0_row_290 : decode cX0_row 290 = .ok (.goto 4, 3) := dk_167 0 4 (dk_at dksX0_row_12 12 rfl rfl)
theorem dX0_row_293 : decode cX0_row 293 = .ok (.iconst 0, 1) := dk_3 (dk_at dksX0_row_12 15 rfl rfl)
theorem dX0_row_294 : decode cX0_row 294 = .ok (.istore 7, 2) := dk_54 7 (dk_at dksX0_row_12 16 rfl rfl)
theorem dX0_row_296 : decode cX0_row 296 = .ok (.iload 7, 2) := dk_21 7 (dk_at dksX0_row_12 18 rfl rfl)
theorem dX0_row_298 : decode cX0_row 298 = .ok (.ifCond .eq 33, 3) := dk_153 0 33 (dk_at dksX0_row_12 20 rfl rfl)
theorem dX0_row_301 : decode cX0_row 301 = .ok (.aload_n 0, 1) := dk_42 (dk_at dksX0_row_12 23 rfl rfl)
theorem dX0_row_302 : decode cX0_row 302 = .ok (.getfield 17, 3) := dk_180 0 17 (dk_at dksX0_row_13 0 rfl rfl)
theorem dX0_row_305 : decode cX0_row 305 = .ok (.getfield 364, 3) := dk_180 1 108 (dk_at dksX0_row_13 3 rfl rfl)
theorem dX0_row_308 : decode cX0_row 308 = .ok (.aload_n 0, 1) := dk_42 (dk_at dksX0_row_13 6 rfl rfl)
theorem dX0_row_309 : decode cX0_row 309 = .ok (.getfield 17, 3) := dk_180 0 17 (dk_at dksX0_row_13 7 rfl rfl)
theorem dX0_row_312 : decode cX0_row 312 = .ok (.getfield 361, 3) := dk_180 1 105 (dk_at dksX0_row_13 10 rfl rfl)
theorem dX0_row_315 : decode cX0_row 315 = .ok (.iload 4, 2) := dk_21 4 (dk_at dksX0_row_13 13 rfl rfl)
theorem dX0_row_317 : decode cX0_row 317 = .ok (.iastore, 1) := dk_79 (dk_at dksX0_row_13 15 rfl rfl)
theorem dX0_row_318 : decode cX0_row 318 = .ok (.aload_n 0, 1) := dk_42 (dk_at dksX0_row_13 16 rfl rfl)
theorem dX0_row_319 : decode cX0_row 319 = .ok (.getfield 17, 3) := dk_180 0 17 (dk_at dksX0_row_13 17 rfl rfl)
theorem dX0_row_322 : decode cX0_row 322 = .ok (.dup, 1) := dk_89 (dk_at dksX0_row_13 20 rfl rfl)
theorem dX0_row_323 : decode cX0_row 323 = .ok (.getfield 361, 3) := dk_180 1 105 (dk_at dksX0_row_13 21 rfl rfl)
theorem dX0_row_326 : decode cX0_row 326 = .ok (.iconst 1, 1) := dk_4 (dk_at dksX0_row_14 0 rfl rfl)
theorem dX0_row_327 : decode cX0_row 327 = .ok (.iadd, 1) := dk_96 (dk_at dksX0_row_14 1 rfl rfl)
theorem dX0_row_328 : decode cX0_row 328 = .ok (.putfield 361, 3) := dk_181 1 105 (dk_at dksX0_row_14 2 rfl rfl)
theorem dX0_row_331 : decode cX0_row 331 = .ok (.iload_n 2, 1) := dk_28 (dk_at dksX0_row_14 5 rfl rfl)
theorem dX0_row_332 : decode cX0_row 332 = .ok (.iload 7, 2) := dk_21 7 (dk_at dksX0_row_14 6 rfl rfl)
theorem dX0_row_334 : decode cX0_row 334 = .ok (.ifCond .eq 7, 3) := dk_153 0 7 (dk_at dksX0_row_14 8 rfl rfl)
theorem dX0_row_337 : decode cX0_row 337 = .ok (.iconst 1, 1) := dk_4 (dk_at dksX0_row_14 11 rfl rfl)
theorem dX0_row_338 : decode cX0_row 338 = .ok (.goto 4, 3) := dk_167 0 4 (dk_at dksX0_row_14 12 rfl rfl)
theorem dX0_row_341 : decode cX0_row 341 = .ok (.iconst 0, 1) := dk_3 (dk_at dksX0_row_14 15 rfl rfl)
theorem dX0_row_342 : decode cX0_row 342 = .ok (.iadd, 1) := dk_96 (dk_at dksX0_row_14 16 rfl rfl)
theorem dX0_row_343 : decode cX0_row 343 = .ok (.istore_n 2, 1) := dk_61 (dk_at dksX0_row_14 17 rfl rfl)
theorem dX0_row_344 : decode cX0_row 344 = .ok (.aload_n 0, 1) := dk_42 (dk_at dksX0_row_14 18 rfl rfl)
theorem dX0_row_345 : decode cX0_row 345 = .ok (.dup, 1) := dk_89 (dk_at dksX0_row_14 19 rfl rfl)
theorem dX0_row_346 : decode cX0_row 346 = .ok (.getfield 373, 3) := dk_180 1 117 (dk_at dksX0_row_14 20 rfl rfl)
theorem dX0_row_349 : decode cX0_row 349 = .ok (.iload 7, 2) := dk_21 7 (dk_at dksX0_row_15 0 rfl rfl)
theorem dX0_row_351 : decode cX0_row 351 = .ok (.ifCond .eq 7, 3) := dk_153 0 7 (dk_at dksX0_row_15 2 rfl rfl)
theorem dX0_row_354 : decode cX0_row 354 = .ok (.iconst 0, 1) := dk_3 (dk_at dksX0_row_15 5 rfl rfl)
theorem dX0_row_355 : decode cX0_row 355 = .ok (.goto 4, 3) := dk_167 0 4 (dk_at dksX0_row_15 6 rfl rfl)
theorem dX0_row_358 : decode cX0_row 358 = .ok (.iconst 1, 1) := dk_4 (dk_at dksX0_row_15 9 rfl rfl)
theorem dX0_row_359 : decode cX0_row 359 = .ok (.iadd, 1) := dk_96 (dk_at dksX0_row_15 10 rfl rfl)
theorem dX0_row_360 : decode cX0_row 360 = .ok (.putfield 373, 3) := dk_181 1 117 (dk_at dksX0_row_15 11 rfl rfl)
theorem dX0_row_363 : decode cX0_row 363 = .ok (.aload 6, 2) := dk_25 6 (dk_at dksX0_row_15 14 rfl rfl)
theorem dX0_row_365 : decode cX0_row 365 = .ok (.athrow, 1) := dk_191 (dk_at dksX0_row_15 16 rfl rfl)
theorem dX0_row_366 : decode cX0_row 366 = .ok (.iinc 3 4, 3) := dk_132 3 4 (dk_at dksX0_row_15 17 rfl rfl)
theorem dX0_row_369 : decode cX0_row 369 = .ok (.goto (-320), 3) := dk_167 254 192 (dk_at dksX0_row_15 20 rfl rfl)
theorem dX0_row_372 : decode cX0_row 372 = .ok (.aload_n 0, 1) := dk_42 (dk_at dksX0_row_15 23 rfl rfl)
theorem dX0_row_373 : decode cX0_row 373 = .ok (.iload_n 2, 1) := dk_28 (dk_at dksX0_row_16 0 rfl rfl)
theorem dX0_row_374 : decode cX0_row 374 = .ok (.invokevirtual 133, 3) := dk_182 0 133 (dk_at dksX0_row_16 1 rfl rfl)
theorem dX0_row_377 : decode cX0_row 377 = .ok (.ireturn, 1) := dk_172 (dk_at dksX0_row_16 4 rfl rfl)
abbrev cX0_intAt : ByteArray := prog_1_method_56_code
def yX0_intAt : MethodName := ⟨RX0, "intAt", "([BI)I"⟩
def dkwX0_intAt_1 : List UInt8 := [17, 0, 255, 126, 16, 8, 120, 128, 42, 27, 6, 96, 51, 17, 0, 255, 126, 128, 172]
abbrev dktX0_intAt_1 : List UInt8 := dkwX0_intAt_1 ++ []
def dkwX0_intAt_0 : List UInt8 := [42, 27, 51, 16, 24, 120, 42, 27, 4, 96, 51, 17, 0, 255, 126, 16, 16, 120, 128, 42, 27, 5, 96, 51]
abbrev dktX0_intAt_0 : List UInt8 := dkwX0_intAt_0 ++ dktX0_intAt_1
theorem dksX0_intAt_0 : cX0_intAt.data.toList.drop 0 = dktX0_intAt_0 := by decide +kernel
theorem dksX0_intAt_1 : cX0_intAt.data.toList.drop 24 = dktX0_intAt_1 := dk_seg dksX0_intAt_0 24 rfl rfl
theorem dX0_intAt_0 : decode cX0_intAt 0 = .ok (.aload_n 0, 1) := dk_42 (dk_at dksX0_intAt_0 0 rfl rfl)
theorem dX0_intAt_1 : decode cX0_intAt 1 = .ok (.iload_n 1, 1) := dk_27 (dk_at dksX0_intAt_0 1 rfl rfl)
theorem dX0_intAt_2 : decode cX0_intAt 2 = .ok (.baload, 1) := dk_51 (dk_at dksX0_intAt_0 2 rfl rfl)
theorem dX0_intAt_3 : decode cX0_intAt 3 = .ok (.bipush 24, 2) := dk_16 24 (dk_at dksX0_intAt_0 3 rfl rfl)
theorem dX0_intAt_5 : decode cX0_intAt 5 = .ok (.ishl, 1) := dk_120 (dk_at dksX0_intAt_0 5 rfl rfl)
theorem dX0_intAt_6 : decode cX0_intAt 6 = .ok (.aload_n 0, 1) := dk_42 (dk_at dksX0_intAt_0 6 rfl rfl)
theorem dX0_intAt_7 : decode cX0_intAt 7 = .ok (.iload_n 1, 1) := dk_27 (dk_at dksX0_intAt_0 7 rfl rfl)
theorem dX0_intAt_8 : decode cX0_intAt 8 = .ok (.iconst 1, 1) := dk_4 (dk_at dksX0_intAt_0 8 rfl rfl)
theorem dX0_intAt_9 : decode cX0_intAt 9 = .ok (.iadd, 1) := dk_96 (dk_at dksX0_intAt_0 9 rfl rfl)
theorem dX0_intAt_10 : decode cX0_intAt 10 = .ok (.baload, 1) := dk_51 (dk_at dksX0_intAt_0 10 rfl rfl)
theorem dX0_intAt_11 : decode cX0_intAt 11 = .ok (.sipush 255, 3) := dk_17 0 255 (dk_at dksX0_intAt_0 11 rfl rfl)
theorem dX0_intAt_14 : decode cX0_intAt 14 = .ok (.iand, 1) := dk_126 (dk_at dksX0_intAt_0 14 rfl rfl)
theorem dX0_intAt_15 : decode cX0_intAt 15 = .ok (.bipush 16, 2) := dk_16 16 (dk_at dksX0_intAt_0 15 rfl rfl)
theorem dX0_intAt_17 : decode cX0_intAt 17 = .ok (.ishl, 1) := dk_120 (dk_at dksX0_intAt_0 17 rfl rfl)
theorem dX0_intAt_18 : decode cX0_intAt 18 = .ok (.ior, 1) := dk_128 (dk_at dksX0_intAt_0 18 rfl rfl)
theorem dX0_intAt_19 : decode cX0_intAt 19 = .ok (.aload_n 0, 1) := dk_42 (dk_at dksX0_intAt_0 19 rfl rfl)
theorem dX0_intAt_20 : decode cX0_intAt 20 = .ok (.iload_n 1, 1) := dk_27 (dk_at dksX0_intAt_0 20 rfl rfl)
theorem dX0_intAt_21 : decode cX0_intAt 21 = .ok (.iconst 2, 1) := dk_5 (dk_at dksX0_intAt_0 21 rfl rfl)
theorem dX0_intAt_22 : decode cX0_intAt 22 = .ok (.iadd, 1) := dk_96 (dk_at dksX0_intAt_0 22 rfl rfl)
theorem dX0_intAt_23 : decode cX0_intAt 23 = .ok (.baload, 1) := dk_51 (dk_at dksX0_intAt_0 23 rfl rfl)
theorem dX0_intAt_24 : decode cX0_intAt 24 = .ok (.sipush 255, 3) := dk_17 0 255 (dk_at dksX0_intAt_1 0 rfl rfl)
theorem dX0_intAt_27 : decode cX0_intAt 27 = .ok (.iand, 1) := dk_126 (dk_at dksX0_intAt_1 3 rfl rfl)
theorem dX0_intAt_28 : decode cX0_intAt 28 = .ok (.bipush 8, 2) := dk_16 8 (dk_at dksX0_intAt_1 4 rfl rfl)
theorem dX0_intAt_30 : decode cX0_intAt 30 = .ok (.ishl, 1) := dk_120 (dk_at dksX0_intAt_1 6 rfl rfl)
theorem dX0_intAt_31 : decode cX0_intAt 31 = .ok (.ior, 1) := dk_128 (dk_at dksX0_intAt_1 7 rfl rfl)
theorem dX0_intAt_32 : decode cX0_intAt 32 = .ok (.aload_n 0, 1) := dk_42 (dk_at dksX0_intAt_1 8 rfl rfl)
theorem dX0_intAt_33 : decode cX0_intAt 33 = .ok (.iload_n 1, 1) := dk_27 (dk_at dksX0_intAt_1 9 rfl rfl)
theorem dX0_intAt_34 : decode cX0_intAt 34 = .ok (.iconst 3, 1) := dk_6 (dk_at dksX0_intAt_1 10 rfl rfl)
theorem dX0_intAt_35 : decode cX0_intAt 35 = .ok (.iadd, 1) := dk_96 (dk_at dksX0_intAt_1 11 rfl rfl)
theorem dX0_intAt_36 : decode cX0_intAt 36 = .ok (.baload, 1) := dk_51 (dk_at dksX0_intAt_1 12 rfl rfl)
theorem dX0_intAt_37 : decode cX0_intAt 37 = .ok (.sipush 255, 3) := dk_17 0 255 (dk_at dksX0_intAt_1 13 rfl rfl)
theorem dX0_intAt_40 : decode cX0_intAt 40 = .ok (.iand, 1) := dk_126 (dk_at dksX0_intAt_1 16 rfl rfl)
theorem dX0_intAt_41 : decode cX0_intAt 41 = .ok (.ior, 1) := dk_128 (dk_at dksX0_intAt_1 17 rfl rfl)
theorem dX0_intAt_42 : decode cX0_intAt 42 = .ok (.ireturn, 1) := dk_172 (dk_at dksX0_intAt_1 18 rfl rfl)
abbrev cX0_lost : ByteArray := prog_1_method_58_code
def yX0_lost : MethodName := ⟨RX0, "lost", "()I"⟩
theorem dX0_lost_0 : decode cX0_lost 0 = .ok (.aload_n 0, 1) := by decide +kernel
theorem dX0_lost_1 : decode cX0_lost 1 = .ok (.getfield 373, 3) := by decide +kernel
theorem dX0_lost_4 : decode cX0_lost 4 = .ok (.ireturn, 1) := by decide +kernel
abbrev cX0_drawn : ByteArray := prog_1_method_59_code
def yX0_drawn : MethodName := ⟨RX0, "drawn", "(II)I"⟩
def dkwX0_drawn_4 : List UInt8 := [167, 0, 5, 21, 4, 54, 4, 132, 5, 1, 167, 255, 179, 28, 154, 0, 7, 29, 167, 0, 5, 21, 4, 172]
abbrev dktX0_drawn_4 : List UInt8 := dkwX0_drawn_4 ++ []
def dkwX0_drawn_3 : List UInt8 := [4, 167, 0, 4, 3, 96, 62, 21, 6, 153, 0, 18, 42, 180, 0, 17, 180, 1, 105, 4, 100, 21, 5, 100]
abbrev dktX0_drawn_3 : List UInt8 := dkwX0_drawn_3 ++ dktX0_drawn_4
def dkwX0_drawn_2 : List UInt8 := [21, 5, 46, 27, 122, 4, 126, 4, 160, 0, 7, 4, 167, 0, 4, 3, 54, 6, 29, 21, 6, 153, 0, 7]
abbrev dktX0_drawn_2 : List UInt8 := dkwX0_drawn_2 ++ dktX0_drawn_3
def dkwX0_drawn_1 : List UInt8 := [54, 4, 3, 54, 5, 21, 5, 42, 180, 0, 17, 180, 1, 105, 162, 0, 71, 42, 180, 0, 17, 180, 1, 108]
abbrev dktX0_drawn_1 : List UInt8 := dkwX0_drawn_1 ++ dktX0_drawn_2
def dkwX0_drawn_0 : List UInt8 := [42, 27, 182, 0, 147, 198, 0, 13, 28, 133, 9, 10, 184, 0, 109, 154, 0, 5, 2, 172, 3, 62, 2]
abbrev dktX0_drawn_0 : List UInt8 := dkwX0_drawn_0 ++ dktX0_drawn_1
theorem dksX0_drawn_0 : cX0_drawn.data.toList.drop 0 = dktX0_drawn_0 := by decide +kernel
theorem dksX0_drawn_1 : cX0_drawn.data.toList.drop 23 = dktX0_drawn_1 := dk_seg dksX0_drawn_0 23 rfl rfl
theorem dksX0_drawn_2 : cX0_drawn.data.toList.drop 47 = dktX0_drawn_2 := dk_seg dksX0_drawn_1 24 rfl rfl
theorem dksX0_drawn_3 : cX0_drawn.data.toList.drop 71 = dktX0_drawn_3 := dk_seg dksX0_drawn_2 24 rfl rfl
theorem dksX0_drawn_4 : cX0_drawn.data.toList.drop 95 = dktX0_drawn_4 := dk_seg dksX0_drawn_3 24 rfl rfl
theorem dX0_drawn_0 : decode cX0_drawn 0 = .ok (.aload_n 0, 1) := dk_42 (dk_at dksX0_drawn_0 0 rfl rfl)
theorem dX0_drawn_1 : decode cX0_drawn 1 = .ok (.iload_n 1, 1) := dk_27 (dk_at dksX0_drawn_0 1 rfl rfl)
theorem dX0_drawn_2 : decode cX0_drawn 2 = .ok (.invokevirtual 147, 3) := dk_182 0 147 (dk_at dksX0_drawn_0 2 rfl rfl)
theorem dX0_drawn_5 : decode cX0_drawn 5 = .ok (.ifnull 13, 3) := dk_198 0 13 (dk_at dksX0_drawn_0 5 rfl rfl)
theorem dX0_drawn_8 : decode cX0_drawn 8 = .ok (.iload_n 2, 1) := dk_28 (dk_at dksX0_drawn_0 8 rfl rfl)
theorem dX0_drawn_9 : decode cX0_drawn 9 = .ok (.i2l, 1) := dk_133 (dk_at dksX0_drawn_0 9 rfl rfl)
theorem dX0_drawn_10 : decode cX0_drawn 10 = .ok (.lconst 0, 1) := dk_9 (dk_at dksX0_drawn_0 10 rfl rfl)
theorem dX0_drawn_11 : decode cX0_drawn 11 = .ok (.lconst 1, 1) := dk_10 (dk_at dksX0_drawn_0 11 rfl rfl)
theorem dX0_drawn_12 : decode cX0_drawn 12 = .ok (.invokestatic 109, 3) := dk_184 0 109 (dk_at dksX0_drawn_0 12 rfl rfl)
theorem dX0_drawn_15 : decode cX0_drawn 15 = .ok (.ifCond .ne 5, 3) := dk_154 0 5 (dk_at dksX0_drawn_0 15 rfl rfl)
theorem dX0_drawn_18 : decode cX0_drawn 18 = .ok (.iconst (-1), 1) := dk_2 (dk_at dksX0_drawn_0 18 rfl rfl)
theorem dX0_drawn_19 : decode cX0_drawn 19 = .ok (.ireturn, 1) := dk_172 (dk_at dksX0_drawn_0 19 rfl rfl)
theorem dX0_drawn_20 : decode cX0_drawn 20 = .ok (.iconst 0, 1) := dk_3 (dk_at dksX0_drawn_0 20 rfl rfl)
theorem dX0_drawn_21 : decode cX0_drawn 21 = .ok (.istore_n 3, 1) := dk_62 (dk_at dksX0_drawn_0 21 rfl rfl)
theorem dX0_drawn_22 : decode cX0_drawn 22 = .ok (.iconst (-1), 1) := dk_2 (dk_at dksX0_drawn_0 22 rfl rfl)
theorem dX0_drawn_23 : decode cX0_drawn 23 = .ok (.istore 4, 2) := dk_54 4 (dk_at dksX0_drawn_1 0 rfl rfl)
theorem dX0_drawn_25 : decode cX0_drawn 25 = .ok (.iconst 0, 1) := dk_3 (dk_at dksX0_drawn_1 2 rfl rfl)
theorem dX0_drawn_26 : decode cX0_drawn 26 = .ok (.istore 5, 2) := dk_54 5 (dk_at dksX0_drawn_1 3 rfl rfl)
theorem dX0_drawn_28 : decode cX0_drawn 28 = .ok (.iload 5, 2) := dk_21 5 (dk_at dksX0_drawn_1 5 rfl rfl)
theorem dX0_drawn_30 : decode cX0_drawn 30 = .ok (.aload_n 0, 1) := dk_42 (dk_at dksX0_drawn_1 7 rfl rfl)
theorem dX0_drawn_31 : decode cX0_drawn 31 = .ok (.getfield 17, 3) := dk_180 0 17 (dk_at dksX0_drawn_1 8 rfl rfl)
theorem dX0_drawn_34 : decode cX0_drawn 34 = .ok (.getfield 361, 3) := dk_180 1 105 (dk_at dksX0_drawn_1 11 rfl rfl)
theorem dX0_drawn_37 : decode cX0_drawn 37 = .ok (.if_icmp .ge 71, 3) := dk_162 0 71 (dk_at dksX0_drawn_1 14 rfl rfl)
theorem dX0_drawn_40 : decode cX0_drawn 40 = .ok (.aload_n 0, 1) := dk_42 (dk_at dksX0_drawn_1 17 rfl rfl)
theorem dX0_drawn_41 : decode cX0_drawn 41 = .ok (.getfield 17, 3) := dk_180 0 17 (dk_at dksX0_drawn_1 18 rfl rfl)
theorem dX0_drawn_44 : decode cX0_drawn 44 = .ok (.getfield 364, 3) := dk_180 1 108 (dk_at dksX0_drawn_1 21 rfl rfl)
theorem dX0_drawn_47 : decode cX0_drawn 47 = .ok (.iload 5, 2) := dk_21 5 (dk_at dksX0_drawn_2 0 rfl rfl)
theorem dX0_drawn_49 : decode cX0_drawn 49 = .ok (.iaload, 1) := dk_46 (dk_at dksX0_drawn_2 2 rfl rfl)
theorem dX0_drawn_50 : decode cX0_drawn 50 = .ok (.iload_n 1, 1) := dk_27 (dk_at dksX0_drawn_2 3 rfl rfl)
theorem dX0_drawn_51 : decode cX0_drawn 51 = .ok (.ishr, 1) := dk_122 (dk_at dksX0_drawn_2 4 rfl rfl)
theorem dX0_drawn_52 : decode cX0_drawn 52 = .ok (.iconst 1, 1) := dk_4 (dk_at dksX0_drawn_2 5 rfl rfl)
theorem dX0_drawn_53 : decode cX0_drawn 53 = .ok (.iand, 1) := dk_126 (dk_at dksX0_drawn_2 6 rfl rfl)
theorem dX0_drawn_54 : decode cX0_drawn 54 = .ok (.iconst 1, 1) := dk_4 (dk_at dksX0_drawn_2 7 rfl rfl)
theorem dX0_drawn_55 : decode cX0_drawn 55 = .ok (.if_icmp .ne 7, 3) := dk_160 0 7 (dk_at dksX0_drawn_2 8 rfl rfl)
theorem dX0_drawn_58 : decode cX0_drawn 58 = .ok (.iconst 1, 1) := dk_4 (dk_at dksX0_drawn_2 11 rfl rfl)
theorem dX0_drawn_59 : decode cX0_drawn 59 = .ok (.goto 4, 3) := dk_167 0 4 (dk_at dksX0_drawn_2 12 rfl rfl)
theorem dX0_drawn_62 : decode cX0_drawn 62 = .ok (.iconst 0, 1) := dk_3 (dk_at dksX0_drawn_2 15 rfl rfl)
theorem dX0_drawn_63 : decode cX0_drawn 63 = .ok (.istore 6, 2) := dk_54 6 (dk_at dksX0_drawn_2 16 rfl rfl)
theorem dX0_drawn_65 : decode cX0_drawn 65 = .ok (.iload_n 3, 1) := dk_29 (dk_at dksX0_drawn_2 18 rfl rfl)
theorem dX0_drawn_66 : decode cX0_drawn 66 = .ok (.iload 6, 2) := dk_21 6 (dk_at dksX0_drawn_2 19 rfl rfl)
theorem dX0_drawn_68 : decode cX0_drawn 68 = .ok (.ifCond .eq 7, 3) := dk_153 0 7 (dk_at dksX0_drawn_2 21 rfl rfl)
theorem dX0_drawn_71 : decode cX0_drawn 71 = .ok (.iconst 1, 1) := dk_4 (dk_at dksX0_drawn_3 0 rfl rfl)
theorem dX0_drawn_72 : decode cX0_drawn 72 = .ok (.goto 4, 3) := dk_167 0 4 (dk_at dksX0_drawn_3 1 rfl rfl)
theorem dX0_drawn_75 : decode cX0_drawn 75 = .ok (.iconst 0, 1) := dk_3 (dk_at dksX0_drawn_3 4 rfl rfl)
theorem dX0_drawn_76 : decode cX0_drawn 76 = .ok (.iadd, 1) := dk_96 (dk_at dksX0_drawn_3 5 rfl rfl)
theorem dX0_drawn_77 : decode cX0_drawn 77 = .ok (.istore_n 3, 1) := dk_62 (dk_at dksX0_drawn_3 6 rfl rfl)
theorem dX0_drawn_78 : decode cX0_drawn 78 = .ok (.iload 6, 2) := dk_21 6 (dk_at dksX0_drawn_3 7 rfl rfl)
theorem dX0_drawn_80 : decode cX0_drawn 80 = .ok (.ifCond .eq 18, 3) := dk_153 0 18 (dk_at dksX0_drawn_3 9 rfl rfl)
theorem dX0_drawn_83 : decode cX0_drawn 83 = .ok (.aload_n 0, 1) := dk_42 (dk_at dksX0_drawn_3 12 rfl rfl)
theorem dX0_drawn_84 : decode cX0_drawn 84 = .ok (.getfield 17, 3) := dk_180 0 17 (dk_at dksX0_drawn_3 13 rfl rfl)
theorem dX0_drawn_87 : decode cX0_drawn 87 = .ok (.getfield 361, 3) := dk_180 1 105 (dk_at dksX0_drawn_3 16 rfl rfl)
theorem dX0_drawn_90 : decode cX0_drawn 90 = .ok (.iconst 1, 1) := dk_4 (dk_at dksX0_drawn_3 19 rfl rfl)
theorem dX0_drawn_91 : decode cX0_drawn 91 = .ok (.isub, 1) := dk_100 (dk_at dksX0_drawn_3 20 rfl rfl)
theorem dX0_drawn_92 : decode cX0_drawn 92 = .ok (.iload 5, 2) := dk_21 5 (dk_at dksX0_drawn_3 21 rfl rfl)
theorem dX0_drawn_94 : decode cX0_drawn 94 = .ok (.isub, 1) := dk_100 (dk_at dksX0_drawn_3 23 rfl rfl)
theorem dX0_drawn_95 : decode cX0_drawn 95 = .ok (.goto 5, 3) := dk_167 0 5 (dk_at dksX0_drawn_4 0 rfl rfl)
theorem dX0_drawn_98 : decode cX0_drawn 98 = .ok (.iload 4, 2) := dk_21 4 (dk_at dksX0_drawn_4 3 rfl rfl)
theorem dX0_drawn_100 : decode cX0_drawn 100 = .ok (.istore 4, 2) := dk_54 4 (dk_at dksX0_drawn_4 5 rfl rfl)
theorem dX0_drawn_102 : decode cX0_drawn 102 = .ok (.iinc 5 1, 3) := dk_132 5 1 (dk_at dksX0_drawn_4 7 rfl rfl)
theorem dX0_drawn_105 : decode cX0_drawn 105 = .ok (.goto (-77), 3) := dk_167 255 179 (dk_at dksX0_drawn_4 10 rfl rfl)
theorem dX0_drawn_108 : decode cX0_drawn 108 = .ok (.iload_n 2, 1) := dk_28 (dk_at dksX0_drawn_4 13 rfl rfl)
theorem dX0_drawn_109 : decode cX0_drawn 109 = .ok (.ifCond .ne 7, 3) := dk_154 0 7 (dk_at dksX0_drawn_4 14 rfl rfl)
theorem dX0_drawn_112 : decode cX0_drawn 112 = .ok (.iload_n 3, 1) := dk_29 (dk_at dksX0_drawn_4 17 rfl rfl)
theorem dX0_drawn_113 : decode cX0_drawn 113 = .ok (.goto 5, 3) := dk_167 0 5 (dk_at dksX0_drawn_4 18 rfl rfl)
theorem dX0_drawn_116 : decode cX0_drawn 116 = .ok (.iload 4, 2) := dk_21 4 (dk_at dksX0_drawn_4 21 rfl rfl)
theorem dX0_drawn_118 : decode cX0_drawn 118 = .ok (.ireturn, 1) := dk_172 (dk_at dksX0_drawn_4 23 rfl rfl)
abbrev cX0_seldom : ByteArray := prog_1_method_62_code
def yX0_seldom : MethodName := ⟨RX0, "seldom", "(I)I"⟩
def dkwX0_seldom_5 : List UInt8 := [167, 255, 226, 20, 1, 157, 21, 4, 133, 42, 182, 0, 13, 133, 105, 184, 1, 159, 136, 172]
abbrev dktX0_seldom_5 : List UInt8 := dkwX0_seldom_5 ++ []
def dkwX0_seldom_4 : List UInt8 := [162, 0, 27, 28, 154, 0, 23, 21, 4, 42, 21, 5, 45, 182, 1, 153, 184, 0, 93, 54, 4, 132, 5, 1]
abbrev dktX0_seldom_4 : List UInt8 := dkwX0_seldom_4 ++ dktX0_seldom_5
def dkwX0_seldom_3 : List UInt8 := [167, 0, 9, 42, 27, 45, 182, 1, 153, 172, 19, 1, 144, 54, 4, 3, 54, 5, 21, 5, 42, 182, 0, 13]
abbrev dktX0_seldom_3 : List UInt8 := dkwX0_seldom_3 ++ dktX0_seldom_4
def dkwX0_seldom_2 : List UInt8 := [153, 0, 7, 1, 167, 0, 7, 42, 182, 1, 149, 78, 27, 2, 159, 0, 20, 28, 153, 0, 9, 19, 1, 144]
abbrev dktX0_seldom_2 : List UInt8 := dkwX0_seldom_2 ++ dktX0_seldom_3
def dkwX0_seldom_1 : List UInt8 := [180, 0, 17, 180, 0, 174, 3, 46, 42, 182, 0, 13, 161, 0, 7, 4, 167, 0, 4, 3, 61, 28]
abbrev dktX0_seldom_1 : List UInt8 := dkwX0_seldom_1 ++ dktX0_seldom_2
def dkwX0_seldom_0 : List UInt8 := [27, 2, 159, 0, 11, 42, 27, 182, 0, 147, 198, 0, 10, 42, 182, 0, 13, 154, 0, 5, 2, 172, 42]
abbrev dktX0_seldom_0 : List UInt8 := dkwX0_seldom_0 ++ dktX0_seldom_1
theorem dksX0_seldom_0 : cX0_seldom.data.toList.drop 0 = dktX0_seldom_0 := by decide +kernel
theorem dksX0_seldom_1 : cX0_seldom.data.toList.drop 23 = dktX0_seldom_1 := dk_seg dksX0_seldom_0 23 rfl rfl
theorem dksX0_seldom_2 : cX0_seldom.data.toList.drop 45 = dktX0_seldom_2 := dk_seg dksX0_seldom_1 22 rfl rfl
theorem dksX0_seldom_3 : cX0_seldom.data.toList.drop 69 = dktX0_seldom_3 := dk_seg dksX0_seldom_2 24 rfl rfl
theorem dksX0_seldom_4 : cX0_seldom.data.toList.drop 93 = dktX0_seldom_4 := dk_seg dksX0_seldom_3 24 rfl rfl
theorem dksX0_seldom_5 : cX0_seldom.data.toList.drop 117 = dktX0_seldom_5 := dk_seg dksX0_seldom_4 24 rfl rfl
theorem dX0_seldom_0 : decode cX0_seldom 0 = .ok (.iload_n 1, 1) := dk_27 (dk_at dksX0_seldom_0 0 rfl rfl)
theorem dX0_seldom_1 : decode cX0_seldom 1 = .ok (.iconst (-1), 1) := dk_2 (dk_at dksX0_seldom_0 1 rfl rfl)
theorem dX0_seldom_2 : decode cX0_seldom 2 = .ok (.if_icmp .eq 11, 3) := dk_159 0 11 (dk_at dksX0_seldom_0 2 rfl rfl)
theorem dX0_seldom_5 : decode cX0_seldom 5 = .ok (.aload_n 0, 1) := dk_42 (dk_at dksX0_seldom_0 5 rfl rfl)
theorem dX0_seldom_6 : decode cX0_seldom 6 = .ok (.iload_n 1, 1) := dk_27 (dk_at dksX0_seldom_0 6 rfl rfl)
theorem dX0_seldom_7 : decode cX0_seldom 7 = .ok (.invokevirtual 147, 3) := dk_182 0 147 (dk_at dksX0_seldom_0 7 rfl rfl)
theorem dX0_seldom_10 : decode cX0_seldom 10 = .ok (.ifnull 10, 3) := dk_198 0 10 (dk_at dksX0_seldom_0 10 rfl rfl)
theorem dX0_seldom_13 : decode cX0_seldom 13 = .ok (.aload_n 0, 1) := dk_42 (dk_at dksX0_seldom_0 13 rfl rfl)
theorem dX0_seldom_14 : decode cX0_seldom 14 = .ok (.invokevirtual 13, 3) := dk_182 0 13 (dk_at dksX0_seldom_0 14 rfl rfl)
theorem dX0_seldom_17 : decode cX0_seldom 17 = .ok (.ifCond .ne 5, 3) := dk_154 0 5 (dk_at dksX0_seldom_0 17 rfl rfl)
theorem dX0_seldom_20 : decode cX0_seldom 20 = .ok (.iconst (-1), 1) := dk_2 (dk_at dksX0_seldom_0 20 rfl rfl)
theorem dX0_seldom_21 : decode cX0_seldom 21 = .ok (.ireturn, 1) := dk_172 (dk_at dksX0_seldom_0 21 rfl rfl)
theorem dX0_seldom_22 : decode cX0_seldom 22 = .ok (.aload_n 0, 1) := dk_42 (dk_at dksX0_seldom_0 22 rfl rfl)
theorem dX0_seldom_23 : decode cX0_seldom 23 = .ok (.getfield 17, 3) := dk_180 0 17 (dk_at dksX0_seldom_1 0 rfl rfl)
theorem dX0_seldom_26 : decode cX0_seldom 26 = .ok (.getfield 174, 3) := dk_180 0 174 (dk_at dksX0_seldom_1 3 rfl rfl)
theorem dX0_seldom_29 : decode cX0_seldom 29 = .ok (.iconst 0, 1) := dk_3 (dk_at dksX0_seldom_1 6 rfl rfl)
theorem dX0_seldom_30 : decode cX0_seldom 30 = .ok (.iaload, 1) := dk_46 (dk_at dksX0_seldom_1 7 rfl rfl)
theorem dX0_seldom_31 : decode cX0_seldom 31 = .ok (.aload_n 0, 1) := dk_42 (dk_at dksX0_seldom_1 8 rfl rfl)
theorem dX0_seldom_32 : decode cX0_seldom 32 = .ok (.invokevirtual 13, 3) := dk_182 0 13 (dk_at dksX0_seldom_1 9 rfl rfl)
theorem dX0_seldom_35 : decode cX0_seldom 35 = .ok (.if_icmp .lt 7, 3) := dk_161 0 7 (dk_at dksX0_seldom_1 12 rfl rfl)
theorem dX0_seldom_38 : decode cX0_seldom 38 = .ok (.iconst 1, 1) := dk_4 (dk_at dksX0_seldom_1 15 rfl rfl)
theorem dX0_seldom_39 : decode cX0_seldom 39 = .ok (.goto 4, 3) := dk_167 0 4 (dk_at dksX0_seldom_1 16 rfl rfl)
theorem dX0_seldom_42 : decode cX0_seldom 42 = .ok (.iconst 0, 1) := dk_3 (dk_at dksX0_seldom_1 19 rfl rfl)
theorem dX0_seldom_43 : decode cX0_seldom 43 = .ok (.istore_n 2, 1) := dk_61 (dk_at dksX0_seldom_1 20 rfl rfl)
theorem dX0_seldom_44 : decode cX0_seldom 44 = .ok (.iload_n 2, 1) := dk_28 (dk_at dksX0_seldom_1 21 rfl rfl)
theorem dX0_seldom_45 : decode cX0_seldom 45 = .ok (.ifCond .eq 7, 3) := dk_153 0 7 (dk_at dksX0_seldom_2 0 rfl rfl)
theorem dX0_seldom_48 : decode cX0_seldom 48 = .ok (.aconst_null, 1) := dk_1 (dk_at dksX0_seldom_2 3 rfl rfl)
theorem dX0_seldom_49 : decode cX0_seldom 49 = .ok (.goto 7, 3) := dk_167 0 7 (dk_at dksX0_seldom_2 4 rfl rfl)
theorem dX0_seldom_52 : decode cX0_seldom 52 = .ok (.aload_n 0, 1) := dk_42 (dk_at dksX0_seldom_2 7 rfl rfl)
theorem dX0_seldom_53 : decode cX0_seldom 53 = .ok (.invokevirtual 405, 3) := dk_182 1 149 (dk_at dksX0_seldom_2 8 rfl rfl)
theorem dX0_seldom_56 : decode cX0_seldom 56 = .ok (.astore_n 3, 1) := dk_78 (dk_at dksX0_seldom_2 11 rfl rfl)
theorem dX0_seldom_57 : decode cX0_seldom 57 = .ok (.iload_n 1, 1) := dk_27 (dk_at dksX0_seldom_2 12 rfl rfl)
theorem dX0_seldom_58 : decode cX0_seldom 58 = .ok (.iconst (-1), 1) := dk_2 (dk_at dksX0_seldom_2 13 rfl rfl)
theorem dX0_seldom_59 : decode cX0_seldom 59 = .ok (.if_icmp .eq 20, 3) := dk_159 0 20 (dk_at dksX0_seldom_2 14 rfl rfl)
theorem dX0_seldom_62 : decode cX0_seldom 62 = .ok (.iload_n 2, 1) := dk_28 (dk_at dksX0_seldom_2 17 rfl rfl)
theorem dX0_seldom_63 : decode cX0_seldom 63 = .ok (.ifCond .eq 9, 3) := dk_153 0 9 (dk_at dksX0_seldom_2 18 rfl rfl)
theorem dX0_seldom_66 : decode cX0_seldom 66 = .ok (.ldc_w 400, 3) := dk_19 1 144 (dk_at dksX0_seldom_2 21 rfl rfl)
theorem dX0_seldom_69 : decode cX0_seldom 69 = .ok (.goto 9, 3) := dk_167 0 9 (dk_at dksX0_seldom_3 0 rfl rfl)
theorem dX0_seldom_72 : decode cX0_seldom 72 = .ok (.aload_n 0, 1) := dk_42 (dk_at dksX0_seldom_3 3 rfl rfl)
theorem dX0_seldom_73 : decode cX0_seldom 73 = .ok (.iload_n 1, 1) := dk_27 (dk_at dksX0_seldom_3 4 rfl rfl)
theorem dX0_seldom_74 : decode cX0_seldom 74 = .ok (.aload_n 3, 1) := dk_45 (dk_at dksX0_seldom_3 5 rfl rfl)
theorem dX0_seldom_75 : decode cX0_seldom 75 = .ok (.invokevirtual 409, 3) := dk_182 1 153 (dk_at dksX0_seldom_3 6 rfl rfl)
theorem dX0_seldom_78 : decode cX0_seldom 78 = .ok (.ireturn, 1) := dk_172 (dk_at dksX0_seldom_3 9 rfl rfl)
theorem dX0_seldom_79 : decode cX0_seldom 79 = .ok (.ldc_w 400, 3) := dk_19 1 144 (dk_at dksX0_seldom_3 10 rfl rfl)
theorem dX0_seldom_82 : decode cX0_seldom 82 = .ok (.istore 4, 2) := dk_54 4 (dk_at dksX0_seldom_3 13 rfl rfl)
theorem dX0_seldom_84 : decode cX0_seldom 84 = .ok (.iconst 0, 1) := dk_3 (dk_at dksX0_seldom_3 15 rfl rfl)
theorem dX0_seldom_85 : decode cX0_seldom 85 = .ok (.istore 5, 2) := dk_54 5 (dk_at dksX0_seldom_3 16 rfl rfl)
theorem dX0_seldom_87 : decode cX0_seldom 87 = .ok (.iload 5, 2) := dk_21 5 (dk_at dksX0_seldom_3 18 rfl rfl)
theorem dX0_seldom_89 : decode cX0_seldom 89 = .ok (.aload_n 0, 1) := dk_42 (dk_at dksX0_seldom_3 20 rfl rfl)
theorem dX0_seldom_90 : decode cX0_seldom 90 = .ok (.invokevirtual 13, 3) := dk_182 0 13 (dk_at dksX0_seldom_3 21 rfl rfl)
theorem dX0_seldom_93 : decode cX0_seldom 93 = .ok (.if_icmp .ge 27, 3) := dk_162 0 27 (dk_at dksX0_seldom_4 0 rfl rfl)
theorem dX0_seldom_96 : decode cX0_seldom 96 = .ok (.iload_n 2, 1) := dk_28 (dk_at dksX0_seldom_4 3 rfl rfl)
theorem dX0_seldom_97 : decode cX0_seldom 97 = .ok (.ifCond .ne 23, 3) := dk_154 0 23 (dk_at dksX0_seldom_4 4 rfl rfl)
theorem dX0_seldom_100 : decode cX0_seldom 100 = .ok (.iload 4, 2) := dk_21 4 (dk_at dksX0_seldom_4 7 rfl rfl)
theorem dX0_seldom_102 : decode cX0_seldom 102 = .ok (.aload_n 0, 1) := dk_42 (dk_at dksX0_seldom_4 9 rfl rfl)
theorem dX0_seldom_103 : decode cX0_seldom 103 = .ok (.iload 5, 2) := dk_21 5 (dk_at dksX0_seldom_4 10 rfl rfl)
theorem dX0_seldom_105 : decode cX0_seldom 105 = .ok (.aload_n 3, 1) := dk_45 (dk_at dksX0_seldom_4 12 rfl rfl)
theorem dX0_seldom_106 : decode cX0_seldom 106 = .ok (.invokevirtual 409, 3) := dk_182 1 153 (dk_at dksX0_seldom_4 13 rfl rfl)
theorem dX0_seldom_109 : decode cX0_seldom 109 = .ok (.invokestatic 93, 3) := dk_184 0 93 (dk_at dksX0_seldom_4 16 rfl rfl)
theorem dX0_seldom_112 : decode cX0_seldom 112 = .ok (.istore 4, 2) := dk_54 4 (dk_at dksX0_seldom_4 19 rfl rfl)
theorem dX0_seldom_114 : decode cX0_seldom 114 = .ok (.iinc 5 1, 3) := dk_132 5 1 (dk_at dksX0_seldom_4 21 rfl rfl)
theorem dX0_seldom_117 : decode cX0_seldom 117 = .ok (.goto (-30), 3) := dk_167 255 226 (dk_at dksX0_seldom_5 0 rfl rfl)
theorem dX0_seldom_120 : decode cX0_seldom 120 = .ok (.ldc2_w 413, 3) := dk_20 1 157 (dk_at dksX0_seldom_5 3 rfl rfl)
theorem dX0_seldom_123 : decode cX0_seldom 123 = .ok (.iload 4, 2) := dk_21 4 (dk_at dksX0_seldom_5 6 rfl rfl)
theorem dX0_seldom_125 : decode cX0_seldom 125 = .ok (.i2l, 1) := dk_133 (dk_at dksX0_seldom_5 8 rfl rfl)
theorem dX0_seldom_126 : decode cX0_seldom 126 = .ok (.aload_n 0, 1) := dk_42 (dk_at dksX0_seldom_5 9 rfl rfl)
theorem dX0_seldom_127 : decode cX0_seldom 127 = .ok (.invokevirtual 13, 3) := dk_182 0 13 (dk_at dksX0_seldom_5 10 rfl rfl)
theorem dX0_seldom_130 : decode cX0_seldom 130 = .ok (.i2l, 1) := dk_133 (dk_at dksX0_seldom_5 13 rfl rfl)
theorem dX0_seldom_131 : decode cX0_seldom 131 = .ok (.lmul, 1) := dk_105 (dk_at dksX0_seldom_5 14 rfl rfl)
theorem dX0_seldom_132 : decode cX0_seldom 132 = .ok (.invokestatic 415, 3) := dk_184 1 159 (dk_at dksX0_seldom_5 15 rfl rfl)
theorem dX0_seldom_135 : decode cX0_seldom 135 = .ok (.l2i, 1) := dk_136 (dk_at dksX0_seldom_5 18 rfl rfl)
theorem dX0_seldom_136 : decode cX0_seldom 136 = .ok (.ireturn, 1) := dk_172 (dk_at dksX0_seldom_5 19 rfl rfl)
abbrev cX0_waysOf : ByteArray := prog_1_method_60_code
def yX0_waysOf : MethodName := ⟨RX0, "waysOf", "()[LExamSlips$Huge;"⟩
def dkwX0_waysOf_6 : List UInt8 := [167, 255, 183, 45, 176]
abbrev dktX0_waysOf_6 : List UInt8 := dkwX0_waysOf_6 ++ []
def dkwX0_waysOf_5 : List UInt8 := [100, 50, 183, 1, 134, 28, 182, 1, 130, 182, 1, 137, 87, 132, 5, 255, 167, 255, 207, 132, 4, 1]
abbrev dktX0_waysOf_5 : List UInt8 := dkwX0_waysOf_5 ++ dktX0_waysOf_6
def dkwX0_waysOf_4 : List UInt8 := [27, 28, 100, 182, 1, 130, 87, 21, 5, 158, 0, 28, 45, 21, 5, 50, 187, 1, 126, 89, 45, 21, 5, 4]
abbrev dktX0_waysOf_4 : List UInt8 := dkwX0_waysOf_4 ++ dktX0_waysOf_5
def dkwX0_waysOf_3 : List UInt8 := [180, 0, 17, 180, 1, 105, 162, 0, 67, 21, 4, 4, 96, 54, 5, 21, 5, 155, 0, 50, 45, 21, 5, 50]
abbrev dktX0_waysOf_3 : List UInt8 := dkwX0_waysOf_3 ++ dktX0_waysOf_4
def dkwX0_waysOf_2 : List UInt8 := [154, 0, 7, 4, 167, 0, 4, 3, 183, 1, 128, 83, 132, 4, 1, 167, 255, 225, 3, 54, 4, 21, 4, 42]
abbrev dktX0_waysOf_2 : List UInt8 := dkwX0_waysOf_2 ++ dktX0_waysOf_3
def dkwX0_waysOf_1 : List UInt8 := [189, 1, 126, 78, 3, 54, 4, 21, 4, 45, 190, 162, 0, 30, 45, 21, 4, 187, 1, 126, 89, 21, 4]
abbrev dktX0_waysOf_1 : List UInt8 := dkwX0_waysOf_1 ++ dktX0_waysOf_2
def dkwX0_waysOf_0 : List UInt8 := [42, 182, 0, 13, 60, 42, 180, 0, 17, 180, 0, 174, 3, 46, 61, 42, 180, 0, 17, 180, 1, 105, 4, 96]
abbrev dktX0_waysOf_0 : List UInt8 := dkwX0_waysOf_0 ++ dktX0_waysOf_1
theorem dksX0_waysOf_0 : cX0_waysOf.data.toList.drop 0 = dktX0_waysOf_0 := by decide +kernel
theorem dksX0_waysOf_1 : cX0_waysOf.data.toList.drop 24 = dktX0_waysOf_1 := dk_seg dksX0_waysOf_0 24 rfl rfl
theorem dksX0_waysOf_2 : cX0_waysOf.data.toList.drop 47 = dktX0_waysOf_2 := dk_seg dksX0_waysOf_1 23 rfl rfl
theorem dksX0_waysOf_3 : cX0_waysOf.data.toList.drop 71 = dktX0_waysOf_3 := dk_seg dksX0_waysOf_2 24 rfl rfl
theorem dksX0_waysOf_4 : cX0_waysOf.data.toList.drop 95 = dktX0_waysOf_4 := dk_seg dksX0_waysOf_3 24 rfl rfl
theorem dksX0_waysOf_5 : cX0_waysOf.data.toList.drop 119 = dktX0_waysOf_5 := dk_seg dksX0_waysOf_4 24 rfl rfl
theorem dksX0_waysOf_6 : cX0_waysOf.data.toList.drop 141 = dktX0_waysOf_6 := dk_seg dksX0_waysOf_5 22 rfl rfl
theorem dX0_waysOf_0 : decode cX0_waysOf 0 = .ok (.aload_n 0, 1) := dk_42 (dk_at dksX0_waysOf_0 0 rfl rfl)
theorem dX0_waysOf_1 : decode cX0_waysOf 1 = .ok (.invokevirtual 13, 3) := dk_182 0 13 (dk_at dksX0_waysOf_0 1 rfl rfl)
theorem dX0_waysOf_4 : decode cX0_waysOf 4 = .ok (.istore_n 1, 1) := dk_60 (dk_at dksX0_waysOf_0 4 rfl rfl)
theorem dX0_waysOf_5 : decode cX0_waysOf 5 = .ok (.aload_n 0, 1) := dk_42 (dk_at dksX0_waysOf_0 5 rfl rfl)
theorem dX0_waysOf_6 : decode cX0_waysOf 6 = .ok (.getfield 17, 3) := dk_180 0 17 (dk_at dksX0_waysOf_0 6 rfl rfl)
theorem dX0_waysOf_9 : decode cX0_waysOf 9 = .ok (.getfield 174, 3) := dk_180 0 174 (dk_at dksX0_waysOf_0 9 rfl rfl)
theorem dX0_waysOf_12 : decode cX0_waysOf 12 = .ok (.iconst 0, 1) := dk_3 (dk_at dksX0_waysOf_0 12 rfl rfl)
theorem dX0_waysOf_13 : decode cX0_waysOf 13 = .ok (.iaload, 1) := dk_46 (dk_at dksX0_waysOf_0 13 rfl rfl)
theorem dX0_waysOf_14 : decode cX0_waysOf 14 = .ok (.istore_n 2, 1) := dk_61 (dk_at dksX0_waysOf_0 14 rfl rfl)
theorem dX0_waysOf_15 : decode cX0_waysOf 15 = .ok (.aload_n 0, 1) := dk_42 (dk_at dksX0_waysOf_0 15 rfl rfl)
theorem dX0_waysOf_16 : decode cX0_waysOf 16 = .ok (.getfield 17, 3) := dk_180 0 17 (dk_at dksX0_waysOf_0 16 rfl rfl)
theorem dX0_waysOf_19 : decode cX0_waysOf 19 = .ok (.getfield 361, 3) := dk_180 1 105 (dk_at dksX0_waysOf_0 19 rfl rfl)
theorem dX0_waysOf_22 : decode cX0_waysOf 22 = .ok (.iconst 1, 1) := dk_4 (dk_at dksX0_waysOf_0 22 rfl rfl)
theorem dX0_waysOf_23 : decode cX0_waysOf 23 = .ok (.iadd, 1) := dk_96 (dk_at dksX0_waysOf_0 23 rfl rfl)
theorem dX0_waysOf_24 : decode cX0_waysOf 24 = .ok (.anewarray 382, 3) := dk_189 1 126 (dk_at dksX0_waysOf_1 0 rfl rfl)
theorem dX0_waysOf_27 : decode cX0_waysOf 27 = .ok (.astore_n 3, 1) := dk_78 (dk_at dksX0_waysOf_1 3 rfl rfl)
theorem dX0_waysOf_28 : decode cX0_waysOf 28 = .ok (.iconst 0, 1) := dk_3 (dk_at dksX0_waysOf_1 4 rfl rfl)
theorem dX0_waysOf_29 : decode cX0_waysOf 29 = .ok (.istore 4, 2) := dk_54 4 (dk_at dksX0_waysOf_1 5 rfl rfl)
theorem dX0_waysOf_31 : decode cX0_waysOf 31 = .ok (.iload 4, 2) := dk_21 4 (dk_at dksX0_waysOf_1 7 rfl rfl)
theorem dX0_waysOf_33 : decode cX0_waysOf 33 = .ok (.aload_n 3, 1) := dk_45 (dk_at dksX0_waysOf_1 9 rfl rfl)
theorem dX0_waysOf_34 : decode cX0_waysOf 34 = .ok (.arraylength, 1) := dk_190 (dk_at dksX0_waysOf_1 10 rfl rfl)
theorem dX0_waysOf_35 : decode cX0_waysOf 35 = .ok (.if_icmp .ge 30, 3) := dk_162 0 30 (dk_at dksX0_waysOf_1 11 rfl rfl)
theorem dX0_waysOf_38 : decode cX0_waysOf 38 = .ok (.aload_n 3, 1) := dk_45 (dk_at dksX0_waysOf_1 14 rfl rfl)
theorem dX0_waysOf_39 : decode cX0_waysOf 39 = .ok (.iload 4, 2) := dk_21 4 (dk_at dksX0_waysOf_1 15 rfl rfl)
theorem dX0_waysOf_41 : decode cX0_waysOf 41 = .ok (.new 382, 3) := dk_187 1 126 (dk_at dksX0_waysOf_1 17 rfl rfl)
theorem dX0_waysOf_44 : decode cX0_waysOf 44 = .ok (.dup, 1) := dk_89 (dk_at dksX0_waysOf_1 20 rfl rfl)
theorem dX0_waysOf_45 : decode cX0_waysOf 45 = .ok (.iload 4, 2) := dk_21 4 (dk_at dksX0_waysOf_1 21 rfl rfl)
theorem dX0_waysOf_47 : decode cX0_waysOf 47 = .ok (.ifCond .ne 7, 3) := dk_154 0 7 (dk_at dksX0_waysOf_2 0 rfl rfl)
theorem dX0_waysOf_50 : decode cX0_waysOf 50 = .ok (.iconst 1, 1) := dk_4 (dk_at dksX0_waysOf_2 3 rfl rfl)
theorem dX0_waysOf_51 : decode cX0_waysOf 51 = .ok (.goto 4, 3) := dk_167 0 4 (dk_at dksX0_waysOf_2 4 rfl rfl)
theorem dX0_waysOf_54 : decode cX0_waysOf 54 = .ok (.iconst 0, 1) := dk_3 (dk_at dksX0_waysOf_2 7 rfl rfl)
theorem dX0_waysOf_55 : decode cX0_waysOf 55 = .ok (.invokespecial 384, 3) := dk_183 1 128 (dk_at dksX0_waysOf_2 8 rfl rfl)
theorem dX0_waysOf_58 : decode cX0_waysOf 58 = .ok (.aastore, 1) := dk_83 (dk_at dksX0_waysOf_2 11 rfl rfl)
theorem dX0_waysOf_59 : decode cX0_waysOf 59 = .ok (.iinc 4 1, 3) := dk_132 4 1 (dk_at dksX0_waysOf_2 12 rfl rfl)
theorem dX0_waysOf_62 : decode cX0_waysOf 62 = .ok (.goto (-31), 3) := dk_167 255 225 (dk_at dksX0_waysOf_2 15 rfl rfl)
theorem dX0_waysOf_65 : decode cX0_waysOf 65 = .ok (.iconst 0, 1) := dk_3 (dk_at dksX0_waysOf_2 18 rfl rfl)
theorem dX0_waysOf_66 : decode cX0_waysOf 66 = .ok (.istore 4, 2) := dk_54 4 (dk_at dksX0_waysOf_2 19 rfl rfl)
theorem dX0_waysOf_68 : decode cX0_waysOf 68 = .ok (.iload 4, 2) := dk_21 4 (dk_at dksX0_waysOf_2 21 rfl rfl)
theorem dX0_waysOf_70 : decode cX0_waysOf 70 = .ok (.aload_n 0, 1) := dk_42 (dk_at dksX0_waysOf_2 23 rfl rfl)
theorem dX0_waysOf_71 : decode cX0_waysOf 71 = .ok (.getfield 17, 3) := dk_180 0 17 (dk_at dksX0_waysOf_3 0 rfl rfl)
theorem dX0_waysOf_74 : decode cX0_waysOf 74 = .ok (.getfield 361, 3) := dk_180 1 105 (dk_at dksX0_waysOf_3 3 rfl rfl)
theorem dX0_waysOf_77 : decode cX0_waysOf 77 = .ok (.if_icmp .ge 67, 3) := dk_162 0 67 (dk_at dksX0_waysOf_3 6 rfl rfl)
theorem dX0_waysOf_80 : decode cX0_waysOf 80 = .ok (.iload 4, 2) := dk_21 4 (dk_at dksX0_waysOf_3 9 rfl rfl)
theorem dX0_waysOf_82 : decode cX0_waysOf 82 = .ok (.iconst 1, 1) := dk_4 (dk_at dksX0_waysOf_3 11 rfl rfl)
theorem dX0_waysOf_83 : decode cX0_waysOf 83 = .ok (.iadd, 1) := dk_96 (dk_at dksX0_waysOf_3 12 rfl rfl)
theorem dX0_waysOf_84 : decode cX0_waysOf 84 = .ok (.istore 5, 2) := dk_54 5 (dk_at dksX0_waysOf_3 13 rfl rfl)
theorem dX0_waysOf_86 : decode cX0_waysOf 86 = .ok (.iload 5, 2) := dk_21 5 (dk_at dksX0_waysOf_3 15 rfl rfl)
theorem dX0_waysOf_88 : decode cX0_waysOf 88 = .ok (.ifCond .lt 50, 3) := dk_155 0 50 (dk_at dksX0_waysOf_3 17 rfl rfl)
theorem dX0_waysOf_91 : decode cX0_waysOf 91 = .ok (.aload_n 3, 1) := dk_45 (dk_at dksX0_waysOf_3 20 rfl rfl)
theorem dX0_waysOf_92 : decode cX0_waysOf 92 = .ok (.iload 5, 2) := dk_21 5 (dk_at dksX0_waysOf_3 21 rfl rfl)
theorem dX0_waysOf_94 : decode cX0_waysOf 94 = .ok (.aaload, 1) := dk_50 (dk_at dksX0_waysOf_3 23 rfl rfl)
theorem dX0_waysOf_95 : decode cX0_waysOf 95 = .ok (.iload_n 1, 1) := dk_27 (dk_at dksX0_waysOf_4 0 rfl rfl)
theorem dX0_waysOf_96 : decode cX0_waysOf 96 = .ok (.iload_n 2, 1) := dk_28 (dk_at dksX0_waysOf_4 1 rfl rfl)
theorem dX0_waysOf_97 : decode cX0_waysOf 97 = .ok (.isub, 1) := dk_100 (dk_at dksX0_waysOf_4 2 rfl rfl)
theorem dX0_waysOf_98 : decode cX0_waysOf 98 = .ok (.invokevirtual 386, 3) := dk_182 1 130 (dk_at dksX0_waysOf_4 3 rfl rfl)
theorem dX0_waysOf_101 : decode cX0_waysOf 101 = .ok (.pop, 1) := dk_87 (dk_at dksX0_waysOf_4 6 rfl rfl)
theorem dX0_waysOf_102 : decode cX0_waysOf 102 = .ok (.iload 5, 2) := dk_21 5 (dk_at dksX0_waysOf_4 7 rfl rfl)
theorem dX0_waysOf_104 : decode cX0_waysOf 104 = .ok (.ifCond .le 28, 3) := dk_158 0 28 (dk_at dksX0_waysOf_4 9 rfl rfl)
theorem dX0_waysOf_107 : decode cX0_waysOf 107 = .ok (.aload_n 3, 1) := dk_45 (dk_at dksX0_waysOf_4 12 rfl rfl)
theorem dX0_waysOf_108 : decode cX0_waysOf 108 = .ok (.iload 5, 2) := dk_21 5 (dk_at dksX0_waysOf_4 13 rfl rfl)
theorem dX0_waysOf_110 : decode cX0_waysOf 110 = .ok (.aaload, 1) := dk_50 (dk_at dksX0_waysOf_4 15 rfl rfl)
theorem dX0_waysOf_111 : decode cX0_waysOf 111 = .ok (.new 382, 3) := dk_187 1 126 (dk_at dksX0_waysOf_4 16 rfl rfl)
theorem dX0_waysOf_114 : decode cX0_waysOf 114 = .ok (.dup, 1) := dk_89 (dk_at dksX0_waysOf_4 19 rfl rfl)
theorem dX0_waysOf_115 : decode cX0_waysOf 115 = .ok (.aload_n 3, 1) := dk_45 (dk_at dksX0_waysOf_4 20 rfl rfl)
theorem dX0_waysOf_116 : decode cX0_waysOf 116 = .ok (.iload 5, 2) := dk_21 5 (dk_at dksX0_waysOf_4 21 rfl rfl)
theorem dX0_waysOf_118 : decode cX0_waysOf 118 = .ok (.iconst 1, 1) := dk_4 (dk_at dksX0_waysOf_4 23 rfl rfl)
theorem dX0_waysOf_119 : decode cX0_waysOf 119 = .ok (.isub, 1) := dk_100 (dk_at dksX0_waysOf_5 0 rfl rfl)
theorem dX0_waysOf_120 : decode cX0_waysOf 120 = .ok (.aaload, 1) := dk_50 (dk_at dksX0_waysOf_5 1 rfl rfl)
theorem dX0_waysOf_121 : decode cX0_waysOf 121 = .ok (.invokespecial 390, 3) := dk_183 1 134 (dk_at dksX0_waysOf_5 2 rfl rfl)
theorem dX0_waysOf_124 : decode cX0_waysOf 124 = .ok (.iload_n 2, 1) := dk_28 (dk_at dksX0_waysOf_5 5 rfl rfl)
theorem dX0_waysOf_125 : decode cX0_waysOf 125 = .ok (.invokevirtual 386, 3) := dk_182 1 130 (dk_at dksX0_waysOf_5 6 rfl rfl)
theorem dX0_waysOf_128 : decode cX0_waysOf 128 = .ok (.invokevirtual 393, 3) := dk_182 1 137 (dk_at dksX0_waysOf_5 9 rfl rfl)
theorem dX0_waysOf_131 : decode cX0_waysOf 131 = .ok (.pop, 1) := dk_87 (dk_at dksX0_waysOf_5 12 rfl rfl)
theorem dX0_waysOf_132 : decode cX0_waysOf 132 = .ok (.iinc 5 (-1), 3) := dk_132 5 255 (dk_at dksX0_waysOf_5 13 rfl rfl)
theorem dX0_waysOf_135 : decode cX0_waysOf 135 = .ok (.goto (-49), 3) := dk_167 255 207 (dk_at dksX0_waysOf_5 16 rfl rfl)
theorem dX0_waysOf_138 : decode cX0_waysOf 138 = .ok (.iinc 4 1, 3) := dk_132 4 1 (dk_at dksX0_waysOf_5 19 rfl rfl)
theorem dX0_waysOf_141 : decode cX0_waysOf 141 = .ok (.goto (-73), 3) := dk_167 255 183 (dk_at dksX0_waysOf_6 0 rfl rfl)
theorem dX0_waysOf_144 : decode cX0_waysOf 144 = .ok (.aload_n 3, 1) := dk_45 (dk_at dksX0_waysOf_6 3 rfl rfl)
theorem dX0_waysOf_145 : decode cX0_waysOf 145 = .ok (.areturn, 1) := dk_176 (dk_at dksX0_waysOf_6 4 rfl rfl)
abbrev cX0_seldomOf : ByteArray := prog_1_method_61_code
def yX0_seldomOf : MethodName := ⟨RX0, "seldomOf", "(I[LExamSlips$Huge;)I"⟩
def dkwX0_seldomOf_3 : List UInt8 := [25, 4, 19, 1, 144, 182, 1, 130, 45, 19, 1, 144, 182, 1, 145, 172]
abbrev dktX0_seldomOf_3 : List UInt8 := dkwX0_seldomOf_3 ++ []
def dkwX0_seldomOf_2 : List UInt8 := [21, 6, 21, 5, 163, 0, 13, 25, 4, 44, 21, 6, 50, 182, 1, 137, 87, 132, 6, 1, 167, 255, 220]
abbrev dktX0_seldomOf_2 : List UInt8 := dkwX0_seldomOf_2 ++ dktX0_seldomOf_3
def dkwX0_seldomOf_1 : List UInt8 := [182, 1, 141, 54, 5, 3, 54, 6, 21, 6, 44, 190, 162, 0, 35, 45, 44, 21, 6, 50, 182, 1, 137, 87]
abbrev dktX0_seldomOf_1 : List UInt8 := dkwX0_seldomOf_1 ++ dktX0_seldomOf_2
def dkwX0_seldomOf_0 : List UInt8 := [187, 1, 126, 89, 3, 183, 1, 128, 78, 187, 1, 126, 89, 3, 183, 1, 128, 58, 4, 42, 27, 3]
abbrev dktX0_seldomOf_0 : List UInt8 := dkwX0_seldomOf_0 ++ dktX0_seldomOf_1
theorem dksX0_seldomOf_0 : cX0_seldomOf.data.toList.drop 0 = dktX0_seldomOf_0 := by decide +kernel
theorem dksX0_seldomOf_1 : cX0_seldomOf.data.toList.drop 22 = dktX0_seldomOf_1 := dk_seg dksX0_seldomOf_0 22 rfl rfl
theorem dksX0_seldomOf_2 : cX0_seldomOf.data.toList.drop 46 = dktX0_seldomOf_2 := dk_seg dksX0_seldomOf_1 24 rfl rfl
theorem dksX0_seldomOf_3 : cX0_seldomOf.data.toList.drop 69 = dktX0_seldomOf_3 := dk_seg dksX0_seldomOf_2 23 rfl rfl
theorem dX0_seldomOf_0 : decode cX0_seldomOf 0 = .ok (.new 382, 3) := dk_187 1 126 (dk_at dksX0_seldomOf_0 0 rfl rfl)
theorem dX0_seldomOf_3 : decode cX0_seldomOf 3 = .ok (.dup, 1) := dk_89 (dk_at dksX0_seldomOf_0 3 rfl rfl)
theorem dX0_seldomOf_4 : decode cX0_seldomOf 4 = .ok (.iconst 0, 1) := dk_3 (dk_at dksX0_seldomOf_0 4 rfl rfl)
theorem dX0_seldomOf_5 : decode cX0_seldomOf 5 = .ok (.invokespecial 384, 3) := dk_183 1 128 (dk_at dksX0_seldomOf_0 5 rfl rfl)
theorem dX0_seldomOf_8 : decode cX0_seldomOf 8 = .ok (.astore_n 3, 1) := dk_78 (dk_at dksX0_seldomOf_0 8 rfl rfl)
theorem dX0_seldomOf_9 : decode cX0_seldomOf 9 = .ok (.new 382, 3) := dk_187 1 126 (dk_at dksX0_seldomOf_0 9 rfl rfl)
theorem dX0_seldomOf_12 : decode cX0_seldomOf 12 = .ok (.dup, 1) := dk_89 (dk_at dksX0_seldomOf_0 12 rfl rfl)
theorem dX0_seldomOf_13 : decode cX0_seldomOf 13 = .ok (.iconst 0, 1) := dk_3 (dk_at dksX0_seldomOf_0 13 rfl rfl)
theorem dX0_seldomOf_14 : decode cX0_seldomOf 14 = .ok (.invokespecial 384, 3) := dk_183 1 128 (dk_at dksX0_seldomOf_0 14 rfl rfl)
theorem dX0_seldomOf_17 : decode cX0_seldomOf 17 = .ok (.astore 4, 2) := dk_58 4 (dk_at dksX0_seldomOf_0 17 rfl rfl)
theorem dX0_seldomOf_19 : decode cX0_seldomOf 19 = .ok (.aload_n 0, 1) := dk_42 (dk_at dksX0_seldomOf_0 19 rfl rfl)
theorem dX0_seldomOf_20 : decode cX0_seldomOf 20 = .ok (.iload_n 1, 1) := dk_27 (dk_at dksX0_seldomOf_0 20 rfl rfl)
theorem dX0_seldomOf_21 : decode cX0_seldomOf 21 = .ok (.iconst 0, 1) := dk_3 (dk_at dksX0_seldomOf_0 21 rfl rfl)
theorem dX0_seldomOf_22 : decode cX0_seldomOf 22 = .ok (.invokevirtual 397, 3) := dk_182 1 141 (dk_at dksX0_seldomOf_1 0 rfl rfl)
theorem dX0_seldomOf_25 : decode cX0_seldomOf 25 = .ok (.istore 5, 2) := dk_54 5 (dk_at dksX0_seldomOf_1 3 rfl rfl)
theorem dX0_seldomOf_27 : decode cX0_seldomOf 27 = .ok (.iconst 0, 1) := dk_3 (dk_at dksX0_seldomOf_1 5 rfl rfl)
theorem dX0_seldomOf_28 : decode cX0_seldomOf 28 = .ok (.istore 6, 2) := dk_54 6 (dk_at dksX0_seldomOf_1 6 rfl rfl)
theorem dX0_seldomOf_30 : decode cX0_seldomOf 30 = .ok (.iload 6, 2) := dk_21 6 (dk_at dksX0_seldomOf_1 8 rfl rfl)
theorem dX0_seldomOf_32 : decode cX0_seldomOf 32 = .ok (.aload_n 2, 1) := dk_44 (dk_at dksX0_seldomOf_1 10 rfl rfl)
theorem dX0_seldomOf_33 : decode cX0_seldomOf 33 = .ok (.arraylength, 1) := dk_190 (dk_at dksX0_seldomOf_1 11 rfl rfl)
theorem dX0_seldomOf_34 : decode cX0_seldomOf 34 = .ok (.if_icmp .ge 35, 3) := dk_162 0 35 (dk_at dksX0_seldomOf_1 12 rfl rfl)
theorem dX0_seldomOf_37 : decode cX0_seldomOf 37 = .ok (.aload_n 3, 1) := dk_45 (dk_at dksX0_seldomOf_1 15 rfl rfl)
theorem dX0_seldomOf_38 : decode cX0_seldomOf 38 = .ok (.aload_n 2, 1) := dk_44 (dk_at dksX0_seldomOf_1 16 rfl rfl)
theorem dX0_seldomOf_39 : decode cX0_seldomOf 39 = .ok (.iload 6, 2) := dk_21 6 (dk_at dksX0_seldomOf_1 17 rfl rfl)
theorem dX0_seldomOf_41 : decode cX0_seldomOf 41 = .ok (.aaload, 1) := dk_50 (dk_at dksX0_seldomOf_1 19 rfl rfl)
theorem dX0_seldomOf_42 : decode cX0_seldomOf 42 = .ok (.invokevirtual 393, 3) := dk_182 1 137 (dk_at dksX0_seldomOf_1 20 rfl rfl)
theorem dX0_seldomOf_45 : decode cX0_seldomOf 45 = .ok (.pop, 1) := dk_87 (dk_at dksX0_seldomOf_1 23 rfl rfl)
theorem dX0_seldomOf_46 : decode cX0_seldomOf 46 = .ok (.iload 6, 2) := dk_21 6 (dk_at dksX0_seldomOf_2 0 rfl rfl)
theorem dX0_seldomOf_48 : decode cX0_seldomOf 48 = .ok (.iload 5, 2) := dk_21 5 (dk_at dksX0_seldomOf_2 2 rfl rfl)
theorem dX0_seldomOf_50 : decode cX0_seldomOf 50 = .ok (.if_icmp .gt 13, 3) := dk_163 0 13 (dk_at dksX0_seldomOf_2 4 rfl rfl)
theorem dX0_seldomOf_53 : decode cX0_seldomOf 53 = .ok (.aload 4, 2) := dk_25 4 (dk_at dksX0_seldomOf_2 7 rfl rfl)
theorem dX0_seldomOf_55 : decode cX0_seldomOf 55 = .ok (.aload_n 2, 1) := dk_44 (dk_at dksX0_seldomOf_2 9 rfl rfl)
theorem dX0_seldomOf_56 : decode cX0_seldomOf 56 = .ok (.iload 6, 2) := dk_21 6 (dk_at dksX0_seldomOf_2 10 rfl rfl)
theorem dX0_seldomOf_58 : decode cX0_seldomOf 58 = .ok (.aaload, 1) := dk_50 (dk_at dksX0_seldomOf_2 12 rfl rfl)
theorem dX0_seldomOf_59 : decode cX0_seldomOf 59 = .ok (.invokevirtual 393, 3) := dk_182 1 137 (dk_at dksX0_seldomOf_2 13 rfl rfl)
theorem dX0_seldomOf_62 : decode cX0_seldomOf 62 = .ok (.pop, 1) := dk_87 (dk_at dksX0_seldomOf_2 16 rfl rfl)
theorem dX0_seldomOf_63 : decode cX0_seldomOf 63 = .ok (.iinc 6 1, 3) := dk_132 6 1 (dk_at dksX0_seldomOf_2 17 rfl rfl)
theorem dX0_seldomOf_66 : decode cX0_seldomOf 66 = .ok (.goto (-36), 3) := dk_167 255 220 (dk_at dksX0_seldomOf_2 20 rfl rfl)
theorem dX0_seldomOf_69 : decode cX0_seldomOf 69 = .ok (.aload 4, 2) := dk_25 4 (dk_at dksX0_seldomOf_3 0 rfl rfl)
theorem dX0_seldomOf_71 : decode cX0_seldomOf 71 = .ok (.ldc_w 400, 3) := dk_19 1 144 (dk_at dksX0_seldomOf_3 2 rfl rfl)
theorem dX0_seldomOf_74 : decode cX0_seldomOf 74 = .ok (.invokevirtual 386, 3) := dk_182 1 130 (dk_at dksX0_seldomOf_3 5 rfl rfl)
theorem dX0_seldomOf_77 : decode cX0_seldomOf 77 = .ok (.aload_n 3, 1) := dk_45 (dk_at dksX0_seldomOf_3 8 rfl rfl)
theorem dX0_seldomOf_78 : decode cX0_seldomOf 78 = .ok (.ldc_w 400, 3) := dk_19 1 144 (dk_at dksX0_seldomOf_3 9 rfl rfl)
theorem dX0_seldomOf_81 : decode cX0_seldomOf 81 = .ok (.invokevirtual 401, 3) := dk_182 1 145 (dk_at dksX0_seldomOf_3 12 rfl rfl)
theorem dX0_seldomOf_84 : decode cX0_seldomOf 84 = .ok (.ireturn, 1) := dk_172 (dk_at dksX0_seldomOf_3 15 rfl rfl)
abbrev cX0_exam : ByteArray := prog_1_method_66_code
def yX0_exam : MethodName := ⟨RX0, "exam", "(I)I"⟩
def dkwX0_exam_1 : List UInt8 := [27, 183, 1, 189, 182, 1, 190, 181, 1, 194, 42, 42, 180, 1, 194, 182, 1, 198, 182, 0, 133, 172]
abbrev dktX0_exam_1 : List UInt8 := dkwX0_exam_1 ++ []
def dkwX0_exam_0 : List UInt8 := [27, 133, 9, 20, 1, 157, 184, 0, 109, 154, 0, 9, 42, 2, 182, 0, 133, 172, 42, 42, 187, 1, 174, 89]
abbrev dktX0_exam_0 : List UInt8 := dkwX0_exam_0 ++ dktX0_exam_1
theorem dksX0_exam_0 : cX0_exam.data.toList.drop 0 = dktX0_exam_0 := by decide +kernel
theorem dksX0_exam_1 : cX0_exam.data.toList.drop 24 = dktX0_exam_1 := dk_seg dksX0_exam_0 24 rfl rfl
theorem dX0_exam_0 : decode cX0_exam 0 = .ok (.iload_n 1, 1) := dk_27 (dk_at dksX0_exam_0 0 rfl rfl)
theorem dX0_exam_1 : decode cX0_exam 1 = .ok (.i2l, 1) := dk_133 (dk_at dksX0_exam_0 1 rfl rfl)
theorem dX0_exam_2 : decode cX0_exam 2 = .ok (.lconst 0, 1) := dk_9 (dk_at dksX0_exam_0 2 rfl rfl)
theorem dX0_exam_3 : decode cX0_exam 3 = .ok (.ldc2_w 413, 3) := dk_20 1 157 (dk_at dksX0_exam_0 3 rfl rfl)
theorem dX0_exam_6 : decode cX0_exam 6 = .ok (.invokestatic 109, 3) := dk_184 0 109 (dk_at dksX0_exam_0 6 rfl rfl)
theorem dX0_exam_9 : decode cX0_exam 9 = .ok (.ifCond .ne 9, 3) := dk_154 0 9 (dk_at dksX0_exam_0 9 rfl rfl)
theorem dX0_exam_12 : decode cX0_exam 12 = .ok (.aload_n 0, 1) := dk_42 (dk_at dksX0_exam_0 12 rfl rfl)
theorem dX0_exam_13 : decode cX0_exam 13 = .ok (.iconst (-1), 1) := dk_2 (dk_at dksX0_exam_0 13 rfl rfl)
theorem dX0_exam_14 : decode cX0_exam 14 = .ok (.invokevirtual 133, 3) := dk_182 0 133 (dk_at dksX0_exam_0 14 rfl rfl)
theorem dX0_exam_17 : decode cX0_exam 17 = .ok (.ireturn, 1) := dk_172 (dk_at dksX0_exam_0 17 rfl rfl)
theorem dX0_exam_18 : decode cX0_exam 18 = .ok (.aload_n 0, 1) := dk_42 (dk_at dksX0_exam_0 18 rfl rfl)
theorem dX0_exam_19 : decode cX0_exam 19 = .ok (.aload_n 0, 1) := dk_42 (dk_at dksX0_exam_0 19 rfl rfl)
theorem dX0_exam_20 : decode cX0_exam 20 = .ok (.new 430, 3) := dk_187 1 174 (dk_at dksX0_exam_0 20 rfl rfl)
theorem dX0_exam_23 : decode cX0_exam 23 = .ok (.dup, 1) := dk_89 (dk_at dksX0_exam_0 23 rfl rfl)
theorem dX0_exam_24 : decode cX0_exam 24 = .ok (.iload_n 1, 1) := dk_27 (dk_at dksX0_exam_1 0 rfl rfl)
theorem dX0_exam_25 : decode cX0_exam 25 = .ok (.invokespecial 445, 3) := dk_183 1 189 (dk_at dksX0_exam_1 1 rfl rfl)
theorem dX0_exam_28 : decode cX0_exam 28 = .ok (.invokevirtual 446, 3) := dk_182 1 190 (dk_at dksX0_exam_1 4 rfl rfl)
theorem dX0_exam_31 : decode cX0_exam 31 = .ok (.putfield 450, 3) := dk_181 1 194 (dk_at dksX0_exam_1 7 rfl rfl)
theorem dX0_exam_34 : decode cX0_exam 34 = .ok (.aload_n 0, 1) := dk_42 (dk_at dksX0_exam_1 10 rfl rfl)
theorem dX0_exam_35 : decode cX0_exam 35 = .ok (.aload_n 0, 1) := dk_42 (dk_at dksX0_exam_1 11 rfl rfl)
theorem dX0_exam_36 : decode cX0_exam 36 = .ok (.getfield 450, 3) := dk_180 1 194 (dk_at dksX0_exam_1 12 rfl rfl)
theorem dX0_exam_39 : decode cX0_exam 39 = .ok (.invokevirtual 454, 3) := dk_182 1 198 (dk_at dksX0_exam_1 15 rfl rfl)
theorem dX0_exam_42 : decode cX0_exam 42 = .ok (.invokevirtual 133, 3) := dk_182 0 133 (dk_at dksX0_exam_1 18 rfl rfl)
theorem dX0_exam_45 : decode cX0_exam 45 = .ok (.ireturn, 1) := dk_172 (dk_at dksX0_exam_1 21 rfl rfl)
abbrev cX0_draw : ByteArray := prog_1_method_64_code
def yX0_draw : MethodName := ⟨RX0, "draw", "(LExamSlips$Draws;)LExamSlips$Table;"⟩
def dkwX0_draw_16 : List UInt8 := [167, 255, 117, 44, 176]
abbrev dktX0_draw_16 : List UInt8 := dkwX0_draw_16 ++ []
def dkwX0_draw_15 : List UInt8 := [21, 8, 182, 1, 183, 162, 0, 10, 4, 21, 8, 120, 167, 0, 4, 3, 128, 181, 1, 186, 132, 7, 1]
abbrev dktX0_draw_15 : List UInt8 := dkwX0_draw_15 ++ dktX0_draw_16
def dkwX0_draw_14 : List UInt8 := [180, 1, 180, 4, 21, 8, 120, 128, 181, 1, 180, 44, 89, 180, 1, 186, 43, 16, 100, 182, 1, 173, 42]
abbrev dktX0_draw_14 : List UInt8 := dkwX0_draw_14 ++ dktX0_draw_15
def dkwX0_draw_13 : List UInt8 := [182, 1, 183, 42, 21, 8, 182, 1, 183, 164, 0, 7, 21, 9, 54, 8, 132, 9, 1, 167, 255, 199, 44, 89]
abbrev dktX0_draw_13 : List UInt8 := dkwX0_draw_13 ++ dktX0_draw_14
def dkwX0_draw_12 : List UInt8 := [180, 1, 180, 2, 130, 126, 21, 9, 122, 4, 126, 4, 160, 0, 28, 21, 8, 2, 159, 0, 18, 42, 21, 9]
abbrev dktX0_draw_12 : List UInt8 := dkwX0_draw_12 ++ dktX0_draw_13
def dkwX0_draw_11 : List UInt8 := [159, 0, 120, 2, 54, 8, 3, 54, 9, 21, 9, 42, 182, 0, 13, 162, 0, 54, 44, 180, 1, 170, 44]
abbrev dktX0_draw_11 : List UInt8 := dkwX0_draw_11 ++ dktX0_draw_12
def dkwX0_draw_10 : List UInt8 := [54, 7, 21, 7, 42, 180, 0, 17, 180, 0, 174, 4, 46, 162, 0, 131, 44, 180, 1, 180, 44, 180, 1, 170]
abbrev dktX0_draw_10 : List UInt8 := dkwX0_draw_10 ++ dktX0_draw_11
def dkwX0_draw_9 : List UInt8 := [44, 180, 1, 170, 184, 1, 165, 100, 182, 1, 173, 184, 1, 177, 128, 90, 181, 1, 170, 87, 167, 255, 203, 3]
abbrev dktX0_draw_9 : List UInt8 := dkwX0_draw_9 ++ dktX0_draw_10
def dkwX0_draw_8 : List UInt8 := [162, 0, 47, 44, 58, 7, 25, 7, 25, 7, 180, 1, 170, 29, 44, 180, 1, 170, 2, 130, 126, 43, 21, 5]
abbrev dktX0_draw_8 : List UInt8 := dkwX0_draw_8 ++ dktX0_draw_9
def dkwX0_draw_7 : List UInt8 := [43, 21, 4, 184, 1, 165, 182, 1, 173, 184, 1, 177, 181, 1, 170, 44, 180, 1, 170, 184, 1, 165, 21, 6]
abbrev dktX0_draw_7 : List UInt8 := dkwX0_draw_7 ++ dktX0_draw_8
def dkwX0_draw_6 : List UInt8 := [153, 0, 39, 43, 16, 100, 182, 1, 173, 42, 180, 0, 17, 180, 0, 174, 6, 46, 162, 0, 21, 44, 21, 4]
abbrev dktX0_draw_6 : List UInt8 := dkwX0_draw_6 ++ dktX0_draw_7
def dkwX0_draw_5 : List UInt8 := [184, 0, 93, 54, 6, 21, 6, 21, 5, 160, 0, 11, 44, 29, 181, 1, 170, 167, 0, 100, 21, 4]
abbrev dktX0_draw_5 : List UInt8 := dkwX0_draw_5 ++ dktX0_draw_6
def dkwX0_draw_4 : List UInt8 := [132, 5, 1, 167, 255, 179, 29, 184, 1, 165, 54, 5, 21, 5, 42, 180, 0, 17, 180, 0, 174, 3, 46]
abbrev dktX0_draw_4 : List UInt8 := dkwX0_draw_4 ++ dktX0_draw_5
def dkwX0_draw_3 : List UInt8 := [154, 0, 18, 25, 6, 180, 0, 43, 153, 0, 10, 4, 21, 5, 120, 167, 0, 4, 3, 128, 54, 4]
abbrev dktX0_draw_3 : List UInt8 := dkwX0_draw_3 ++ dktX0_draw_4
def dkwX0_draw_2 : List UInt8 := [180, 0, 35, 153, 0, 7, 3, 167, 0, 7, 4, 21, 5, 120, 128, 62, 21, 4, 25, 6, 180, 0, 35]
abbrev dktX0_draw_2 : List UInt8 := dkwX0_draw_2 ++ dktX0_draw_3
def dkwX0_draw_1 : List UInt8 := [162, 0, 74, 42, 180, 0, 17, 180, 0, 21, 21, 5, 182, 0, 27, 192, 0, 33, 58, 6, 29, 25, 6]
abbrev dktX0_draw_1 : List UInt8 := dkwX0_draw_1 ++ dktX0_draw_2
def dkwX0_draw_0 : List UInt8 := [187, 1, 162, 89, 183, 1, 164, 77, 3, 62, 3, 54, 4, 3, 54, 5, 21, 5, 42, 182, 0, 13]
abbrev dktX0_draw_0 : List UInt8 := dkwX0_draw_0 ++ dktX0_draw_1
theorem dksX0_draw_0 : cX0_draw.data.toList.drop 0 = dktX0_draw_0 := by decide +kernel
theorem dksX0_draw_1 : cX0_draw.data.toList.drop 22 = dktX0_draw_1 := dk_seg dksX0_draw_0 22 rfl rfl
theorem dksX0_draw_2 : cX0_draw.data.toList.drop 45 = dktX0_draw_2 := dk_seg dksX0_draw_1 23 rfl rfl
theorem dksX0_draw_3 : cX0_draw.data.toList.drop 68 = dktX0_draw_3 := dk_seg dksX0_draw_2 23 rfl rfl
theorem dksX0_draw_4 : cX0_draw.data.toList.drop 90 = dktX0_draw_4 := dk_seg dksX0_draw_3 22 rfl rfl
theorem dksX0_draw_5 : cX0_draw.data.toList.drop 113 = dktX0_draw_5 := dk_seg dksX0_draw_4 23 rfl rfl
theorem dksX0_draw_6 : cX0_draw.data.toList.drop 135 = dktX0_draw_6 := dk_seg dksX0_draw_5 22 rfl rfl
theorem dksX0_draw_7 : cX0_draw.data.toList.drop 159 = dktX0_draw_7 := dk_seg dksX0_draw_6 24 rfl rfl
theorem dksX0_draw_8 : cX0_draw.data.toList.drop 183 = dktX0_draw_8 := dk_seg dksX0_draw_7 24 rfl rfl
theorem dksX0_draw_9 : cX0_draw.data.toList.drop 207 = dktX0_draw_9 := dk_seg dksX0_draw_8 24 rfl rfl
theorem dksX0_draw_10 : cX0_draw.data.toList.drop 231 = dktX0_draw_10 := dk_seg dksX0_draw_9 24 rfl rfl
theorem dksX0_draw_11 : cX0_draw.data.toList.drop 255 = dktX0_draw_11 := dk_seg dksX0_draw_10 24 rfl rfl
theorem dksX0_draw_12 : cX0_draw.data.toList.drop 278 = dktX0_draw_12 := dk_seg dksX0_draw_11 23 rfl rfl
theorem dksX0_draw_13 : cX0_draw.data.toList.drop 302 = dktX0_draw_13 := dk_seg dksX0_draw_12 24 rfl rfl
theorem dksX0_draw_14 : cX0_draw.data.toList.drop 326 = dktX0_draw_14 := dk_seg dksX0_draw_13 24 rfl rfl
theorem dksX0_draw_15 : cX0_draw.data.toList.drop 349 = dktX0_draw_15 := dk_seg dksX0_draw_14 23 rfl rfl
theorem dksX0_draw_16 : cX0_draw.data.toList.drop 372 = dktX0_draw_16 := dk_seg dksX0_draw_15 23 rfl rfl
theorem dX0_draw_0 : decode cX0_draw 0 = .ok (.new 418, 3) := dk_187 1 162 (dk_at dksX0_draw_0 0 rfl rfl)
theorem dX0_draw_3 : decode cX0_draw 3 = .ok (.dup, 1) := dk_89 (dk_at dksX0_draw_0 3 rfl rfl)
theorem dX0_draw_4 : decode cX0_draw 4 = .ok (.invokespecial 420, 3) := dk_183 1 164 (dk_at dksX0_draw_0 4 rfl rfl)
theorem dX0_draw_7 : decode cX0_draw 7 = .ok (.astore_n 2, 1) := dk_77 (dk_at dksX0_draw_0 7 rfl rfl)
theorem dX0_draw_8 : decode cX0_draw 8 = .ok (.iconst 0, 1) := dk_3 (dk_at dksX0_draw_0 8 rfl rfl)
theorem dX0_draw_9 : decode cX0_draw 9 = .ok (.istore_n 3, 1) := dk_62 (dk_at dksX0_draw_0 9 rfl rfl)
theorem dX0_draw_10 : decode cX0_draw 10 = .ok (.iconst 0, 1) := dk_3 (dk_at dksX0_draw_0 10 rfl rfl)
theorem dX0_draw_11 : decode cX0_draw 11 = .ok (.istore 4, 2) := dk_54 4 (dk_at dksX0_draw_0 11 rfl rfl)
theorem dX0_draw_13 : decode cX0_draw 13 = .ok (.iconst 0, 1) := dk_3 (dk_at dksX0_draw_0 13 rfl rfl)
theorem dX0_draw_14 : decode cX0_draw 14 = .ok (.istore 5, 2) := dk_54 5 (dk_at dksX0_draw_0 14 rfl rfl)
theorem dX0_draw_16 : decode cX0_draw 16 = .ok (.iload 5, 2) := dk_21 5 (dk_at dksX0_draw_0 16 rfl rfl)
theorem dX0_draw_18 : decode cX0_draw 18 = .ok (.aload_n 0, 1) := dk_42 (dk_at dksX0_draw_0 18 rfl rfl)
theorem dX0_draw_19 : decode cX0_draw 19 = .ok (.invokevirtual 13, 3) := dk_182 0 13 (dk_at dksX0_draw_0 19 rfl rfl)
theorem dX0_draw_22 : decode cX0_draw 22 = .ok (.if_icmp .ge 74, 3) := dk_162 0 74 (dk_at dksX0_draw_1 0 rfl rfl)
theorem dX0_draw_25 : decode cX0_draw 25 = .ok (.aload_n 0, 1) := dk_42 (dk_at dksX0_draw_1 3 rfl rfl)
theorem dX0_draw_26 : decode cX0_draw 26 = .ok (.getfield 17, 3) := dk_180 0 17 (dk_at dksX0_draw_1 4 rfl rfl)
theorem dX0_draw_29 : decode cX0_draw 29 = .ok (.getfield 21, 3) := dk_180 0 21 (dk_at dksX0_draw_1 7 rfl rfl)
theorem dX0_draw_32 : decode cX0_draw 32 = .ok (.iload 5, 2) := dk_21 5 (dk_at dksX0_draw_1 10 rfl rfl)
theorem dX0_draw_34 : decode cX0_draw 34 = .ok (.invokevirtual 27, 3) := dk_182 0 27 (dk_at dksX0_draw_1 12 rfl rfl)
theorem dX0_draw_37 : decode cX0_draw 37 = .ok (.checkcast 33, 3) := dk_192 0 33 (dk_at dksX0_draw_1 15 rfl rfl)
theorem dX0_draw_40 : decode cX0_draw 40 = .ok (.astore 6, 2) := dk_58 6 (dk_at dksX0_draw_1 18 rfl rfl)
theorem dX0_draw_42 : decode cX0_draw 42 = .ok (.iload_n 3, 1) := dk_29 (dk_at dksX0_draw_1 20 rfl rfl)
theorem dX0_draw_43 : decode cX0_draw 43 = .ok (.aload 6, 2) := dk_25 6 (dk_at dksX0_draw_1 21 rfl rfl)
theorem dX0_draw_45 : decode cX0_draw 45 = .ok (.getfield 35, 3) := dk_180 0 35 (dk_at dksX0_draw_2 0 rfl rfl)
theorem dX0_draw_48 : decode cX0_draw 48 = .ok (.ifCond .eq 7, 3) := dk_153 0 7 (dk_at dksX0_draw_2 3 rfl rfl)
theorem dX0_draw_51 : decode cX0_draw 51 = .ok (.iconst 0, 1) := dk_3 (dk_at dksX0_draw_2 6 rfl rfl)
theorem dX0_draw_52 : decode cX0_draw 52 = .ok (.goto 7, 3) := dk_167 0 7 (dk_at dksX0_draw_2 7 rfl rfl)
theorem dX0_draw_55 : decode cX0_draw 55 = .ok (.iconst 1, 1) := dk_4 (dk_at dksX0_draw_2 10 rfl rfl)
theorem dX0_draw_56 : decode cX0_draw 56 = .ok (.iload 5, 2) := dk_21 5 (dk_at dksX0_draw_2 11 rfl rfl)
theorem dX0_draw_58 : decode cX0_draw 58 = .ok (.ishl, 1) := dk_120 (dk_at dksX0_draw_2 13 rfl rfl)
theorem dX0_draw_59 : decode cX0_draw 59 = .ok (.ior, 1) := dk_128 (dk_at dksX0_draw_2 14 rfl rfl)
theorem dX0_draw_60 : decode cX0_draw 60 = .ok (.istore_n 3, 1) := dk_62 (dk_at dksX0_draw_2 15 rfl rfl)
theorem dX0_draw_61 : decode cX0_draw 61 = .ok (.iload 4, 2) := dk_21 4 (dk_at dksX0_draw_2 16 rfl rfl)
theorem dX0_draw_63 : decode cX0_draw 63 = .ok (.aload 6, 2) := dk_25 6 (dk_at dksX0_draw_2 18 rfl rfl)
theorem dX0_draw_65 : decode cX0_draw 65 = .ok (.getfield 35, 3) := dk_180 0 35 (dk_at dksX0_draw_2 20 rfl rfl)
theorem dX0_draw_68 : decode cX0_draw 68 = .ok (.ifCond .ne 18, 3) := dk_154 0 18 (dk_at dksX0_draw_3 0 rfl rfl)
theorem dX0_draw_71 : decode cX0_draw 71 = .ok (.aload 6, 2) := dk_25 6 (dk_at dksX0_draw_3 3 rfl rfl)
theorem dX0_draw_73 : decode cX0_draw 73 = .ok (.getfield 43, 3) := dk_180 0 43 (dk_at dksX0_draw_3 5 rfl rfl)
theorem dX0_draw_76 : decode cX0_draw 76 = .ok (.ifCond .eq 10, 3) := dk_153 0 10 (dk_at dksX0_draw_3 8 rfl rfl)
theorem dX0_draw_79 : decode cX0_draw 79 = .ok (.iconst 1, 1) := dk_4 (dk_at dksX0_draw_3 11 rfl rfl)
theorem dX0_draw_80 : decode cX0_draw 80 = .ok (.iload 5, 2) := dk_21 5 (dk_at dksX0_draw_3 12 rfl rfl)
theorem dX0_draw_82 : decode cX0_draw 82 = .ok (.ishl, 1) := dk_120 (dk_at dksX0_draw_3 14 rfl rfl)
theorem dX0_draw_83 : decode cX0_draw 83 = .ok (.goto 4, 3) := dk_167 0 4 (dk_at dksX0_draw_3 15 rfl rfl)
theorem dX0_draw_86 : decode cX0_draw 86 = .ok (.iconst 0, 1) := dk_3 (dk_at dksX0_draw_3 18 rfl rfl)
theorem dX0_draw_87 : decode cX0_draw 87 = .ok (.ior, 1) := dk_128 (dk_at dksX0_draw_3 19 rfl rfl)
theorem dX0_draw_88 : decode cX0_draw 88 = .ok (.istore 4, 2) := dk_54 4 (dk_at dksX0_draw_3 20 rfl rfl)
theorem dX0_draw_90 : decode cX0_draw 90 = .ok (.iinc 5 1, 3) := dk_132 5 1 (dk_at dksX0_draw_4 0 rfl rfl)
theorem dX0_draw_93 : decode cX0_draw 93 = .ok (.goto (-77), 3) := dk_167 255 179 (dk_at dksX0_draw_4 3 rfl rfl)
theorem dX0_draw_96 : decode cX0_draw 96 = .ok (.iload_n 3, 1) := dk_29 (dk_at dksX0_draw_4 6 rfl rfl)
theorem dX0_draw_97 : decode cX0_draw 97 = .ok (.invokestatic 421, 3) := dk_184 1 165 (dk_at dksX0_draw_4 7 rfl rfl)
theorem dX0_draw_100 : decode cX0_draw 100 = .ok (.istore 5, 2) := dk_54 5 (dk_at dksX0_draw_4 10 rfl rfl)
theorem dX0_draw_102 : decode cX0_draw 102 = .ok (.iload 5, 2) := dk_21 5 (dk_at dksX0_draw_4 12 rfl rfl)
theorem dX0_draw_104 : decode cX0_draw 104 = .ok (.aload_n 0, 1) := dk_42 (dk_at dksX0_draw_4 14 rfl rfl)
theorem dX0_draw_105 : decode cX0_draw 105 = .ok (.getfield 17, 3) := dk_180 0 17 (dk_at dksX0_draw_4 15 rfl rfl)
theorem dX0_draw_108 : decode cX0_draw 108 = .ok (.getfield 174, 3) := dk_180 0 174 (dk_at dksX0_draw_4 18 rfl rfl)
theorem dX0_draw_111 : decode cX0_draw 111 = .ok (.iconst 0, 1) := dk_3 (dk_at dksX0_draw_4 21 rfl rfl)
theorem dX0_draw_112 : decode cX0_draw 112 = .ok (.iaload, 1) := dk_46 (dk_at dksX0_draw_4 22 rfl rfl)
theorem dX0_draw_113 : decode cX0_draw 113 = .ok (.invokestatic 93, 3) := dk_184 0 93 (dk_at dksX0_draw_5 0 rfl rfl)
theorem dX0_draw_116 : decode cX0_draw 116 = .ok (.istore 6, 2) := dk_54 6 (dk_at dksX0_draw_5 3 rfl rfl)
theorem dX0_draw_118 : decode cX0_draw 118 = .ok (.iload 6, 2) := dk_21 6 (dk_at dksX0_draw_5 5 rfl rfl)
theorem dX0_draw_120 : decode cX0_draw 120 = .ok (.iload 5, 2) := dk_21 5 (dk_at dksX0_draw_5 7 rfl rfl)
theorem dX0_draw_122 : decode cX0_draw 122 = .ok (.if_icmp .ne 11, 3) := dk_160 0 11 (dk_at dksX0_draw_5 9 rfl rfl)
theorem dX0_draw_125 : decode cX0_draw 125 = .ok (.aload_n 2, 1) := dk_44 (dk_at dksX0_draw_5 12 rfl rfl)
theorem dX0_draw_126 : decode cX0_draw 126 = .ok (.iload_n 3, 1) := dk_29 (dk_at dksX0_draw_5 13 rfl rfl)
theorem dX0_draw_127 : decode cX0_draw 127 = .ok (.putfield 426, 3) := dk_181 1 170 (dk_at dksX0_draw_5 14 rfl rfl)
theorem dX0_draw_130 : decode cX0_draw 130 = .ok (.goto 100, 3) := dk_167 0 100 (dk_at dksX0_draw_5 17 rfl rfl)
theorem dX0_draw_133 : decode cX0_draw 133 = .ok (.iload 4, 2) := dk_21 4 (dk_at dksX0_draw_5 20 rfl rfl)
theorem dX0_draw_135 : decode cX0_draw 135 = .ok (.ifCond .eq 39, 3) := dk_153 0 39 (dk_at dksX0_draw_6 0 rfl rfl)
theorem dX0_draw_138 : decode cX0_draw 138 = .ok (.aload_n 1, 1) := dk_43 (dk_at dksX0_draw_6 3 rfl rfl)
theorem dX0_draw_139 : decode cX0_draw 139 = .ok (.bipush 100, 2) := dk_16 100 (dk_at dksX0_draw_6 4 rfl rfl)
theorem dX0_draw_141 : decode cX0_draw 141 = .ok (.invokevirtual 429, 3) := dk_182 1 173 (dk_at dksX0_draw_6 6 rfl rfl)
theorem dX0_draw_144 : decode cX0_draw 144 = .ok (.aload_n 0, 1) := dk_42 (dk_at dksX0_draw_6 9 rfl rfl)
theorem dX0_draw_145 : decode cX0_draw 145 = .ok (.getfield 17, 3) := dk_180 0 17 (dk_at dksX0_draw_6 10 rfl rfl)
theorem dX0_draw_148 : decode cX0_draw 148 = .ok (.getfield 174, 3) := dk_180 0 174 (dk_at dksX0_draw_6 13 rfl rfl)
theorem dX0_draw_151 : decode cX0_draw 151 = .ok (.iconst 3, 1) := dk_6 (dk_at dksX0_draw_6 16 rfl rfl)
theorem dX0_draw_152 : decode cX0_draw 152 = .ok (.iaload, 1) := dk_46 (dk_at dksX0_draw_6 17 rfl rfl)
theorem dX0_draw_153 : decode cX0_draw 153 = .ok (.if_icmp .ge 21, 3) := dk_162 0 21 (dk_at dksX0_draw_6 18 rfl rfl)
theorem dX0_draw_156 : decode cX0_draw 156 = .ok (.aload_n 2, 1) := dk_44 (dk_at dksX0_draw_6 21 rfl rfl)
theorem dX0_draw_157 : decode cX0_draw 157 = .ok (.iload 4, 2) := dk_21 4 (dk_at dksX0_draw_6 22 rfl rfl)
theorem dX0_draw_159 : decode cX0_draw 159 = .ok (.aload_n 1, 1) := dk_43 (dk_at dksX0_draw_7 0 rfl rfl)
theorem dX0_draw_160 : decode cX0_draw 160 = .ok (.iload 4, 2) := dk_21 4 (dk_at dksX0_draw_7 1 rfl rfl)
theorem dX0_draw_162 : decode cX0_draw 162 = .ok (.invokestatic 421, 3) := dk_184 1 165 (dk_at dksX0_draw_7 3 rfl rfl)
theorem dX0_draw_165 : decode cX0_draw 165 = .ok (.invokevirtual 429, 3) := dk_182 1 173 (dk_at dksX0_draw_7 6 rfl rfl)
theorem dX0_draw_168 : decode cX0_draw 168 = .ok (.invokestatic 433, 3) := dk_184 1 177 (dk_at dksX0_draw_7 9 rfl rfl)
theorem dX0_draw_171 : decode cX0_draw 171 = .ok (.putfield 426, 3) := dk_181 1 170 (dk_at dksX0_draw_7 12 rfl rfl)
theorem dX0_draw_174 : decode cX0_draw 174 = .ok (.aload_n 2, 1) := dk_44 (dk_at dksX0_draw_7 15 rfl rfl)
theorem dX0_draw_175 : decode cX0_draw 175 = .ok (.getfield 426, 3) := dk_180 1 170 (dk_at dksX0_draw_7 16 rfl rfl)
theorem dX0_draw_178 : decode cX0_draw 178 = .ok (.invokestatic 421, 3) := dk_184 1 165 (dk_at dksX0_draw_7 19 rfl rfl)
theorem dX0_draw_181 : decode cX0_draw 181 = .ok (.iload 6, 2) := dk_21 6 (dk_at dksX0_draw_7 22 rfl rfl)
theorem dX0_draw_183 : decode cX0_draw 183 = .ok (.if_icmp .ge 47, 3) := dk_162 0 47 (dk_at dksX0_draw_8 0 rfl rfl)
theorem dX0_draw_186 : decode cX0_draw 186 = .ok (.aload_n 2, 1) := dk_44 (dk_at dksX0_draw_8 3 rfl rfl)
theorem dX0_draw_187 : decode cX0_draw 187 = .ok (.astore 7, 2) := dk_58 7 (dk_at dksX0_draw_8 4 rfl rfl)
theorem dX0_draw_189 : decode cX0_draw 189 = .ok (.aload 7, 2) := dk_25 7 (dk_at dksX0_draw_8 6 rfl rfl)
theorem dX0_draw_191 : decode cX0_draw 191 = .ok (.aload 7, 2) := dk_25 7 (dk_at dksX0_draw_8 8 rfl rfl)
theorem dX0_draw_193 : decode cX0_draw 193 = .ok (.getfield 426, 3) := dk_180 1 170 (dk_at dksX0_draw_8 10 rfl rfl)
theorem dX0_draw_196 : decode cX0_draw 196 = .ok (.iload_n 3, 1) := dk_29 (dk_at dksX0_draw_8 13 rfl rfl)
theorem dX0_draw_197 : decode cX0_draw 197 = .ok (.aload_n 2, 1) := dk_44 (dk_at dksX0_draw_8 14 rfl rfl)
theorem dX0_draw_198 : decode cX0_draw 198 = .ok (.getfield 426, 3) := dk_180 1 170 (dk_at dksX0_draw_8 15 rfl rfl)
theorem dX0_draw_201 : decode cX0_draw 201 = .ok (.iconst (-1), 1) := dk_2 (dk_at dksX0_draw_8 18 rfl rfl)
theorem dX0_draw_202 : decode cX0_draw 202 = .ok (.ixor, 1) := dk_130 (dk_at dksX0_draw_8 19 rfl rfl)
theorem dX0_draw_203 : decode cX0_draw 203 = .ok (.iand, 1) := dk_126 (dk_at dksX0_draw_8 20 rfl rfl)
theorem dX0_draw_204 : decode cX0_draw 204 = .ok (.aload_n 1, 1) := dk_43 (dk_at dksX0_draw_8 21 rfl rfl)
theorem dX0_draw_205 : decode cX0_draw 205 = .ok (.iload 5, 2) := dk_21 5 (dk_at dksX0_draw_8 22 rfl rfl)
theorem dX0_draw_207 : decode cX0_draw 207 = .ok (.aload_n 2, 1) := dk_44 (dk_at dksX0_draw_9 0 rfl rfl)
theorem dX0_draw_208 : decode cX0_draw 208 = .ok (.getfield 426, 3) := dk_180 1 170 (dk_at dksX0_draw_9 1 rfl rfl)
theorem dX0_draw_211 : decode cX0_draw 211 = .ok (.invokestatic 421, 3) := dk_184 1 165 (dk_at dksX0_draw_9 4 rfl rfl)
theorem dX0_draw_214 : decode cX0_draw 214 = .ok (.isub, 1) := dk_100 (dk_at dksX0_draw_9 7 rfl rfl)
theorem dX0_draw_215 : decode cX0_draw 215 = .ok (.invokevirtual 429, 3) := dk_182 1 173 (dk_at dksX0_draw_9 8 rfl rfl)
theorem dX0_draw_218 : decode cX0_draw 218 = .ok (.invokestatic 433, 3) := dk_184 1 177 (dk_at dksX0_draw_9 11 rfl rfl)
theorem dX0_draw_221 : decode cX0_draw 221 = .ok (.ior, 1) := dk_128 (dk_at dksX0_draw_9 14 rfl rfl)
theorem dX0_draw_222 : decode cX0_draw 222 = .ok (.dup_x1, 1) := dk_90 (dk_at dksX0_draw_9 15 rfl rfl)
theorem dX0_draw_223 : decode cX0_draw 223 = .ok (.putfield 426, 3) := dk_181 1 170 (dk_at dksX0_draw_9 16 rfl rfl)
theorem dX0_draw_226 : decode cX0_draw 226 = .ok (.pop, 1) := dk_87 (dk_at dksX0_draw_9 19 rfl rfl)
theorem dX0_draw_227 : decode cX0_draw 227 = .ok (.goto (-53), 3) := dk_167 255 203 (dk_at dksX0_draw_9 20 rfl rfl)
theorem dX0_draw_230 : decode cX0_draw 230 = .ok (.iconst 0, 1) := dk_3 (dk_at dksX0_draw_9 23 rfl rfl)
theorem dX0_draw_231 : decode cX0_draw 231 = .ok (.istore 7, 2) := dk_54 7 (dk_at dksX0_draw_10 0 rfl rfl)
theorem dX0_draw_233 : decode cX0_draw 233 = .ok (.iload 7, 2) := dk_21 7 (dk_at dksX0_draw_10 2 rfl rfl)
theorem dX0_draw_235 : decode cX0_draw 235 = .ok (.aload_n 0, 1) := dk_42 (dk_at dksX0_draw_10 4 rfl rfl)
theorem dX0_draw_236 : decode cX0_draw 236 = .ok (.getfield 17, 3) := dk_180 0 17 (dk_at dksX0_draw_10 5 rfl rfl)
theorem dX0_draw_239 : decode cX0_draw 239 = .ok (.getfield 174, 3) := dk_180 0 174 (dk_at dksX0_draw_10 8 rfl rfl)
theorem dX0_draw_242 : decode cX0_draw 242 = .ok (.iconst 1, 1) := dk_4 (dk_at dksX0_draw_10 11 rfl rfl)
theorem dX0_draw_243 : decode cX0_draw 243 = .ok (.iaload, 1) := dk_46 (dk_at dksX0_draw_10 12 rfl rfl)
theorem dX0_draw_244 : decode cX0_draw 244 = .ok (.if_icmp .ge 131, 3) := dk_162 0 131 (dk_at dksX0_draw_10 13 rfl rfl)
theorem dX0_draw_247 : decode cX0_draw 247 = .ok (.aload_n 2, 1) := dk_44 (dk_at dksX0_draw_10 16 rfl rfl)
theorem dX0_draw_248 : decode cX0_draw 248 = .ok (.getfield 436, 3) := dk_180 1 180 (dk_at dksX0_draw_10 17 rfl rfl)
theorem dX0_draw_251 : decode cX0_draw 251 = .ok (.aload_n 2, 1) := dk_44 (dk_at dksX0_draw_10 20 rfl rfl)
theorem dX0_draw_252 : decode cX0_draw 252 = .ok (.getfield 426, 3) := dk_180 1 170 (dk_at dksX0_draw_10 21 rfl rfl)
theorem dX0_draw_255 : decode cX0_draw 255 = .ok (.if_icmp .eq 120, 3) := dk_159 0 120 (dk_at dksX0_draw_11 0 rfl rfl)
theorem dX0_draw_258 : decode cX0_draw 258 = .ok (.iconst (-1), 1) := dk_2 (dk_at dksX0_draw_11 3 rfl rfl)
theorem dX0_draw_259 : decode cX0_draw 259 = .ok (.istore 8, 2) := dk_54 8 (dk_at dksX0_draw_11 4 rfl rfl)
theorem dX0_draw_261 : decode cX0_draw 261 = .ok (.iconst 0, 1) := dk_3 (dk_at dksX0_draw_11 6 rfl rfl)
theorem dX0_draw_262 : decode cX0_draw 262 = .ok (.istore 9, 2) := dk_54 9 (dk_at dksX0_draw_11 7 rfl rfl)
theorem dX0_draw_264 : decode cX0_draw 264 = .ok (.iload 9, 2) := dk_21 9 (dk_at dksX0_draw_11 9 rfl rfl)
theorem dX0_draw_266 : decode cX0_draw 266 = .ok (.aload_n 0, 1) := dk_42 (dk_at dksX0_draw_11 11 rfl rfl)
theorem dX0_draw_267 : decode cX0_draw 267 = .ok (.invokevirtual 13, 3) := dk_182 0 13 (dk_at dksX0_draw_11 12 rfl rfl)
theorem dX0_draw_270 : decode cX0_draw 270 = .ok (.if_icmp .ge 54, 3) := dk_162 0 54 (dk_at dksX0_draw_11 15 rfl rfl)
theorem dX0_draw_273 : decode cX0_draw 273 = .ok (.aload_n 2, 1) := dk_44 (dk_at dksX0_draw_11 18 rfl rfl)
theorem dX0_draw_274 : decode cX0_draw 274 = .ok (.getfield 426, 3) := dk_180 1 170 (dk_at dksX0_draw_11 19 rfl rfl)
theorem dX0_draw_277 : decode cX0_draw 277 = .ok (.aload_n 2, 1) := dk_44 (dk_at dksX0_draw_11 22 rfl rfl)
theorem dX0_draw_278 : decode cX0_draw 278 = .ok (.getfield 436, 3) := dk_180 1 180 (dk_at dksX0_draw_12 0 rfl rfl)
theorem dX0_draw_281 : decode cX0_draw 281 = .ok (.iconst (-1), 1) := dk_2 (dk_at dksX0_draw_12 3 rfl rfl)
theorem dX0_draw_282 : decode cX0_draw 282 = .ok (.ixor, 1) := dk_130 (dk_at dksX0_draw_12 4 rfl rfl)
theorem dX0_draw_283 : decode cX0_draw 283 = .ok (.iand, 1) := dk_126 (dk_at dksX0_draw_12 5 rfl rfl)
theorem dX0_draw_284 : decode cX0_draw 284 = .ok (.iload 9, 2) := dk_21 9 (dk_at dksX0_draw_12 6 rfl rfl)
theorem dX0_draw_286 : decode cX0_draw 286 = .ok (.ishr, 1) := dk_122 (dk_at dksX0_draw_12 8 rfl rfl)
theorem dX0_draw_287 : decode cX0_draw 287 = .ok (.iconst 1, 1) := dk_4 (dk_at dksX0_draw_12 9 rfl rfl)
theorem dX0_draw_288 : decode cX0_draw 288 = .ok (.iand, 1) := dk_126 (dk_at dksX0_draw_12 10 rfl rfl)
theorem dX0_draw_289 : decode cX0_draw 289 = .ok (.iconst 1, 1) := dk_4 (dk_at dksX0_draw_12 11 rfl rfl)
theorem dX0_draw_290 : decode cX0_draw 290 = .ok (.if_icmp .ne 28, 3) := dk_160 0 28 (dk_at dksX0_draw_12 12 rfl rfl)
theorem dX0_draw_293 : decode cX0_draw 293 = .ok (.iload 8, 2) := dk_21 8 (dk_at dksX0_draw_12 15 rfl rfl)
theorem dX0_draw_295 : decode cX0_draw 295 = .ok (.iconst (-1), 1) := dk_2 (dk_at dksX0_draw_12 17 rfl rfl)
theorem dX0_draw_296 : decode cX0_draw 296 = .ok (.if_icmp .eq 18, 3) := dk_159 0 18 (dk_at dksX0_draw_12 18 rfl rfl)
theorem dX0_draw_299 : decode cX0_draw 299 = .ok (.aload_n 0, 1) := dk_42 (dk_at dksX0_draw_12 21 rfl rfl)
theorem dX0_draw_300 : decode cX0_draw 300 = .ok (.iload 9, 2) := dk_21 9 (dk_at dksX0_draw_12 22 rfl rfl)
theorem dX0_draw_302 : decode cX0_draw 302 = .ok (.invokevirtual 439, 3) := dk_182 1 183 (dk_at dksX0_draw_13 0 rfl rfl)
theorem dX0_draw_305 : decode cX0_draw 305 = .ok (.aload_n 0, 1) := dk_42 (dk_at dksX0_draw_13 3 rfl rfl)
theorem dX0_draw_306 : decode cX0_draw 306 = .ok (.iload 8, 2) := dk_21 8 (dk_at dksX0_draw_13 4 rfl rfl)
theorem dX0_draw_308 : decode cX0_draw 308 = .ok (.invokevirtual 439, 3) := dk_182 1 183 (dk_at dksX0_draw_13 6 rfl rfl)
theorem dX0_draw_311 : decode cX0_draw 311 = .ok (.if_icmp .le 7, 3) := dk_164 0 7 (dk_at dksX0_draw_13 9 rfl rfl)
theorem dX0_draw_314 : decode cX0_draw 314 = .ok (.iload 9, 2) := dk_21 9 (dk_at dksX0_draw_13 12 rfl rfl)
theorem dX0_draw_316 : decode cX0_draw 316 = .ok (.istore 8, 2) := dk_54 8 (dk_at dksX0_draw_13 14 rfl rfl)
theorem dX0_draw_318 : decode cX0_draw 318 = .ok (.iinc 9 1, 3) := dk_132 9 1 (dk_at dksX0_draw_13 16 rfl rfl)
theorem dX0_draw_321 : decode cX0_draw 321 = .ok (.goto (-57), 3) := dk_167 255 199 (dk_at dksX0_draw_13 19 rfl rfl)
theorem dX0_draw_324 : decode cX0_draw 324 = .ok (.aload_n 2, 1) := dk_44 (dk_at dksX0_draw_13 22 rfl rfl)
theorem dX0_draw_325 : decode cX0_draw 325 = .ok (.dup, 1) := dk_89 (dk_at dksX0_draw_13 23 rfl rfl)
theorem dX0_draw_326 : decode cX0_draw 326 = .ok (.getfield 436, 3) := dk_180 1 180 (dk_at dksX0_draw_14 0 rfl rfl)
theorem dX0_draw_329 : decode cX0_draw 329 = .ok (.iconst 1, 1) := dk_4 (dk_at dksX0_draw_14 3 rfl rfl)
theorem dX0_draw_330 : decode cX0_draw 330 = .ok (.iload 8, 2) := dk_21 8 (dk_at dksX0_draw_14 4 rfl rfl)
theorem dX0_draw_332 : decode cX0_draw 332 = .ok (.ishl, 1) := dk_120 (dk_at dksX0_draw_14 6 rfl rfl)
theorem dX0_draw_333 : decode cX0_draw 333 = .ok (.ior, 1) := dk_128 (dk_at dksX0_draw_14 7 rfl rfl)
theorem dX0_draw_334 : decode cX0_draw 334 = .ok (.putfield 436, 3) := dk_181 1 180 (dk_at dksX0_draw_14 8 rfl rfl)
theorem dX0_draw_337 : decode cX0_draw 337 = .ok (.aload_n 2, 1) := dk_44 (dk_at dksX0_draw_14 11 rfl rfl)
theorem dX0_draw_338 : decode cX0_draw 338 = .ok (.dup, 1) := dk_89 (dk_at dksX0_draw_14 12 rfl rfl)
theorem dX0_draw_339 : decode cX0_draw 339 = .ok (.getfield 442, 3) := dk_180 1 186 (dk_at dksX0_draw_14 13 rfl rfl)
theorem dX0_draw_342 : decode cX0_draw 342 = .ok (.aload_n 1, 1) := dk_43 (dk_at dksX0_draw_14 16 rfl rfl)
theorem dX0_draw_343 : decode cX0_draw 343 = .ok (.bipush 100, 2) := dk_16 100 (dk_at dksX0_draw_14 17 rfl rfl)
theorem dX0_draw_345 : decode cX0_draw 345 = .ok (.invokevirtual 429, 3) := dk_182 1 173 (dk_at dksX0_draw_14 19 rfl rfl)
theorem dX0_draw_348 : decode cX0_draw 348 = .ok (.aload_n 0, 1) := dk_42 (dk_at dksX0_draw_14 22 rfl rfl)
theorem dX0_draw_349 : decode cX0_draw 349 = .ok (.iload 8, 2) := dk_21 8 (dk_at dksX0_draw_15 0 rfl rfl)
theorem dX0_draw_351 : decode cX0_draw 351 = .ok (.invokevirtual 439, 3) := dk_182 1 183 (dk_at dksX0_draw_15 2 rfl rfl)
theorem dX0_draw_354 : decode cX0_draw 354 = .ok (.if_icmp .ge 10, 3) := dk_162 0 10 (dk_at dksX0_draw_15 5 rfl rfl)
theorem dX0_draw_357 : decode cX0_draw 357 = .ok (.iconst 1, 1) := dk_4 (dk_at dksX0_draw_15 8 rfl rfl)
theorem dX0_draw_358 : decode cX0_draw 358 = .ok (.iload 8, 2) := dk_21 8 (dk_at dksX0_draw_15 9 rfl rfl)
theorem dX0_draw_360 : decode cX0_draw 360 = .ok (.ishl, 1) := dk_120 (dk_at dksX0_draw_15 11 rfl rfl)
theorem dX0_draw_361 : decode cX0_draw 361 = .ok (.goto 4, 3) := dk_167 0 4 (dk_at dksX0_draw_15 12 rfl rfl)
theorem dX0_draw_364 : decode cX0_draw 364 = .ok (.iconst 0, 1) := dk_3 (dk_at dksX0_draw_15 15 rfl rfl)
theorem dX0_draw_365 : decode cX0_draw 365 = .ok (.ior, 1) := dk_128 (dk_at dksX0_draw_15 16 rfl rfl)
theorem dX0_draw_366 : decode cX0_draw 366 = .ok (.putfield 442, 3) := dk_181 1 186 (dk_at dksX0_draw_15 17 rfl rfl)
theorem dX0_draw_369 : decode cX0_draw 369 = .ok (.iinc 7 1, 3) := dk_132 7 1 (dk_at dksX0_draw_15 20 rfl rfl)
theorem dX0_draw_372 : decode cX0_draw 372 = .ok (.goto (-139), 3) := dk_167 255 117 (dk_at dksX0_draw_16 0 rfl rfl)
theorem dX0_draw_375 : decode cX0_draw 375 = .ok (.aload_n 2, 1) := dk_44 (dk_at dksX0_draw_16 3 rfl rfl)
theorem dX0_draw_376 : decode cX0_draw 376 = .ok (.areturn, 1) := dk_176 (dk_at dksX0_draw_16 4 rfl rfl)
abbrev cX0_pick : ByteArray := prog_1_method_63_code
def yX0_pick : MethodName := ⟨RX0, "pick", "(II)I"⟩
def dkwX0_pick_1 : List UInt8 := [126, 172]
abbrev dktX0_pick_1 : List UInt8 := dkwX0_pick_1 ++ []
def dkwX0_pick_0 : List UInt8 := [26, 61, 3, 62, 29, 27, 162, 0, 15, 28, 28, 4, 100, 126, 61, 132, 3, 1, 167, 255, 242, 28, 28, 116]
abbrev dktX0_pick_0 : List UInt8 := dkwX0_pick_0 ++ dktX0_pick_1
theorem dksX0_pick_0 : cX0_pick.data.toList.drop 0 = dktX0_pick_0 := by decide +kernel
theorem dksX0_pick_1 : cX0_pick.data.toList.drop 24 = dktX0_pick_1 := dk_seg dksX0_pick_0 24 rfl rfl
theorem dX0_pick_0 : decode cX0_pick 0 = .ok (.iload_n 0, 1) := dk_26 (dk_at dksX0_pick_0 0 rfl rfl)
theorem dX0_pick_1 : decode cX0_pick 1 = .ok (.istore_n 2, 1) := dk_61 (dk_at dksX0_pick_0 1 rfl rfl)
theorem dX0_pick_2 : decode cX0_pick 2 = .ok (.iconst 0, 1) := dk_3 (dk_at dksX0_pick_0 2 rfl rfl)
theorem dX0_pick_3 : decode cX0_pick 3 = .ok (.istore_n 3, 1) := dk_62 (dk_at dksX0_pick_0 3 rfl rfl)
theorem dX0_pick_4 : decode cX0_pick 4 = .ok (.iload_n 3, 1) := dk_29 (dk_at dksX0_pick_0 4 rfl rfl)
theorem dX0_pick_5 : decode cX0_pick 5 = .ok (.iload_n 1, 1) := dk_27 (dk_at dksX0_pick_0 5 rfl rfl)
theorem dX0_pick_6 : decode cX0_pick 6 = .ok (.if_icmp .ge 15, 3) := dk_162 0 15 (dk_at dksX0_pick_0 6 rfl rfl)
theorem dX0_pick_9 : decode cX0_pick 9 = .ok (.iload_n 2, 1) := dk_28 (dk_at dksX0_pick_0 9 rfl rfl)
theorem dX0_pick_10 : decode cX0_pick 10 = .ok (.iload_n 2, 1) := dk_28 (dk_at dksX0_pick_0 10 rfl rfl)
theorem dX0_pick_11 : decode cX0_pick 11 = .ok (.iconst 1, 1) := dk_4 (dk_at dksX0_pick_0 11 rfl rfl)
theorem dX0_pick_12 : decode cX0_pick 12 = .ok (.isub, 1) := dk_100 (dk_at dksX0_pick_0 12 rfl rfl)
theorem dX0_pick_13 : decode cX0_pick 13 = .ok (.iand, 1) := dk_126 (dk_at dksX0_pick_0 13 rfl rfl)
theorem dX0_pick_14 : decode cX0_pick 14 = .ok (.istore_n 2, 1) := dk_61 (dk_at dksX0_pick_0 14 rfl rfl)
theorem dX0_pick_15 : decode cX0_pick 15 = .ok (.iinc 3 1, 3) := dk_132 3 1 (dk_at dksX0_pick_0 15 rfl rfl)
theorem dX0_pick_18 : decode cX0_pick 18 = .ok (.goto (-14), 3) := dk_167 255 242 (dk_at dksX0_pick_0 18 rfl rfl)
theorem dX0_pick_21 : decode cX0_pick 21 = .ok (.iload_n 2, 1) := dk_28 (dk_at dksX0_pick_0 21 rfl rfl)
theorem dX0_pick_22 : decode cX0_pick 22 = .ok (.iload_n 2, 1) := dk_28 (dk_at dksX0_pick_0 22 rfl rfl)
theorem dX0_pick_23 : decode cX0_pick 23 = .ok (.ineg, 1) := dk_116 (dk_at dksX0_pick_0 23 rfl rfl)
theorem dX0_pick_24 : decode cX0_pick 24 = .ok (.iand, 1) := dk_126 (dk_at dksX0_pick_1 0 rfl rfl)
theorem dX0_pick_25 : decode cX0_pick 25 = .ok (.ireturn, 1) := dk_172 (dk_at dksX0_pick_1 1 rfl rfl)
abbrev cX0_chanceOf : ByteArray := prog_1_method_65_code
def yX0_chanceOf : MethodName := ⟨RX0, "chanceOf", "(I)I"⟩
def dkwX0_chanceOf_0 : List UInt8 := [42, 42, 180, 0, 17, 180, 0, 21, 27, 182, 0, 27, 192, 0, 33, 180, 0, 39, 182, 0, 3, 172]
abbrev dktX0_chanceOf_0 : List UInt8 := dkwX0_chanceOf_0 ++ []
theorem dksX0_chanceOf_0 : cX0_chanceOf.data.toList.drop 0 = dktX0_chanceOf_0 := by decide +kernel
theorem dX0_chanceOf_0 : decode cX0_chanceOf 0 = .ok (.aload_n 0, 1) := dk_42 (dk_at dksX0_chanceOf_0 0 rfl rfl)
theorem dX0_chanceOf_1 : decode cX0_chanceOf 1 = .ok (.aload_n 0, 1) := dk_42 (dk_at dksX0_chanceOf_0 1 rfl rfl)
theorem dX0_chanceOf_2 : decode cX0_chanceOf 2 = .ok (.getfield 17, 3) := dk_180 0 17 (dk_at dksX0_chanceOf_0 2 rfl rfl)
theorem dX0_chanceOf_5 : decode cX0_chanceOf 5 = .ok (.getfield 21, 3) := dk_180 0 21 (dk_at dksX0_chanceOf_0 5 rfl rfl)
theorem dX0_chanceOf_8 : decode cX0_chanceOf 8 = .ok (.iload_n 1, 1) := dk_27 (dk_at dksX0_chanceOf_0 8 rfl rfl)
theorem dX0_chanceOf_9 : decode cX0_chanceOf 9 = .ok (.invokevirtual 27, 3) := dk_182 0 27 (dk_at dksX0_chanceOf_0 9 rfl rfl)
theorem dX0_chanceOf_12 : decode cX0_chanceOf 12 = .ok (.checkcast 33, 3) := dk_192 0 33 (dk_at dksX0_chanceOf_0 12 rfl rfl)
theorem dX0_chanceOf_15 : decode cX0_chanceOf 15 = .ok (.getfield 39, 3) := dk_180 0 39 (dk_at dksX0_chanceOf_0 15 rfl rfl)
theorem dX0_chanceOf_18 : decode cX0_chanceOf 18 = .ok (.invokevirtual 3, 3) := dk_182 0 3 (dk_at dksX0_chanceOf_0 18 rfl rfl)
theorem dX0_chanceOf_21 : decode cX0_chanceOf 21 = .ok (.ireturn, 1) := dk_172 (dk_at dksX0_chanceOf_0 21 rfl rfl)
abbrev cX0_table : ByteArray := prog_1_method_67_code
def yX0_table : MethodName := ⟨RX0, "table", "(I)I"⟩
def dkwX0_table_3 : List UInt8 := [2, 172]
abbrev dktX0_table_3 : List UInt8 := dkwX0_table_3 ++ []
def dkwX0_table_2 : List UInt8 := [42, 180, 1, 194, 180, 1, 170, 172, 42, 180, 1, 194, 180, 1, 180, 172, 42, 180, 1, 194, 180, 1, 186, 172]
abbrev dktX0_table_2 : List UInt8 := dkwX0_table_2 ++ dktX0_table_3
def dkwX0_table_1 : List UInt8 := [170, 0, 0, 0, 0, 50, 0, 0, 0, 0, 0, 0, 0, 2, 0, 0, 0, 26, 0, 0, 0, 34, 0, 0, 0, 42]
abbrev dktX0_table_1 : List UInt8 := dkwX0_table_1 ++ dktX0_table_2
def dkwX0_table_0 : List UInt8 := [42, 180, 1, 194, 199, 0, 5, 2, 172, 27]
abbrev dktX0_table_0 : List UInt8 := dkwX0_table_0 ++ dktX0_table_1
theorem dksX0_table_0 : cX0_table.data.toList.drop 0 = dktX0_table_0 := by decide +kernel
theorem dksX0_table_1 : cX0_table.data.toList.drop 10 = dktX0_table_1 := dk_seg dksX0_table_0 10 rfl rfl
theorem dksX0_table_2 : cX0_table.data.toList.drop 36 = dktX0_table_2 := dk_seg dksX0_table_1 26 rfl rfl
theorem dksX0_table_3 : cX0_table.data.toList.drop 60 = dktX0_table_3 := dk_seg dksX0_table_2 24 rfl rfl
theorem dX0_table_0 : decode cX0_table 0 = .ok (.aload_n 0, 1) := dk_42 (dk_at dksX0_table_0 0 rfl rfl)
theorem dX0_table_1 : decode cX0_table 1 = .ok (.getfield 450, 3) := dk_180 1 194 (dk_at dksX0_table_0 1 rfl rfl)
theorem dX0_table_4 : decode cX0_table 4 = .ok (.ifnonnull 5, 3) := dk_199 0 5 (dk_at dksX0_table_0 4 rfl rfl)
theorem dX0_table_7 : decode cX0_table 7 = .ok (.iconst (-1), 1) := dk_2 (dk_at dksX0_table_0 7 rfl rfl)
theorem dX0_table_8 : decode cX0_table 8 = .ok (.ireturn, 1) := dk_172 (dk_at dksX0_table_0 8 rfl rfl)
theorem dX0_table_9 : decode cX0_table 9 = .ok (.iload_n 1, 1) := dk_27 (dk_at dksX0_table_0 9 rfl rfl)
theorem dX0_table_10 : decode cX0_table 10 = .ok (.tableswitch 50 0 2 #[26, 34, 42], 26) := by decide +kernel
theorem dX0_table_36 : decode cX0_table 36 = .ok (.aload_n 0, 1) := dk_42 (dk_at dksX0_table_2 0 rfl rfl)
theorem dX0_table_37 : decode cX0_table 37 = .ok (.getfield 450, 3) := dk_180 1 194 (dk_at dksX0_table_2 1 rfl rfl)
theorem dX0_table_40 : decode cX0_table 40 = .ok (.getfield 426, 3) := dk_180 1 170 (dk_at dksX0_table_2 4 rfl rfl)
theorem dX0_table_43 : decode cX0_table 43 = .ok (.ireturn, 1) := dk_172 (dk_at dksX0_table_2 7 rfl rfl)
theorem dX0_table_44 : decode cX0_table 44 = .ok (.aload_n 0, 1) := dk_42 (dk_at dksX0_table_2 8 rfl rfl)
theorem dX0_table_45 : decode cX0_table 45 = .ok (.getfield 450, 3) := dk_180 1 194 (dk_at dksX0_table_2 9 rfl rfl)
theorem dX0_table_48 : decode cX0_table 48 = .ok (.getfield 436, 3) := dk_180 1 180 (dk_at dksX0_table_2 12 rfl rfl)
theorem dX0_table_51 : decode cX0_table 51 = .ok (.ireturn, 1) := dk_172 (dk_at dksX0_table_2 15 rfl rfl)
theorem dX0_table_52 : decode cX0_table 52 = .ok (.aload_n 0, 1) := dk_42 (dk_at dksX0_table_2 16 rfl rfl)
theorem dX0_table_53 : decode cX0_table 53 = .ok (.getfield 450, 3) := dk_180 1 194 (dk_at dksX0_table_2 17 rfl rfl)
theorem dX0_table_56 : decode cX0_table 56 = .ok (.getfield 442, 3) := dk_180 1 186 (dk_at dksX0_table_2 20 rfl rfl)
theorem dX0_table_59 : decode cX0_table 59 = .ok (.ireturn, 1) := dk_172 (dk_at dksX0_table_2 23 rfl rfl)
theorem dX0_table_60 : decode cX0_table 60 = .ok (.iconst (-1), 1) := dk_2 (dk_at dksX0_table_3 0 rfl rfl)
theorem dX0_table_61 : decode cX0_table 61 = .ok (.ireturn, 1) := dk_172 (dk_at dksX0_table_3 1 rfl rfl)
abbrev cX0_exams : ByteArray := prog_1_method_68_code
def yX0_exams : MethodName := ⟨RX0, "exams", "(II)I"⟩
def dkwX0_exams_3 : List UInt8 := [167, 0, 4, 3, 96, 54, 4, 132, 5, 1, 167, 255, 217, 21, 4, 172]
abbrev dktX0_exams_3 : List UInt8 := dkwX0_exams_3 ++ []
def dkwX0_exams_2 : List UInt8 := [21, 4, 42, 45, 182, 1, 190, 182, 1, 198, 42, 180, 0, 17, 180, 0, 174, 5, 46, 161, 0, 7, 4]
abbrev dktX0_exams_2 : List UInt8 := dkwX0_exams_2 ++ dktX0_exams_3
def dkwX0_exams_1 : List UInt8 := [2, 172, 187, 1, 174, 89, 28, 183, 1, 189, 78, 3, 54, 4, 3, 54, 5, 21, 5, 27, 162, 0, 39]
abbrev dktX0_exams_1 : List UInt8 := dkwX0_exams_1 ++ dktX0_exams_2
def dkwX0_exams_0 : List UInt8 := [27, 133, 10, 20, 1, 201, 184, 0, 109, 153, 0, 15, 28, 133, 9, 20, 1, 157, 184, 0, 109, 154, 0, 5]
abbrev dktX0_exams_0 : List UInt8 := dkwX0_exams_0 ++ dktX0_exams_1
theorem dksX0_exams_0 : cX0_exams.data.toList.drop 0 = dktX0_exams_0 := by decide +kernel
theorem dksX0_exams_1 : cX0_exams.data.toList.drop 24 = dktX0_exams_1 := dk_seg dksX0_exams_0 24 rfl rfl
theorem dksX0_exams_2 : cX0_exams.data.toList.drop 47 = dktX0_exams_2 := dk_seg dksX0_exams_1 23 rfl rfl
theorem dksX0_exams_3 : cX0_exams.data.toList.drop 70 = dktX0_exams_3 := dk_seg dksX0_exams_2 23 rfl rfl
theorem dX0_exams_0 : decode cX0_exams 0 = .ok (.iload_n 1, 1) := dk_27 (dk_at dksX0_exams_0 0 rfl rfl)
theorem dX0_exams_1 : decode cX0_exams 1 = .ok (.i2l, 1) := dk_133 (dk_at dksX0_exams_0 1 rfl rfl)
theorem dX0_exams_2 : decode cX0_exams 2 = .ok (.lconst 1, 1) := dk_10 (dk_at dksX0_exams_0 2 rfl rfl)
theorem dX0_exams_3 : decode cX0_exams 3 = .ok (.ldc2_w 457, 3) := dk_20 1 201 (dk_at dksX0_exams_0 3 rfl rfl)
theorem dX0_exams_6 : decode cX0_exams 6 = .ok (.invokestatic 109, 3) := dk_184 0 109 (dk_at dksX0_exams_0 6 rfl rfl)
theorem dX0_exams_9 : decode cX0_exams 9 = .ok (.ifCond .eq 15, 3) := dk_153 0 15 (dk_at dksX0_exams_0 9 rfl rfl)
theorem dX0_exams_12 : decode cX0_exams 12 = .ok (.iload_n 2, 1) := dk_28 (dk_at dksX0_exams_0 12 rfl rfl)
theorem dX0_exams_13 : decode cX0_exams 13 = .ok (.i2l, 1) := dk_133 (dk_at dksX0_exams_0 13 rfl rfl)
theorem dX0_exams_14 : decode cX0_exams 14 = .ok (.lconst 0, 1) := dk_9 (dk_at dksX0_exams_0 14 rfl rfl)
theorem dX0_exams_15 : decode cX0_exams 15 = .ok (.ldc2_w 413, 3) := dk_20 1 157 (dk_at dksX0_exams_0 15 rfl rfl)
theorem dX0_exams_18 : decode cX0_exams 18 = .ok (.invokestatic 109, 3) := dk_184 0 109 (dk_at dksX0_exams_0 18 rfl rfl)
theorem dX0_exams_21 : decode cX0_exams 21 = .ok (.ifCond .ne 5, 3) := dk_154 0 5 (dk_at dksX0_exams_0 21 rfl rfl)
theorem dX0_exams_24 : decode cX0_exams 24 = .ok (.iconst (-1), 1) := dk_2 (dk_at dksX0_exams_1 0 rfl rfl)
theorem dX0_exams_25 : decode cX0_exams 25 = .ok (.ireturn, 1) := dk_172 (dk_at dksX0_exams_1 1 rfl rfl)
theorem dX0_exams_26 : decode cX0_exams 26 = .ok (.new 430, 3) := dk_187 1 174 (dk_at dksX0_exams_1 2 rfl rfl)
theorem dX0_exams_29 : decode cX0_exams 29 = .ok (.dup, 1) := dk_89 (dk_at dksX0_exams_1 5 rfl rfl)
theorem dX0_exams_30 : decode cX0_exams 30 = .ok (.iload_n 2, 1) := dk_28 (dk_at dksX0_exams_1 6 rfl rfl)
theorem dX0_exams_31 : decode cX0_exams 31 = .ok (.invokespecial 445, 3) := dk_183 1 189 (dk_at dksX0_exams_1 7 rfl rfl)
theorem dX0_exams_34 : decode cX0_exams 34 = .ok (.astore_n 3, 1) := dk_78 (dk_at dksX0_exams_1 10 rfl rfl)
theorem dX0_exams_35 : decode cX0_exams 35 = .ok (.iconst 0, 1) := dk_3 (dk_at dksX0_exams_1 11 rfl rfl)
theorem dX0_exams_36 : decode cX0_exams 36 = .ok (.istore 4, 2) := dk_54 4 (dk_at dksX0_exams_1 12 rfl rfl)
theorem dX0_exams_38 : decode cX0_exams 38 = .ok (.iconst 0, 1) := dk_3 (dk_at dksX0_exams_1 14 rfl rfl)
theorem dX0_exams_39 : decode cX0_exams 39 = .ok (.istore 5, 2) := dk_54 5 (dk_at dksX0_exams_1 15 rfl rfl)
theorem dX0_exams_41 : decode cX0_exams 41 = .ok (.iload 5, 2) := dk_21 5 (dk_at dksX0_exams_1 17 rfl rfl)
theorem dX0_exams_43 : decode cX0_exams 43 = .ok (.iload_n 1, 1) := dk_27 (dk_at dksX0_exams_1 19 rfl rfl)
theorem dX0_exams_44 : decode cX0_exams 44 = .ok (.if_icmp .ge 39, 3) := dk_162 0 39 (dk_at dksX0_exams_1 20 rfl rfl)
theorem dX0_exams_47 : decode cX0_exams 47 = .ok (.iload 4, 2) := dk_21 4 (dk_at dksX0_exams_2 0 rfl rfl)
theorem dX0_exams_49 : decode cX0_exams 49 = .ok (.aload_n 0, 1) := dk_42 (dk_at dksX0_exams_2 2 rfl rfl)
theorem dX0_exams_50 : decode cX0_exams 50 = .ok (.aload_n 3, 1) := dk_45 (dk_at dksX0_exams_2 3 rfl rfl)
theorem dX0_exams_51 : decode cX0_exams 51 = .ok (.invokevirtual 446, 3) := dk_182 1 190 (dk_at dksX0_exams_2 4 rfl rfl)
theorem dX0_exams_54 : decode cX0_exams 54 = .ok (.invokevirtual 454, 3) := dk_182 1 198 (dk_at dksX0_exams_2 7 rfl rfl)
theorem dX0_exams_57 : decode cX0_exams 57 = .ok (.aload_n 0, 1) := dk_42 (dk_at dksX0_exams_2 10 rfl rfl)
theorem dX0_exams_58 : decode cX0_exams 58 = .ok (.getfield 17, 3) := dk_180 0 17 (dk_at dksX0_exams_2 11 rfl rfl)
theorem dX0_exams_61 : decode cX0_exams 61 = .ok (.getfield 174, 3) := dk_180 0 174 (dk_at dksX0_exams_2 14 rfl rfl)
theorem dX0_exams_64 : decode cX0_exams 64 = .ok (.iconst 2, 1) := dk_5 (dk_at dksX0_exams_2 17 rfl rfl)
theorem dX0_exams_65 : decode cX0_exams 65 = .ok (.iaload, 1) := dk_46 (dk_at dksX0_exams_2 18 rfl rfl)
theorem dX0_exams_66 : decode cX0_exams 66 = .ok (.if_icmp .lt 7, 3) := dk_161 0 7 (dk_at dksX0_exams_2 19 rfl rfl)
theorem dX0_exams_69 : decode cX0_exams 69 = .ok (.iconst 1, 1) := dk_4 (dk_at dksX0_exams_2 22 rfl rfl)
theorem dX0_exams_70 : decode cX0_exams 70 = .ok (.goto 4, 3) := dk_167 0 4 (dk_at dksX0_exams_3 0 rfl rfl)
theorem dX0_exams_73 : decode cX0_exams 73 = .ok (.iconst 0, 1) := dk_3 (dk_at dksX0_exams_3 3 rfl rfl)
theorem dX0_exams_74 : decode cX0_exams 74 = .ok (.iadd, 1) := dk_96 (dk_at dksX0_exams_3 4 rfl rfl)
theorem dX0_exams_75 : decode cX0_exams 75 = .ok (.istore 4, 2) := dk_54 4 (dk_at dksX0_exams_3 5 rfl rfl)
theorem dX0_exams_77 : decode cX0_exams 77 = .ok (.iinc 5 1, 3) := dk_132 5 1 (dk_at dksX0_exams_3 7 rfl rfl)
theorem dX0_exams_80 : decode cX0_exams 80 = .ok (.goto (-39), 3) := dk_167 255 217 (dk_at dksX0_exams_3 10 rfl rfl)
theorem dX0_exams_83 : decode cX0_exams 83 = .ok (.iload 4, 2) := dk_21 4 (dk_at dksX0_exams_3 13 rfl rfl)
theorem dX0_exams_85 : decode cX0_exams 85 = .ok (.ireturn, 1) := dk_172 (dk_at dksX0_exams_3 15 rfl rfl)
abbrev cX0_image : ByteArray := prog_1_method_69_code
def yX0_image : MethodName := ⟨RX0, "image", "(I)I"⟩
def dkwX0_image_1 : List UInt8 := [180, 0, 17, 182, 1, 203, 83, 42, 3, 182, 0, 133, 172]
abbrev dktX0_image_1 : List UInt8 := dkwX0_image_1 ++ []
def dkwX0_image_0 : List UInt8 := [27, 133, 9, 10, 184, 0, 109, 154, 0, 9, 42, 2, 182, 0, 133, 172, 42, 180, 0, 56, 27, 42]
abbrev dktX0_image_0 : List UInt8 := dkwX0_image_0 ++ dktX0_image_1
theorem dksX0_image_0 : cX0_image.data.toList.drop 0 = dktX0_image_0 := by decide +kernel
theorem dksX0_image_1 : cX0_image.data.toList.drop 22 = dktX0_image_1 := dk_seg dksX0_image_0 22 rfl rfl
theorem dX0_image_0 : decode cX0_image 0 = .ok (.iload_n 1, 1) := dk_27 (dk_at dksX0_image_0 0 rfl rfl)
theorem dX0_image_1 : decode cX0_image 1 = .ok (.i2l, 1) := dk_133 (dk_at dksX0_image_0 1 rfl rfl)
theorem dX0_image_2 : decode cX0_image 2 = .ok (.lconst 0, 1) := dk_9 (dk_at dksX0_image_0 2 rfl rfl)
theorem dX0_image_3 : decode cX0_image 3 = .ok (.lconst 1, 1) := dk_10 (dk_at dksX0_image_0 3 rfl rfl)
theorem dX0_image_4 : decode cX0_image 4 = .ok (.invokestatic 109, 3) := dk_184 0 109 (dk_at dksX0_image_0 4 rfl rfl)
theorem dX0_image_7 : decode cX0_image 7 = .ok (.ifCond .ne 9, 3) := dk_154 0 9 (dk_at dksX0_image_0 7 rfl rfl)
theorem dX0_image_10 : decode cX0_image 10 = .ok (.aload_n 0, 1) := dk_42 (dk_at dksX0_image_0 10 rfl rfl)
theorem dX0_image_11 : decode cX0_image 11 = .ok (.iconst (-1), 1) := dk_2 (dk_at dksX0_image_0 11 rfl rfl)
theorem dX0_image_12 : decode cX0_image 12 = .ok (.invokevirtual 133, 3) := dk_182 0 133 (dk_at dksX0_image_0 12 rfl rfl)
theorem dX0_image_15 : decode cX0_image 15 = .ok (.ireturn, 1) := dk_172 (dk_at dksX0_image_0 15 rfl rfl)
theorem dX0_image_16 : decode cX0_image 16 = .ok (.aload_n 0, 1) := dk_42 (dk_at dksX0_image_0 16 rfl rfl)
theorem dX0_image_17 : decode cX0_image 17 = .ok (.getfield 56, 3) := dk_180 0 56 (dk_at dksX0_image_0 17 rfl rfl)
theorem dX0_image_20 : decode cX0_image 20 = .ok (.iload_n 1, 1) := dk_27 (dk_at dksX0_image_0 20 rfl rfl)
theorem dX0_image_21 : decode cX0_image 21 = .ok (.aload_n 0, 1) := dk_42 (dk_at dksX0_image_0 21 rfl rfl)
theorem dX0_image_22 : decode cX0_image 22 = .ok (.getfield 17, 3) := dk_180 0 17 (dk_at dksX0_image_1 0 rfl rfl)
theorem dX0_image_25 : decode cX0_image 25 = .ok (.invokevirtual 459, 3) := dk_182 1 203 (dk_at dksX0_image_1 3 rfl rfl)
theorem dX0_image_28 : decode cX0_image 28 = .ok (.aastore, 1) := dk_83 (dk_at dksX0_image_1 6 rfl rfl)
theorem dX0_image_29 : decode cX0_image 29 = .ok (.aload_n 0, 1) := dk_42 (dk_at dksX0_image_1 7 rfl rfl)
theorem dX0_image_30 : decode cX0_image 30 = .ok (.iconst 0, 1) := dk_3 (dk_at dksX0_image_1 8 rfl rfl)
theorem dX0_image_31 : decode cX0_image 31 = .ok (.invokevirtual 133, 3) := dk_182 0 133 (dk_at dksX0_image_1 9 rfl rfl)
theorem dX0_image_34 : decode cX0_image 34 = .ok (.ireturn, 1) := dk_172 (dk_at dksX0_image_1 12 rfl rfl)
abbrev cX0_back : ByteArray := prog_1_method_70_code
def yX0_back : MethodName := ⟨RX0, "back", "(I)I"⟩
def dkwX0_back_2 : List UInt8 := [3, 182, 0, 142, 172]
abbrev dktX0_back_2 : List UInt8 := dkwX0_back_2 ++ []
def dkwX0_back_1 : List UInt8 := [199, 0, 10, 42, 16, 254, 182, 0, 133, 172, 42, 42, 180, 0, 56, 27, 50, 182, 1, 203, 181, 0, 17, 42]
abbrev dktX0_back_1 : List UInt8 := dkwX0_back_1 ++ dktX0_back_2
def dkwX0_back_0 : List UInt8 := [27, 133, 9, 10, 184, 0, 109, 154, 0, 9, 42, 2, 182, 0, 133, 172, 42, 180, 0, 56, 27, 50]
abbrev dktX0_back_0 : List UInt8 := dkwX0_back_0 ++ dktX0_back_1
theorem dksX0_back_0 : cX0_back.data.toList.drop 0 = dktX0_back_0 := by decide +kernel
theorem dksX0_back_1 : cX0_back.data.toList.drop 22 = dktX0_back_1 := dk_seg dksX0_back_0 22 rfl rfl
theorem dksX0_back_2 : cX0_back.data.toList.drop 46 = dktX0_back_2 := dk_seg dksX0_back_1 24 rfl rfl
theorem dX0_back_0 : decode cX0_back 0 = .ok (.iload_n 1, 1) := dk_27 (dk_at dksX0_back_0 0 rfl rfl)
theorem dX0_back_1 : decode cX0_back 1 = .ok (.i2l, 1) := dk_133 (dk_at dksX0_back_0 1 rfl rfl)
theorem dX0_back_2 : decode cX0_back 2 = .ok (.lconst 0, 1) := dk_9 (dk_at dksX0_back_0 2 rfl rfl)
theorem dX0_back_3 : decode cX0_back 3 = .ok (.lconst 1, 1) := dk_10 (dk_at dksX0_back_0 3 rfl rfl)
theorem dX0_back_4 : decode cX0_back 4 = .ok (.invokestatic 109, 3) := dk_184 0 109 (dk_at dksX0_back_0 4 rfl rfl)
theorem dX0_back_7 : decode cX0_back 7 = .ok (.ifCond .ne 9, 3) := dk_154 0 9 (dk_at dksX0_back_0 7 rfl rfl)
theorem dX0_back_10 : decode cX0_back 10 = .ok (.aload_n 0, 1) := dk_42 (dk_at dksX0_back_0 10 rfl rfl)
theorem dX0_back_11 : decode cX0_back 11 = .ok (.iconst (-1), 1) := dk_2 (dk_at dksX0_back_0 11 rfl rfl)
theorem dX0_back_12 : decode cX0_back 12 = .ok (.invokevirtual 133, 3) := dk_182 0 133 (dk_at dksX0_back_0 12 rfl rfl)
theorem dX0_back_15 : decode cX0_back 15 = .ok (.ireturn, 1) := dk_172 (dk_at dksX0_back_0 15 rfl rfl)
theorem dX0_back_16 : decode cX0_back 16 = .ok (.aload_n 0, 1) := dk_42 (dk_at dksX0_back_0 16 rfl rfl)
theorem dX0_back_17 : decode cX0_back 17 = .ok (.getfield 56, 3) := dk_180 0 56 (dk_at dksX0_back_0 17 rfl rfl)
theorem dX0_back_20 : decode cX0_back 20 = .ok (.iload_n 1, 1) := dk_27 (dk_at dksX0_back_0 20 rfl rfl)
theorem dX0_back_21 : decode cX0_back 21 = .ok (.aaload, 1) := dk_50 (dk_at dksX0_back_0 21 rfl rfl)
theorem dX0_back_22 : decode cX0_back 22 = .ok (.ifnonnull 10, 3) := dk_199 0 10 (dk_at dksX0_back_1 0 rfl rfl)
theorem dX0_back_25 : decode cX0_back 25 = .ok (.aload_n 0, 1) := dk_42 (dk_at dksX0_back_1 3 rfl rfl)
theorem dX0_back_26 : decode cX0_back 26 = .ok (.bipush (-2), 2) := dk_16 254 (dk_at dksX0_back_1 4 rfl rfl)
theorem dX0_back_28 : decode cX0_back 28 = .ok (.invokevirtual 133, 3) := dk_182 0 133 (dk_at dksX0_back_1 6 rfl rfl)
theorem dX0_back_31 : decode cX0_back 31 = .ok (.ireturn, 1) := dk_172 (dk_at dksX0_back_1 9 rfl rfl)
theorem dX0_back_32 : decode cX0_back 32 = .ok (.aload_n 0, 1) := dk_42 (dk_at dksX0_back_1 10 rfl rfl)
theorem dX0_back_33 : decode cX0_back 33 = .ok (.aload_n 0, 1) := dk_42 (dk_at dksX0_back_1 11 rfl rfl)
theorem dX0_back_34 : decode cX0_back 34 = .ok (.getfield 56, 3) := dk_180 0 56 (dk_at dksX0_back_1 12 rfl rfl)
theorem dX0_back_37 : decode cX0_back 37 = .ok (.iload_n 1, 1) := dk_27 (dk_at dksX0_back_1 15 rfl rfl)
theorem dX0_back_38 : decode cX0_back 38 = .ok (.aaload, 1) := dk_50 (dk_at dksX0_back_1 16 rfl rfl)
theorem dX0_back_39 : decode cX0_back 39 = .ok (.invokevirtual 459, 3) := dk_182 1 203 (dk_at dksX0_back_1 17 rfl rfl)
theorem dX0_back_42 : decode cX0_back 42 = .ok (.putfield 17, 3) := dk_181 0 17 (dk_at dksX0_back_1 20 rfl rfl)
theorem dX0_back_45 : decode cX0_back 45 = .ok (.aload_n 0, 1) := dk_42 (dk_at dksX0_back_1 23 rfl rfl)
theorem dX0_back_46 : decode cX0_back 46 = .ok (.iconst 0, 1) := dk_3 (dk_at dksX0_back_2 0 rfl rfl)
theorem dX0_back_47 : decode cX0_back 47 = .ok (.invokevirtual 142, 3) := dk_182 0 142 (dk_at dksX0_back_2 1 rfl rfl)
theorem dX0_back_50 : decode cX0_back 50 = .ok (.ireturn, 1) := dk_172 (dk_at dksX0_back_2 4 rfl rfl)
abbrev cX0_count : ByteArray := prog_1_method_71_code
def yX0_count : MethodName := ⟨RX0, "count", "(I)I"⟩
def dkwX0_count_7 : List UInt8 := [8, 46, 172, 42, 180, 0, 78, 16, 6, 46, 172, 42, 180, 0, 17, 180, 0, 116, 172, 2, 172]
abbrev dktX0_count_7 : List UInt8 := dkwX0_count_7 ++ []
def dkwX0_count_6 : List UInt8 := [180, 0, 78, 4, 46, 172, 42, 180, 0, 78, 5, 46, 172, 42, 180, 0, 78, 6, 46, 172, 42, 180, 0, 78]
abbrev dktX0_count_6 : List UInt8 := dkwX0_count_6 ++ dktX0_count_7
def dkwX0_count_5 : List UInt8 := [158, 0, 7, 4, 167, 0, 4, 3, 96, 61, 132, 3, 1, 167, 255, 217, 28, 172, 42, 180, 0, 122, 172, 42]
abbrev dktX0_count_5 : List UInt8 := dkwX0_count_5 ++ dktX0_count_6
def dkwX0_count_4 : List UInt8 := [182, 0, 13, 162, 0, 37, 28, 42, 180, 0, 17, 180, 0, 21, 29, 182, 0, 27, 192, 0, 33, 180, 0, 39]
abbrev dktX0_count_4 : List UInt8 := dkwX0_count_4 ++ dktX0_count_5
def dkwX0_count_3 : List UInt8 := [180, 0, 17, 180, 1, 43, 182, 0, 106, 172, 42, 180, 0, 17, 180, 1, 105, 172, 3, 62, 29, 42]
abbrev dktX0_count_3 : List UInt8 := dkwX0_count_3 ++ dktX0_count_4
def dkwX0_count_2 : List UInt8 := [42, 182, 0, 13, 172, 42, 182, 0, 255, 172, 42, 180, 0, 17, 180, 0, 113, 182, 0, 106, 172, 42]
abbrev dktX0_count_2 : List UInt8 := dkwX0_count_2 ++ dktX0_count_3
def dkwX0_count_1 : List UInt8 := [170, 0, 0, 0, 200, 0, 0, 0, 0, 0, 0, 0, 12, 0, 0, 0, 65, 0, 0, 0, 70, 0, 0, 0, 75, 0, 0, 0, 86, 0, 0, 0, 97, 0, 0, 0, 105, 0, 0, 0, 151, 0, 0, 0, 156, 0, 0, 0, 163, 0, 0, 0, 170, 0, 0, 0, 177, 0, 0, 0, 184, 0, 0, 0, 192]
abbrev dktX0_count_1 : List UInt8 := dkwX0_count_1 ++ dktX0_count_2
def dkwX0_count_0 : List UInt8 := [3, 61, 27]
abbrev dktX0_count_0 : List UInt8 := dkwX0_count_0 ++ dktX0_count_1
theorem dksX0_count_0 : cX0_count.data.toList.drop 0 = dktX0_count_0 := by decide +kernel
theorem dksX0_count_1 : cX0_count.data.toList.drop 3 = dktX0_count_1 := dk_seg dksX0_count_0 3 rfl rfl
theorem dksX0_count_2 : cX0_count.data.toList.drop 68 = dktX0_count_2 := dk_seg dksX0_count_1 65 rfl rfl
theorem dksX0_count_3 : cX0_count.data.toList.drop 90 = dktX0_count_3 := dk_seg dksX0_count_2 22 rfl rfl
theorem dksX0_count_4 : cX0_count.data.toList.drop 112 = dktX0_count_4 := dk_seg dksX0_count_3 22 rfl rfl
theorem dksX0_count_5 : cX0_count.data.toList.drop 136 = dktX0_count_5 := dk_seg dksX0_count_4 24 rfl rfl
theorem dksX0_count_6 : cX0_count.data.toList.drop 160 = dktX0_count_6 := dk_seg dksX0_count_5 24 rfl rfl
theorem dksX0_count_7 : cX0_count.data.toList.drop 184 = dktX0_count_7 := dk_seg dksX0_count_6 24 rfl rfl
theorem dX0_count_0 : decode cX0_count 0 = .ok (.iconst 0, 1) := dk_3 (dk_at dksX0_count_0 0 rfl rfl)
theorem dX0_count_1 : decode cX0_count 1 = .ok (.istore_n 2, 1) := dk_61 (dk_at dksX0_count_0 1 rfl rfl)
theorem dX0_count_2 : decode cX0_count 2 = .ok (.iload_n 1, 1) := dk_27 (dk_at dksX0_count_0 2 rfl rfl)
theorem dX0_count_3 : decode cX0_count 3 = .ok (.tableswitch 200 0 12 #[65, 70, 75, 86, 97, 105, 151, 156, 163, 170, 177, 184, 192], 65) := by decide +kernel
theorem dX0_count_68 : decode cX0_count 68 = .ok (.aload_n 0, 1) := dk_42 (dk_at dksX0_count_2 0 rfl rfl)
theorem dX0_count_69 : decode cX0_count 69 = .ok (.invokevirtual 13, 3) := dk_182 0 13 (dk_at dksX0_count_2 1 rfl rfl)
theorem dX0_count_72 : decode cX0_count 72 = .ok (.ireturn, 1) := dk_172 (dk_at dksX0_count_2 4 rfl rfl)
theorem dX0_count_73 : decode cX0_count 73 = .ok (.aload_n 0, 1) := dk_42 (dk_at dksX0_count_2 5 rfl rfl)
theorem dX0_count_74 : decode cX0_count 74 = .ok (.invokevirtual 255, 3) := dk_182 0 255 (dk_at dksX0_count_2 6 rfl rfl)
theorem dX0_count_77 : decode cX0_count 77 = .ok (.ireturn, 1) := dk_172 (dk_at dksX0_count_2 9 rfl rfl)
theorem dX0_count_78 : decode cX0_count 78 = .ok (.aload_n 0, 1) := dk_42 (dk_at dksX0_count_2 10 rfl rfl)
theorem dX0_count_79 : decode cX0_count 79 = .ok (.getfield 17, 3) := dk_180 0 17 (dk_at dksX0_count_2 11 rfl rfl)
theorem dX0_count_82 : decode cX0_count 82 = .ok (.getfield 113, 3) := dk_180 0 113 (dk_at dksX0_count_2 14 rfl rfl)
theorem dX0_count_85 : decode cX0_count 85 = .ok (.invokevirtual 106, 3) := dk_182 0 106 (dk_at dksX0_count_2 17 rfl rfl)
theorem dX0_count_88 : decode cX0_count 88 = .ok (.ireturn, 1) := dk_172 (dk_at dksX0_count_2 20 rfl rfl)
theorem dX0_count_89 : decode cX0_count 89 = .ok (.aload_n 0, 1) := dk_42 (dk_at dksX0_count_2 21 rfl rfl)
theorem dX0_count_90 : decode cX0_count 90 = .ok (.getfield 17, 3) := dk_180 0 17 (dk_at dksX0_count_3 0 rfl rfl)
theorem dX0_count_93 : decode cX0_count 93 = .ok (.getfield 299, 3) := dk_180 1 43 (dk_at dksX0_count_3 3 rfl rfl)
theorem dX0_count_96 : decode cX0_count 96 = .ok (.invokevirtual 106, 3) := dk_182 0 106 (dk_at dksX0_count_3 6 rfl rfl)
theorem dX0_count_99 : decode cX0_count 99 = .ok (.ireturn, 1) := dk_172 (dk_at dksX0_count_3 9 rfl rfl)
theorem dX0_count_100 : decode cX0_count 100 = .ok (.aload_n 0, 1) := dk_42 (dk_at dksX0_count_3 10 rfl rfl)
theorem dX0_count_101 : decode cX0_count 101 = .ok (.getfield 17, 3) := dk_180 0 17 (dk_at dksX0_count_3 11 rfl rfl)
theorem dX0_count_104 : decode cX0_count 104 = .ok (.getfield 361, 3) := dk_180 1 105 (dk_at dksX0_count_3 14 rfl rfl)
theorem dX0_count_107 : decode cX0_count 107 = .ok (.ireturn, 1) := dk_172 (dk_at dksX0_count_3 17 rfl rfl)
theorem dX0_count_108 : decode cX0_count 108 = .ok (.iconst 0, 1) := dk_3 (dk_at dksX0_count_3 18 rfl rfl)
theorem dX0_count_109 : decode cX0_count 109 = .ok (.istore_n 3, 1) := dk_62 (dk_at dksX0_count_3 19 rfl rfl)
theorem dX0_count_110 : decode cX0_count 110 = .ok (.iload_n 3, 1) := dk_29 (dk_at dksX0_count_3 20 rfl rfl)
theorem dX0_count_111 : decode cX0_count 111 = .ok (.aload_n 0, 1) := dk_42 (dk_at dksX0_count_3 21 rfl rfl)
theorem dX0_count_112 : decode cX0_count 112 = .ok (.invokevirtual 13, 3) := dk_182 0 13 (dk_at dksX0_count_4 0 rfl rfl)
theorem dX0_count_115 : decode cX0_count 115 = .ok (.if_icmp .ge 37, 3) := dk_162 0 37 (dk_at dksX0_count_4 3 rfl rfl)
theorem dX0_count_118 : decode cX0_count 118 = .ok (.iload_n 2, 1) := dk_28 (dk_at dksX0_count_4 6 rfl rfl)
theorem dX0_count_119 : decode cX0_count 119 = .ok (.aload_n 0, 1) := dk_42 (dk_at dksX0_count_4 7 rfl rfl)
theorem dX0_count_120 : decode cX0_count 120 = .ok (.getfield 17, 3) := dk_180 0 17 (dk_at dksX0_count_4 8 rfl rfl)
theorem dX0_count_123 : decode cX0_count 123 = .ok (.getfield 21, 3) := dk_180 0 21 (dk_at dksX0_count_4 11 rfl rfl)
theorem dX0_count_126 : decode cX0_count 126 = .ok (.iload_n 3, 1) := dk_29 (dk_at dksX0_count_4 14 rfl rfl)
theorem dX0_count_127 : decode cX0_count 127 = .ok (.invokevirtual 27, 3) := dk_182 0 27 (dk_at dksX0_count_4 15 rfl rfl)
theorem dX0_count_130 : decode cX0_count 130 = .ok (.checkcast 33, 3) := dk_192 0 33 (dk_at dksX0_count_4 18 rfl rfl)
theorem dX0_count_133 : decode cX0_count 133 = .ok (.getfield 39, 3) := dk_180 0 39 (dk_at dksX0_count_4 21 rfl rfl)
theorem dX0_count_136 : decode cX0_count 136 = .ok (.ifCond .le 7, 3) := dk_158 0 7 (dk_at dksX0_count_5 0 rfl rfl)
theorem dX0_count_139 : decode cX0_count 139 = .ok (.iconst 1, 1) := dk_4 (dk_at dksX0_count_5 3 rfl rfl)
theorem dX0_count_140 : decode cX0_count 140 = .ok (.goto 4, 3) := dk_167 0 4 (dk_at dksX0_count_5 4 rfl rfl)
theorem dX0_count_143 : decode cX0_count 143 = .ok (.iconst 0, 1) := dk_3 (dk_at dksX0_count_5 7 rfl rfl)
theorem dX0_count_144 : decode cX0_count 144 = .ok (.iadd, 1) := dk_96 (dk_at dksX0_count_5 8 rfl rfl)
theorem dX0_count_145 : decode cX0_count 145 = .ok (.istore_n 2, 1) := dk_61 (dk_at dksX0_count_5 9 rfl rfl)
theorem dX0_count_146 : decode cX0_count 146 = .ok (.iinc 3 1, 3) := dk_132 3 1 (dk_at dksX0_count_5 10 rfl rfl)
theorem dX0_count_149 : decode cX0_count 149 = .ok (.goto (-39), 3) := dk_167 255 217 (dk_at dksX0_count_5 13 rfl rfl)
theorem dX0_count_152 : decode cX0_count 152 = .ok (.iload_n 2, 1) := dk_28 (dk_at dksX0_count_5 16 rfl rfl)
theorem dX0_count_153 : decode cX0_count 153 = .ok (.ireturn, 1) := dk_172 (dk_at dksX0_count_5 17 rfl rfl)
theorem dX0_count_154 : decode cX0_count 154 = .ok (.aload_n 0, 1) := dk_42 (dk_at dksX0_count_5 18 rfl rfl)
theorem dX0_count_155 : decode cX0_count 155 = .ok (.getfield 122, 3) := dk_180 0 122 (dk_at dksX0_count_5 19 rfl rfl)
theorem dX0_count_158 : decode cX0_count 158 = .ok (.ireturn, 1) := dk_172 (dk_at dksX0_count_5 22 rfl rfl)
theorem dX0_count_159 : decode cX0_count 159 = .ok (.aload_n 0, 1) := dk_42 (dk_at dksX0_count_5 23 rfl rfl)
theorem dX0_count_160 : decode cX0_count 160 = .ok (.getfield 78, 3) := dk_180 0 78 (dk_at dksX0_count_6 0 rfl rfl)
theorem dX0_count_163 : decode cX0_count 163 = .ok (.iconst 1, 1) := dk_4 (dk_at dksX0_count_6 3 rfl rfl)
theorem dX0_count_164 : decode cX0_count 164 = .ok (.iaload, 1) := dk_46 (dk_at dksX0_count_6 4 rfl rfl)
theorem dX0_count_165 : decode cX0_count 165 = .ok (.ireturn, 1) := dk_172 (dk_at dksX0_count_6 5 rfl rfl)
theorem dX0_count_166 : decode cX0_count 166 = .ok (.aload_n 0, 1) := dk_42 (dk_at dksX0_count_6 6 rfl rfl)
theorem dX0_count_167 : decode cX0_count 167 = .ok (.getfield 78, 3) := dk_180 0 78 (dk_at dksX0_count_6 7 rfl rfl)
theorem dX0_count_170 : decode cX0_count 170 = .ok (.iconst 2, 1) := dk_5 (dk_at dksX0_count_6 10 rfl rfl)
theorem dX0_count_171 : decode cX0_count 171 = .ok (.iaload, 1) := dk_46 (dk_at dksX0_count_6 11 rfl rfl)
theorem dX0_count_172 : decode cX0_count 172 = .ok (.ireturn, 1) := dk_172 (dk_at dksX0_count_6 12 rfl rfl)
theorem dX0_count_173 : decode cX0_count 173 = .ok (.aload_n 0, 1) := dk_42 (dk_at dksX0_count_6 13 rfl rfl)
theorem dX0_count_174 : decode cX0_count 174 = .ok (.getfield 78, 3) := dk_180 0 78 (dk_at dksX0_count_6 14 rfl rfl)
theorem dX0_count_177 : decode cX0_count 177 = .ok (.iconst 3, 1) := dk_6 (dk_at dksX0_count_6 17 rfl rfl)
theorem dX0_count_178 : decode cX0_count 178 = .ok (.iaload, 1) := dk_46 (dk_at dksX0_count_6 18 rfl rfl)
theorem dX0_count_179 : decode cX0_count 179 = .ok (.ireturn, 1) := dk_172 (dk_at dksX0_count_6 19 rfl rfl)
theorem dX0_count_180 : decode cX0_count 180 = .ok (.aload_n 0, 1) := dk_42 (dk_at dksX0_count_6 20 rfl rfl)
theorem dX0_count_181 : decode cX0_count 181 = .ok (.getfield 78, 3) := dk_180 0 78 (dk_at dksX0_count_6 21 rfl rfl)
theorem dX0_count_184 : decode cX0_count 184 = .ok (.iconst 5, 1) := dk_8 (dk_at dksX0_count_7 0 rfl rfl)
theorem dX0_count_185 : decode cX0_count 185 = .ok (.iaload, 1) := dk_46 (dk_at dksX0_count_7 1 rfl rfl)
theorem dX0_count_186 : decode cX0_count 186 = .ok (.ireturn, 1) := dk_172 (dk_at dksX0_count_7 2 rfl rfl)
theorem dX0_count_187 : decode cX0_count 187 = .ok (.aload_n 0, 1) := dk_42 (dk_at dksX0_count_7 3 rfl rfl)
theorem dX0_count_188 : decode cX0_count 188 = .ok (.getfield 78, 3) := dk_180 0 78 (dk_at dksX0_count_7 4 rfl rfl)
theorem dX0_count_191 : decode cX0_count 191 = .ok (.bipush 6, 2) := dk_16 6 (dk_at dksX0_count_7 7 rfl rfl)
theorem dX0_count_193 : decode cX0_count 193 = .ok (.iaload, 1) := dk_46 (dk_at dksX0_count_7 9 rfl rfl)
theorem dX0_count_194 : decode cX0_count 194 = .ok (.ireturn, 1) := dk_172 (dk_at dksX0_count_7 10 rfl rfl)
theorem dX0_count_195 : decode cX0_count 195 = .ok (.aload_n 0, 1) := dk_42 (dk_at dksX0_count_7 11 rfl rfl)
theorem dX0_count_196 : decode cX0_count 196 = .ok (.getfield 17, 3) := dk_180 0 17 (dk_at dksX0_count_7 12 rfl rfl)
theorem dX0_count_199 : decode cX0_count 199 = .ok (.getfield 116, 3) := dk_180 0 116 (dk_at dksX0_count_7 15 rfl rfl)
theorem dX0_count_202 : decode cX0_count 202 = .ok (.ireturn, 1) := dk_172 (dk_at dksX0_count_7 18 rfl rfl)
theorem dX0_count_203 : decode cX0_count 203 = .ok (.iconst (-1), 1) := dk_2 (dk_at dksX0_count_7 19 rfl rfl)
theorem dX0_count_204 : decode cX0_count 204 = .ok (.ireturn, 1) := dk_172 (dk_at dksX0_count_7 20 rfl rfl)
abbrev cX0_status : ByteArray := prog_1_method_72_code
def yX0_status : MethodName := ⟨RX0, "status", "()I"⟩
theorem dX0_status_0 : decode cX0_status 0 = .ok (.aload_n 0, 1) := by decide +kernel
theorem dX0_status_1 : decode cX0_status 1 = .ok (.getfield 99, 3) := by decide +kernel
theorem dX0_status_4 : decode cX0_status 4 = .ok (.ireturn, 1) := by decide +kernel
theorem q124 : (Jvm.Cond.initialized "ExamSlips") ∈ lw_all := lw_g (lw_at lw_m1 1 rfl) rfl
theorem q171 : (Jvm.Cond.instantiable "ExamSlips" (13 : Nat)) ∈ lw_all := lw_g (lw_at lw_m1 48 rfl) rfl
theorem q173 : (Jvm.Cond.instanceMethod ({ cls := "ExamSlips", name := "<init>", desc := "()V" } : Jvm.MethodName)) ∈ lw_all := lw_g (lw_at lw_m1 50 rfl) rfl
theorem q174 : (Jvm.Cond.code ({ cls := "ExamSlips", name := "<init>", desc := "()V" } : Jvm.MethodName) prog_1_method_6_code (1 : Nat) (Option.none : Option Jvm.ClassFile.FieldType)) ∈ lw_all := lw_g (lw_at lw_m1 51 rfl) rfl
theorem q175 : (Jvm.Cond.methodLink "ExamSlips" (50 : Nat) ({ cls := "java/lang/Object", name := "<init>", desc := "()V" } : Jvm.MethodName)) ∈ lw_all := lw_g (lw_at lw_m1 52 rfl) rfl
theorem q178 : (Jvm.Cond.classLink "ExamSlips" (22 : Nat) "ExamSlips$Exam") ∈ lw_all := lw_g (lw_at lw_m1 55 rfl) rfl
theorem q180 : (Jvm.Cond.methodLinkNest "ExamSlips" (55 : Nat) ({ cls := "ExamSlips$Exam", name := "<init>", desc := "()V" } : Jvm.MethodName) "ExamSlips") ∈ lw_tbl := lw_at lw_m1 57 rfl
theorem q214 : (Jvm.Cond.fieldLinkNest "ExamSlips" (21 : Nat) "ExamSlips$Exam" "questions" "Ljava/util/ArrayList;" "ExamSlips") ∈ lw_tbl := lw_at lw_m1 91 rfl
theorem q216 : (Jvm.Cond.fieldLinkNest "ExamSlips" (113 : Nat) "ExamSlips$Exam" "papers" "Ljava/util/ArrayList;" "ExamSlips") ∈ lw_tbl := lw_at lw_m1 93 rfl
theorem q219 : (Jvm.Cond.fieldLinkNest "ExamSlips" (299 : Nat) "ExamSlips$Exam" "diary" "Ljava/util/ArrayList;" "ExamSlips") ∈ lw_tbl := lw_at lw_m1 96 rfl
theorem q225 : (Jvm.Cond.fieldLinkNest "ExamSlips" (174 : Nat) "ExamSlips$Exam" "terms" "[I" "ExamSlips") ∈ lw_tbl := lw_at lw_m1 102 rfl
theorem q228 : (Jvm.Cond.fieldLinkNest "ExamSlips" (341 : Nat) "ExamSlips$Exam" "friends" "[I" "ExamSlips") ∈ lw_tbl := lw_at lw_m1 105 rfl
theorem q230 : (Jvm.Cond.fieldLinkNest "ExamSlips" (364 : Nat) "ExamSlips$Exam" "years" "[I" "ExamSlips") ∈ lw_tbl := lw_at lw_m1 107 rfl
theorem q232 : (Jvm.Cond.fieldLinkNest "ExamSlips" (361 : Nat) "ExamSlips$Exam" "yeared" "I" "ExamSlips") ∈ lw_tbl := lw_at lw_m1 109 rfl
theorem q234 : (Jvm.Cond.fieldLinkNest "ExamSlips" (116 : Nat) "ExamSlips$Exam" "used" "I" "ExamSlips") ∈ lw_tbl := lw_at lw_m1 111 rfl
theorem q254 : (Jvm.Cond.classLink "ExamSlips" (60 : Nat) "ExamSlips$Asked") ∈ lw_all := lw_g (lw_at lw_m1 131 rfl) rfl
theorem q256 : (Jvm.Cond.methodLinkNest "ExamSlips" (62 : Nat) ({ cls := "ExamSlips$Asked", name := "<init>", desc := "()V" } : Jvm.MethodName) "ExamSlips") ∈ lw_tbl := lw_at lw_m1 133 rfl
theorem q263 : (Jvm.Cond.fieldLinkNest "ExamSlips" (197 : Nat) "ExamSlips$Asked" "numbers" "[J" "ExamSlips") ∈ lw_tbl := lw_at lw_m1 140 rfl
theorem q276 : (Jvm.Cond.classLink "ExamSlips" (67 : Nat) "ExamSlips$Text") ∈ lw_all := lw_g (lw_at lw_m1 153 rfl) rfl
theorem q278 : (Jvm.Cond.classLink "ExamSlips" (69 : Nat) "ExamSlips$Clause") ∈ lw_all := lw_g (lw_at lw_m1 155 rfl) rfl
theorem q280 : (Jvm.Cond.methodLink "ExamSlips" (71 : Nat) ({ cls := "ExamSlips$Text", name := "<init>", desc := "([LExamSlips$Clause;)V" } : Jvm.MethodName)) ∈ lw_all := lw_g (lw_at lw_m1 157 rfl) rfl
theorem q288 : (Jvm.Cond.constant "ExamSlips" (85 : Nat) (148176 : Int32)) ∈ lw_all := lw_g (lw_at lw_m1 165 rfl) rfl
theorem q294 : (Jvm.Cond.fieldLink "ExamSlips" (17 : Nat) "ExamSlips" "exam" "LExamSlips$Exam;") ∈ lw_all := lw_g (lw_at lw_m1 171 rfl) rfl
theorem q295 : (Jvm.Cond.fieldLink "ExamSlips" (56 : Nat) "ExamSlips" "images" "[LExamSlips$Exam;") ∈ lw_all := lw_g (lw_at lw_m1 172 rfl) rfl
theorem q296 : (Jvm.Cond.fieldLink "ExamSlips" (63 : Nat) "ExamSlips" "asked" "LExamSlips$Asked;") ∈ lw_all := lw_g (lw_at lw_m1 173 rfl) rfl
theorem q297 : (Jvm.Cond.fieldLink "ExamSlips" (74 : Nat) "ExamSlips" "nothingTold" "LExamSlips$Text;") ∈ lw_all := lw_g (lw_at lw_m1 174 rfl) rfl
theorem q298 : (Jvm.Cond.fieldLink "ExamSlips" (78 : Nat) "ExamSlips" "refused" "[I") ∈ lw_all := lw_g (lw_at lw_m1 175 rfl) rfl
theorem q299 : (Jvm.Cond.fieldLink "ExamSlips" (99 : Nat) "ExamSlips" "status" "I") ∈ lw_all := lw_g (lw_at lw_m1 176 rfl) rfl
theorem q300 : (Jvm.Cond.fieldLink "ExamSlips" (82 : Nat) "ExamSlips" "fault" "I") ∈ lw_all := lw_g (lw_at lw_m1 177 rfl) rfl
theorem q301 : (Jvm.Cond.fieldLink "ExamSlips" (373 : Nat) "ExamSlips" "lost" "I") ∈ lw_all := lw_g (lw_at lw_m1 178 rfl) rfl
theorem q302 : (Jvm.Cond.fieldLink "ExamSlips" (450 : Nat) "ExamSlips" "latest" "LExamSlips$Table;") ∈ lw_all := lw_g (lw_at lw_m1 179 rfl) rfl
theorem q303 : (Jvm.Cond.fieldLink "ExamSlips" (102 : Nat) "ExamSlips" "found" "LExamSlips$Schemes;") ∈ lw_all := lw_g (lw_at lw_m1 180 rfl) rfl
theorem q305 : (Jvm.Cond.fieldLink "ExamSlips" (86 : Nat) "ExamSlips" "fewest" "[I") ∈ lw_all := lw_g (lw_at lw_m1 182 rfl) rfl
theorem q307 : (Jvm.Cond.fieldLink "ExamSlips" (89 : Nat) "ExamSlips" "tape" "[B") ∈ lw_all := lw_g (lw_at lw_m1 184 rfl) rfl
theorem q309 : (Jvm.Cond.fieldLink "ExamSlips" (122 : Nat) "ExamSlips" "taped" "I") ∈ lw_all := lw_g (lw_at lw_m1 186 rfl) rfl
theorem q310 : (Jvm.Cond.lays "ExamSlips" "ExamSlips" "exam" "LExamSlips$Exam;") ∈ lw_all := lw_g (lw_at lw_m1 187 rfl) rfl
theorem q311 : (Jvm.Cond.soleField "ExamSlips" "exam") ∈ lw_all := lw_g (lw_at lw_m1 188 rfl) rfl
theorem q312 : (Jvm.Cond.laysFinal "ExamSlips" "ExamSlips" "images" "[LExamSlips$Exam;") ∈ lw_all := lw_g (lw_at lw_m1 189 rfl) rfl
theorem q313 : (Jvm.Cond.soleField "ExamSlips" "images") ∈ lw_all := lw_g (lw_at lw_m1 190 rfl) rfl
theorem q314 : (Jvm.Cond.laysFinal "ExamSlips" "ExamSlips" "asked" "LExamSlips$Asked;") ∈ lw_all := lw_g (lw_at lw_m1 191 rfl) rfl
theorem q315 : (Jvm.Cond.soleField "ExamSlips" "asked") ∈ lw_all := lw_g (lw_at lw_m1 192 rfl) rfl
theorem q316 : (Jvm.Cond.laysFinal "ExamSlips" "ExamSlips" "nothingTold" "LExamSlips$Text;") ∈ lw_all := lw_g (lw_at lw_m1 193 rfl) rfl
theorem q317 : (Jvm.Cond.soleField "ExamSlips" "nothingTold") ∈ lw_all := lw_g (lw_at lw_m1 194 rfl) rfl
theorem q318 : (Jvm.Cond.laysFinal "ExamSlips" "ExamSlips" "refused" "[I") ∈ lw_all := lw_g (lw_at lw_m1 195 rfl) rfl
theorem q319 : (Jvm.Cond.soleField "ExamSlips" "refused") ∈ lw_all := lw_g (lw_at lw_m1 196 rfl) rfl
theorem q320 : (Jvm.Cond.lays "ExamSlips" "ExamSlips" "status" "I") ∈ lw_all := lw_g (lw_at lw_m1 197 rfl) rfl
theorem q321 : (Jvm.Cond.soleField "ExamSlips" "status") ∈ lw_all := lw_g (lw_at lw_m1 198 rfl) rfl
theorem q322 : (Jvm.Cond.lays "ExamSlips" "ExamSlips" "fault" "I") ∈ lw_all := lw_g (lw_at lw_m1 199 rfl) rfl
theorem q323 : (Jvm.Cond.soleField "ExamSlips" "fault") ∈ lw_all := lw_g (lw_at lw_m1 200 rfl) rfl
theorem q324 : (Jvm.Cond.lays "ExamSlips" "ExamSlips" "lost" "I") ∈ lw_all := lw_g (lw_at lw_m1 201 rfl) rfl
theorem q325 : (Jvm.Cond.soleField "ExamSlips" "lost") ∈ lw_all := lw_g (lw_at lw_m1 202 rfl) rfl
theorem q326 : (Jvm.Cond.lays "ExamSlips" "ExamSlips" "latest" "LExamSlips$Table;") ∈ lw_all := lw_g (lw_at lw_m1 203 rfl) rfl
theorem q327 : (Jvm.Cond.soleField "ExamSlips" "latest") ∈ lw_all := lw_g (lw_at lw_m1 204 rfl) rfl
theorem q328 : (Jvm.Cond.lays "ExamSlips" "ExamSlips" "found" "LExamSlips$Schemes;") ∈ lw_all := lw_g (lw_at lw_m1 205 rfl) rfl
theorem q329 : (Jvm.Cond.soleField "ExamSlips" "found") ∈ lw_all := lw_g (lw_at lw_m1 206 rfl) rfl
theorem q330 : (Jvm.Cond.laysFinal "ExamSlips" "ExamSlips" "fewest" "[I") ∈ lw_all := lw_g (lw_at lw_m1 207 rfl) rfl
theorem q331 : (Jvm.Cond.soleField "ExamSlips" "fewest") ∈ lw_all := lw_g (lw_at lw_m1 208 rfl) rfl
theorem q332 : (Jvm.Cond.laysFinal "ExamSlips" "ExamSlips" "tape" "[B") ∈ lw_all := lw_g (lw_at lw_m1 209 rfl) rfl
theorem q333 : (Jvm.Cond.soleField "ExamSlips" "tape") ∈ lw_all := lw_g (lw_at lw_m1 210 rfl) rfl
theorem q334 : (Jvm.Cond.lays "ExamSlips" "ExamSlips" "taped" "I") ∈ lw_all := lw_g (lw_at lw_m1 211 rfl) rfl
theorem q335 : (Jvm.Cond.soleField "ExamSlips" "taped") ∈ lw_all := lw_g (lw_at lw_m1 212 rfl) rfl
theorem q336 : (Jvm.Cond.superclass "ExamSlips" "java/lang/Object") ∈ lw_all := lw_g (lw_at lw_m1 213 rfl) rfl
theorem q339 : (Jvm.Cond.instanceMethod ({ cls := "ExamSlips", name := "feed", desc := "(IIIII)I" } : Jvm.MethodName)) ∈ lw_all := lw_g (lw_at lw_m1 216 rfl) rfl
theorem q340 : (Jvm.Cond.selects "ExamSlips" ({ cls := "ExamSlips", name := "feed", desc := "(IIIII)I" } : Jvm.MethodName) ({ cls := "ExamSlips", name := "feed", desc := "(IIIII)I" } : Jvm.MethodName)) ∈ lw_all := lw_g (lw_at lw_m1 217 rfl) rfl
theorem q341 : (Jvm.Cond.code ({ cls := "ExamSlips", name := "feed", desc := "(IIIII)I" } : Jvm.MethodName) prog_1_method_15_code (6 : Nat) (Option.some Jvm.ClassFile.FieldType.int)) ∈ lw_all := lw_g (lw_at lw_m1 218 rfl) rfl
theorem q342 : (Jvm.Cond.methodLink "ExamSlips" (125 : Nat) ({ cls := "ExamSlips", name := "four", desc := "(I)V" } : Jvm.MethodName)) ∈ lw_all := lw_g (lw_at lw_m1 219 rfl) rfl
theorem q343 : (Jvm.Cond.privateMethod ({ cls := "ExamSlips", name := "four", desc := "(I)V" } : Jvm.MethodName)) ∈ lw_tbl := lw_at lw_m1 220 rfl
theorem q344 : (Jvm.Cond.instanceMethod ({ cls := "ExamSlips", name := "four", desc := "(I)V" } : Jvm.MethodName)) ∈ lw_all := lw_g (lw_at lw_m1 221 rfl) rfl
theorem q345 : (Jvm.Cond.code ({ cls := "ExamSlips", name := "four", desc := "(I)V" } : Jvm.MethodName) prog_1_method_14_code (3 : Nat) (Option.none : Option Jvm.ClassFile.FieldType)) ∈ lw_all := lw_g (lw_at lw_m1 222 rfl) rfl
theorem q347 : (Jvm.Cond.instanceMethod ({ cls := "ExamSlips", name := "end", desc := "(I)I" } : Jvm.MethodName)) ∈ lw_all := lw_g (lw_at lw_m1 224 rfl) rfl
theorem q348 : (Jvm.Cond.selects "ExamSlips" ({ cls := "ExamSlips", name := "end", desc := "(I)I" } : Jvm.MethodName) ({ cls := "ExamSlips", name := "end", desc := "(I)I" } : Jvm.MethodName)) ∈ lw_all := lw_g (lw_at lw_m1 225 rfl) rfl
theorem q349 : (Jvm.Cond.code ({ cls := "ExamSlips", name := "end", desc := "(I)I" } : Jvm.MethodName) prog_1_method_16_code (2 : Nat) (Option.some Jvm.ClassFile.FieldType.int)) ∈ lw_all := lw_g (lw_at lw_m1 226 rfl) rfl
theorem q350 : (Jvm.Cond.methodLink "ExamSlips" (109 : Nat) ({ cls := "ExamSlips", name := "in", desc := "(JJJ)Z" } : Jvm.MethodName)) ∈ lw_all := lw_g (lw_at lw_m1 227 rfl) rfl
theorem q351 : (Jvm.Cond.static ({ cls := "ExamSlips", name := "in", desc := "(JJJ)Z" } : Jvm.MethodName)) ∈ lw_all := lw_g (lw_at lw_m1 228 rfl) rfl
theorem q352 : (Jvm.Cond.code ({ cls := "ExamSlips", name := "in", desc := "(JJJ)Z" } : Jvm.MethodName) prog_1_method_1_code (6 : Nat) (Option.some Jvm.ClassFile.FieldType.boolean)) ∈ lw_all := lw_g (lw_at lw_m1 229 rfl) rfl
theorem q354 : (Jvm.Cond.instanceMethod ({ cls := "ExamSlips", name := "question", desc := "(II)I" } : Jvm.MethodName)) ∈ lw_all := lw_g (lw_at lw_m1 231 rfl) rfl
theorem q355 : (Jvm.Cond.selects "ExamSlips" ({ cls := "ExamSlips", name := "question", desc := "(II)I" } : Jvm.MethodName) ({ cls := "ExamSlips", name := "question", desc := "(II)I" } : Jvm.MethodName)) ∈ lw_all := lw_g (lw_at lw_m1 232 rfl) rfl
theorem q356 : (Jvm.Cond.code ({ cls := "ExamSlips", name := "question", desc := "(II)I" } : Jvm.MethodName) prog_1_method_19_code (4 : Nat) (Option.some Jvm.ClassFile.FieldType.int)) ∈ lw_all := lw_g (lw_at lw_m1 233 rfl) rfl
theorem q357 : (Jvm.Cond.constantLong "ExamSlips" (129 : Nat) (4 : Int64)) ∈ lw_all := lw_g (lw_at lw_m1 234 rfl) rfl
theorem q358 : (Jvm.Cond.constantLong "ExamSlips" (131 : Nat) (99 : Int64)) ∈ lw_all := lw_g (lw_at lw_m1 235 rfl) rfl
theorem q359 : (Jvm.Cond.methodLink "ExamSlips" (133 : Nat) ({ cls := "ExamSlips", name := "tell", desc := "(I)I" } : Jvm.MethodName)) ∈ lw_all := lw_g (lw_at lw_m1 236 rfl) rfl
theorem q360 : (Jvm.Cond.privateMethod ({ cls := "ExamSlips", name := "tell", desc := "(I)I" } : Jvm.MethodName)) ∈ lw_tbl := lw_at lw_m1 237 rfl
theorem q361 : (Jvm.Cond.instanceMethod ({ cls := "ExamSlips", name := "tell", desc := "(I)I" } : Jvm.MethodName)) ∈ lw_all := lw_g (lw_at lw_m1 238 rfl) rfl
theorem q362 : (Jvm.Cond.code ({ cls := "ExamSlips", name := "tell", desc := "(I)I" } : Jvm.MethodName) prog_1_method_7_code (2 : Nat) (Option.some Jvm.ClassFile.FieldType.int)) ∈ lw_all := lw_g (lw_at lw_m1 239 rfl) rfl
theorem q363 : (Jvm.Cond.methodLink "ExamSlips" (93 : Nat) ({ cls := "java/lang/Math", name := "min", desc := "(II)I" } : Jvm.MethodName)) ∈ lw_all := lw_g (lw_at lw_m2 0 rfl) rfl
theorem q366 : (Jvm.Cond.methodLink "ExamSlips" (13 : Nat) ({ cls := "ExamSlips", name := "many", desc := "()I" } : Jvm.MethodName)) ∈ lw_all := lw_g (lw_at lw_m2 3 rfl) rfl
theorem q367 : (Jvm.Cond.privateMethod ({ cls := "ExamSlips", name := "many", desc := "()I" } : Jvm.MethodName)) ∈ lw_tbl := lw_at lw_m2 4 rfl
theorem q368 : (Jvm.Cond.instanceMethod ({ cls := "ExamSlips", name := "many", desc := "()I" } : Jvm.MethodName)) ∈ lw_all := lw_g (lw_at lw_m2 5 rfl) rfl
theorem q369 : (Jvm.Cond.code ({ cls := "ExamSlips", name := "many", desc := "()I" } : Jvm.MethodName) prog_1_method_9_code (1 : Nat) (Option.some Jvm.ClassFile.FieldType.int)) ∈ lw_all := lw_g (lw_at lw_m2 6 rfl) rfl
theorem q370 : (Jvm.Cond.methodLink "ExamSlips" (106 : Nat) ({ cls := "java/util/ArrayList", name := "size", desc := "()I" } : Jvm.MethodName)) ∈ lw_all := lw_g (lw_at lw_m2 7 rfl) rfl
theorem q374 : (Jvm.Cond.classLink "ExamSlips" (33 : Nat) "ExamSlips$Question") ∈ lw_all := lw_g (lw_at lw_m2 11 rfl) rfl
theorem q376 : (Jvm.Cond.methodLink "ExamSlips" (136 : Nat) ({ cls := "ExamSlips$Question", name := "<init>", desc := "(III)V" } : Jvm.MethodName)) ∈ lw_all := lw_g (lw_at lw_m2 13 rfl) rfl
theorem q387 : (Jvm.Cond.fieldLinkNest "ExamSlips" (154 : Nat) "ExamSlips$Question" "king" "I" "ExamSlips") ∈ lw_tbl := lw_at lw_m2 24 rfl
theorem q389 : (Jvm.Cond.fieldLinkNest "ExamSlips" (157 : Nat) "ExamSlips$Question" "pages" "I" "ExamSlips") ∈ lw_tbl := lw_at lw_m2 26 rfl
theorem q391 : (Jvm.Cond.fieldLinkNest "ExamSlips" (39 : Nat) "ExamSlips$Question" "known" "I" "ExamSlips") ∈ lw_tbl := lw_at lw_m2 28 rfl
theorem q393 : (Jvm.Cond.fieldLinkNest "ExamSlips" (43 : Nat) "ExamSlips$Question" "isLiked" "Z" "ExamSlips") ∈ lw_tbl := lw_at lw_m2 30 rfl
theorem q396 : (Jvm.Cond.fieldLinkNest "ExamSlips" (35 : Nat) "ExamSlips$Question" "isOut" "Z" "ExamSlips") ∈ lw_tbl := lw_at lw_m2 33 rfl
theorem q410 : (Jvm.Cond.methodLink "ExamSlips" (139 : Nat) ({ cls := "java/util/ArrayList", name := "add", desc := "(Ljava/lang/Object;)Z" } : Jvm.MethodName)) ∈ lw_all := lw_g (lw_at lw_m2 47 rfl) rfl
theorem q442 : (Jvm.Cond.selects "ExamSlips" ({ cls := "java/lang/Object", name := "getClass", desc := "()Ljava/lang/Class;" } : Jvm.MethodName) ({ cls := "java/lang/Object", name := "getClass", desc := "()Ljava/lang/Class;" } : Jvm.MethodName)) ∈ lw_all := lw_g (lw_at lw_m2 79 rfl) rfl
theorem q483 : (Jvm.Cond.methodLink "ExamSlips" (142 : Nat) ({ cls := "ExamSlips", name := "was", desc := "(I)I" } : Jvm.MethodName)) ∈ lw_all := lw_g (lw_at lw_m2 120 rfl) rfl
theorem q484 : (Jvm.Cond.privateMethod ({ cls := "ExamSlips", name := "was", desc := "(I)I" } : Jvm.MethodName)) ∈ lw_tbl := lw_at lw_m2 121 rfl
theorem q485 : (Jvm.Cond.instanceMethod ({ cls := "ExamSlips", name := "was", desc := "(I)I" } : Jvm.MethodName)) ∈ lw_all := lw_g (lw_at lw_m2 122 rfl) rfl
theorem q486 : (Jvm.Cond.code ({ cls := "ExamSlips", name := "was", desc := "(I)I" } : Jvm.MethodName) prog_1_method_8_code (2 : Nat) (Option.some Jvm.ClassFile.FieldType.int)) ∈ lw_all := lw_g (lw_at lw_m2 123 rfl) rfl
theorem q488 : (Jvm.Cond.instanceMethod ({ cls := "ExamSlips", name := "know", desc := "(III)I" } : Jvm.MethodName)) ∈ lw_all := lw_g (lw_at lw_m2 125 rfl) rfl
theorem q489 : (Jvm.Cond.selects "ExamSlips" ({ cls := "ExamSlips", name := "know", desc := "(III)I" } : Jvm.MethodName) ({ cls := "ExamSlips", name := "know", desc := "(III)I" } : Jvm.MethodName)) ∈ lw_all := lw_g (lw_at lw_m2 126 rfl) rfl
theorem q490 : (Jvm.Cond.code ({ cls := "ExamSlips", name := "know", desc := "(III)I" } : Jvm.MethodName) prog_1_method_20_code (6 : Nat) (Option.some Jvm.ClassFile.FieldType.int)) ∈ lw_all := lw_g (lw_at lw_m2 127 rfl) rfl
theorem q491 : (Jvm.Cond.constantLong "ExamSlips" (145 : Nat) (2 : Int64)) ∈ lw_all := lw_g (lw_at lw_m2 128 rfl) rfl
theorem q492 : (Jvm.Cond.methodLink "ExamSlips" (147 : Nat) ({ cls := "ExamSlips", name := "questionOf", desc := "(I)LExamSlips$Question;" } : Jvm.MethodName)) ∈ lw_all := lw_g (lw_at lw_m2 129 rfl) rfl
theorem q493 : (Jvm.Cond.privateMethod ({ cls := "ExamSlips", name := "questionOf", desc := "(I)LExamSlips$Question;" } : Jvm.MethodName)) ∈ lw_tbl := lw_at lw_m2 130 rfl
theorem q494 : (Jvm.Cond.instanceMethod ({ cls := "ExamSlips", name := "questionOf", desc := "(I)LExamSlips$Question;" } : Jvm.MethodName)) ∈ lw_all := lw_g (lw_at lw_m2 131 rfl) rfl
theorem q495 : (Jvm.Cond.code ({ cls := "ExamSlips", name := "questionOf", desc := "(I)LExamSlips$Question;" } : Jvm.MethodName) prog_1_method_10_code (2 : Nat) (Option.some (Jvm.ClassFile.FieldType.object "ExamSlips$Question"))) ∈ lw_all := lw_g (lw_at lw_m2 132 rfl) rfl
theorem q496 : (Jvm.Cond.methodLink "ExamSlips" (27 : Nat) ({ cls := "java/util/ArrayList", name := "get", desc := "(I)Ljava/lang/Object;" } : Jvm.MethodName)) ∈ lw_all := lw_g (lw_at lw_m2 133 rfl) rfl
theorem q510 : (Jvm.Cond.methodLink "ExamSlips" (151 : Nat) ({ cls := "ExamSlips", name := "of", desc := "(II)I" } : Jvm.MethodName)) ∈ lw_all := lw_g (lw_at lw_m2 147 rfl) rfl
theorem q511 : (Jvm.Cond.instanceMethod ({ cls := "ExamSlips", name := "of", desc := "(II)I" } : Jvm.MethodName)) ∈ lw_all := lw_g (lw_at lw_m2 148 rfl) rfl
theorem q512 : (Jvm.Cond.selects "ExamSlips" ({ cls := "ExamSlips", name := "of", desc := "(II)I" } : Jvm.MethodName) ({ cls := "ExamSlips", name := "of", desc := "(II)I" } : Jvm.MethodName)) ∈ lw_all := lw_g (lw_at lw_m2 149 rfl) rfl
theorem q513 : (Jvm.Cond.code ({ cls := "ExamSlips", name := "of", desc := "(II)I" } : Jvm.MethodName) prog_1_method_21_code (4 : Nat) (Option.some Jvm.ClassFile.FieldType.int)) ∈ lw_all := lw_g (lw_at lw_m2 150 rfl) rfl
theorem q516 : (Jvm.Cond.instanceMethod ({ cls := "ExamSlips", name := "terms", desc := "(II)I" } : Jvm.MethodName)) ∈ lw_all := lw_g (lw_at lw_m2 153 rfl) rfl
theorem q517 : (Jvm.Cond.selects "ExamSlips" ({ cls := "ExamSlips", name := "terms", desc := "(II)I" } : Jvm.MethodName) ({ cls := "ExamSlips", name := "terms", desc := "(II)I" } : Jvm.MethodName)) ∈ lw_all := lw_g (lw_at lw_m2 154 rfl) rfl
theorem q518 : (Jvm.Cond.code ({ cls := "ExamSlips", name := "terms", desc := "(II)I" } : Jvm.MethodName) prog_1_method_23_code (4 : Nat) (Option.some Jvm.ClassFile.FieldType.int)) ∈ lw_all := lw_g (lw_at lw_m2 155 rfl) rfl
theorem q519 : (Jvm.Cond.methodLink "ExamSlips" (170 : Nat) ({ cls := "ExamSlips", name := "isTerm", desc := "(II)Z" } : Jvm.MethodName)) ∈ lw_all := lw_g (lw_at lw_m2 156 rfl) rfl
theorem q520 : (Jvm.Cond.static ({ cls := "ExamSlips", name := "isTerm", desc := "(II)Z" } : Jvm.MethodName)) ∈ lw_all := lw_g (lw_at lw_m2 157 rfl) rfl
theorem q521 : (Jvm.Cond.code ({ cls := "ExamSlips", name := "isTerm", desc := "(II)Z" } : Jvm.MethodName) prog_1_method_22_code (2 : Nat) (Option.some Jvm.ClassFile.FieldType.boolean)) ∈ lw_all := lw_g (lw_at lw_m2 158 rfl) rfl
theorem q522 : (Jvm.Cond.constantLong "ExamSlips" (160 : Nat) (10 : Int64)) ∈ lw_all := lw_g (lw_at lw_m2 159 rfl) rfl
theorem q523 : (Jvm.Cond.constantLong "ExamSlips" (162 : Nat) (3 : Int64)) ∈ lw_all := lw_g (lw_at lw_m2 160 rfl) rfl
theorem q524 : (Jvm.Cond.constantLong "ExamSlips" (164 : Nat) (100 : Int64)) ∈ lw_all := lw_g (lw_at lw_m2 161 rfl) rfl
theorem q525 : (Jvm.Cond.constantLong "ExamSlips" (166 : Nat) (20 : Int64)) ∈ lw_all := lw_g (lw_at lw_m2 162 rfl) rfl
theorem q526 : (Jvm.Cond.constantLong "ExamSlips" (168 : Nat) (16 : Int64)) ∈ lw_all := lw_g (lw_at lw_m2 163 rfl) rfl
theorem q528 : (Jvm.Cond.instanceMethod ({ cls := "ExamSlips", name := "paper", desc := "()I" } : Jvm.MethodName)) ∈ lw_all := lw_g (lw_at lw_m2 165 rfl) rfl
theorem q529 : (Jvm.Cond.selects "ExamSlips" ({ cls := "ExamSlips", name := "paper", desc := "()I" } : Jvm.MethodName) ({ cls := "ExamSlips", name := "paper", desc := "()I" } : Jvm.MethodName)) ∈ lw_all := lw_g (lw_at lw_m2 166 rfl) rfl
theorem q530 : (Jvm.Cond.codeWith ({ cls := "ExamSlips", name := "paper", desc := "()I" } : Jvm.MethodName) prog_1_method_24_code (4 : Nat) (Option.some Jvm.ClassFile.FieldType.int) [((27 : Nat), (71 : Nat), (78 : Nat), (184 : Nat)), ((27 : Nat), (71 : Nat), (101 : Nat), (0 : Nat)), ((78 : Nat), (94 : Nat), (101 : Nat), (0 : Nat))]) ∈ lw_all := lw_g (lw_at lw_m2 167 rfl) rfl
theorem q531 : (Jvm.Cond.classLink "ExamSlips" (184 : Nat) "ExamSlips$Wrong") ∈ lw_all := lw_g (lw_at lw_m2 168 rfl) rfl
theorem q532 : (Jvm.Cond.classLink "ExamSlips" (177 : Nat) "ExamSlips$Reader") ∈ lw_all := lw_g (lw_at lw_m2 169 rfl) rfl
theorem q534 : (Jvm.Cond.methodLinkNest "ExamSlips" (179 : Nat) ({ cls := "ExamSlips$Reader", name := "<init>", desc := "(LExamSlips;)V" } : Jvm.MethodName) "ExamSlips") ∈ lw_tbl := lw_at lw_m2 171 rfl
theorem q580 : (Jvm.Cond.methodLink "ExamSlips" (180 : Nat) ({ cls := "ExamSlips$Reader", name := "read", desc := "()LExamSlips$Text;" } : Jvm.MethodName)) ∈ lw_all := lw_g (lw_at lw_m2 217 rfl) rfl
theorem q590 : (Jvm.Cond.static ({ cls := "ExamSlips", name := "isLetter", desc := "(I)Z" } : Jvm.MethodName)) ∈ lw_all := lw_g (lw_at lw_m2 227 rfl) rfl
theorem q591 : (Jvm.Cond.code ({ cls := "ExamSlips", name := "isLetter", desc := "(I)Z" } : Jvm.MethodName) prog_1_method_17_code (1 : Nat) (Option.some Jvm.ClassFile.FieldType.boolean)) ∈ lw_all := lw_g (lw_at lw_m2 228 rfl) rfl
theorem q593 : (Jvm.Cond.static ({ cls := "ExamSlips", name := "isDigit", desc := "(I)Z" } : Jvm.MethodName)) ∈ lw_all := lw_g (lw_at lw_m2 230 rfl) rfl
theorem q594 : (Jvm.Cond.code ({ cls := "ExamSlips", name := "isDigit", desc := "(I)Z" } : Jvm.MethodName) prog_1_method_18_code (1 : Nat) (Option.some Jvm.ClassFile.FieldType.boolean)) ∈ lw_all := lw_g (lw_at lw_m2 231 rfl) rfl
theorem q647 : (Jvm.Cond.fieldLinkNest "ExamSlips" (186 : Nat) "ExamSlips$Wrong" "place" "I" "ExamSlips") ∈ lw_tbl := lw_at lw_m3 44 rfl
theorem q894 : (Jvm.Cond.instanceMethod ({ cls := "ExamSlips", name := "fault", desc := "()I" } : Jvm.MethodName)) ∈ lw_all := lw_g (lw_at lw_m4 51 rfl) rfl
theorem q895 : (Jvm.Cond.selects "ExamSlips" ({ cls := "ExamSlips", name := "fault", desc := "()I" } : Jvm.MethodName) ({ cls := "ExamSlips", name := "fault", desc := "()I" } : Jvm.MethodName)) ∈ lw_all := lw_g (lw_at lw_m4 52 rfl) rfl
theorem q896 : (Jvm.Cond.code ({ cls := "ExamSlips", name := "fault", desc := "()I" } : Jvm.MethodName) prog_1_method_25_code (1 : Nat) (Option.some Jvm.ClassFile.FieldType.int)) ∈ lw_all := lw_g (lw_at lw_m4 53 rfl) rfl
theorem q898 : (Jvm.Cond.instanceMethod ({ cls := "ExamSlips", name := "use", desc := "(I)I" } : Jvm.MethodName)) ∈ lw_all := lw_g (lw_at lw_m4 55 rfl) rfl
theorem q899 : (Jvm.Cond.selects "ExamSlips" ({ cls := "ExamSlips", name := "use", desc := "(I)I" } : Jvm.MethodName) ({ cls := "ExamSlips", name := "use", desc := "(I)I" } : Jvm.MethodName)) ∈ lw_all := lw_g (lw_at lw_m4 56 rfl) rfl
theorem q900 : (Jvm.Cond.code ({ cls := "ExamSlips", name := "use", desc := "(I)I" } : Jvm.MethodName) prog_1_method_26_code (3 : Nat) (Option.some Jvm.ClassFile.FieldType.int)) ∈ lw_all := lw_g (lw_at lw_m4 57 rfl) rfl
theorem q901 : (Jvm.Cond.methodLink "ExamSlips" (189 : Nat) ({ cls := "ExamSlips", name := "isPaper", desc := "(I)Z" } : Jvm.MethodName)) ∈ lw_all := lw_g (lw_at lw_m4 58 rfl) rfl
theorem q902 : (Jvm.Cond.privateMethod ({ cls := "ExamSlips", name := "isPaper", desc := "(I)Z" } : Jvm.MethodName)) ∈ lw_tbl := lw_at lw_m4 59 rfl
theorem q903 : (Jvm.Cond.instanceMethod ({ cls := "ExamSlips", name := "isPaper", desc := "(I)Z" } : Jvm.MethodName)) ∈ lw_all := lw_g (lw_at lw_m4 60 rfl) rfl
theorem q904 : (Jvm.Cond.code ({ cls := "ExamSlips", name := "isPaper", desc := "(I)Z" } : Jvm.MethodName) prog_1_method_11_code (2 : Nat) (Option.some Jvm.ClassFile.FieldType.boolean)) ∈ lw_all := lw_g (lw_at lw_m4 61 rfl) rfl
theorem q906 : (Jvm.Cond.instanceMethod ({ cls := "ExamSlips", name := "takes", desc := "(III)I" } : Jvm.MethodName)) ∈ lw_all := lw_g (lw_at lw_m4 63 rfl) rfl
theorem q907 : (Jvm.Cond.selects "ExamSlips" ({ cls := "ExamSlips", name := "takes", desc := "(III)I" } : Jvm.MethodName) ({ cls := "ExamSlips", name := "takes", desc := "(III)I" } : Jvm.MethodName)) ∈ lw_all := lw_g (lw_at lw_m4 64 rfl) rfl
theorem q908 : (Jvm.Cond.code ({ cls := "ExamSlips", name := "takes", desc := "(III)I" } : Jvm.MethodName) prog_1_method_29_code (5 : Nat) (Option.some Jvm.ClassFile.FieldType.int)) ∈ lw_all := lw_g (lw_at lw_m4 65 rfl) rfl
theorem q909 : (Jvm.Cond.methodLink "ExamSlips" (208 : Nat) ({ cls := "ExamSlips", name := "takes", desc := "(LExamSlips$Question;III)I" } : Jvm.MethodName)) ∈ lw_all := lw_g (lw_at lw_m4 66 rfl) rfl
theorem q910 : (Jvm.Cond.privateMethod ({ cls := "ExamSlips", name := "takes", desc := "(LExamSlips$Question;III)I" } : Jvm.MethodName)) ∈ lw_tbl := lw_at lw_m4 67 rfl
theorem q911 : (Jvm.Cond.instanceMethod ({ cls := "ExamSlips", name := "takes", desc := "(LExamSlips$Question;III)I" } : Jvm.MethodName)) ∈ lw_all := lw_g (lw_at lw_m4 68 rfl) rfl
theorem q912 : (Jvm.Cond.code ({ cls := "ExamSlips", name := "takes", desc := "(LExamSlips$Question;III)I" } : Jvm.MethodName) prog_1_method_27_code (6 : Nat) (Option.some Jvm.ClassFile.FieldType.int)) ∈ lw_all := lw_g (lw_at lw_m4 69 rfl) rfl
theorem q913 : (Jvm.Cond.methodLink "ExamSlips" (193 : Nat) ({ cls := "ExamSlips$Question", name := "ask", desc := "(LExamSlips$Asked;I)LExamSlips$Asked;" } : Jvm.MethodName)) ∈ lw_all := lw_g (lw_at lw_m4 70 rfl) rfl
theorem q921 : (Jvm.Cond.methodLink "ExamSlips" (201 : Nat) ({ cls := "ExamSlips", name := "inUse", desc := "()LExamSlips$Text;" } : Jvm.MethodName)) ∈ lw_all := lw_g (lw_at lw_m4 78 rfl) rfl
theorem q922 : (Jvm.Cond.privateMethod ({ cls := "ExamSlips", name := "inUse", desc := "()LExamSlips$Text;" } : Jvm.MethodName)) ∈ lw_tbl := lw_at lw_m4 79 rfl
theorem q923 : (Jvm.Cond.instanceMethod ({ cls := "ExamSlips", name := "inUse", desc := "()LExamSlips$Text;" } : Jvm.MethodName)) ∈ lw_all := lw_g (lw_at lw_m4 80 rfl) rfl
theorem q924 : (Jvm.Cond.code ({ cls := "ExamSlips", name := "inUse", desc := "()LExamSlips$Text;" } : Jvm.MethodName) prog_1_method_12_code (1 : Nat) (Option.some (Jvm.ClassFile.FieldType.object "ExamSlips$Text"))) ∈ lw_all := lw_g (lw_at lw_m4 81 rfl) rfl
theorem q925 : (Jvm.Cond.methodLink "ExamSlips" (204 : Nat) ({ cls := "ExamSlips$Text", name := "tells", desc := "(ILExamSlips$Asked;III)I" } : Jvm.MethodName)) ∈ lw_all := lw_g (lw_at lw_m4 82 rfl) rfl
theorem q974 : (Jvm.Cond.instanceMethod ({ cls := "ExamSlips", name := "keeps", desc := "(II)I" } : Jvm.MethodName)) ∈ lw_all := lw_g (lw_at lw_m4 131 rfl) rfl
theorem q975 : (Jvm.Cond.selects "ExamSlips" ({ cls := "ExamSlips", name := "keeps", desc := "(II)I" } : Jvm.MethodName) ({ cls := "ExamSlips", name := "keeps", desc := "(II)I" } : Jvm.MethodName)) ∈ lw_all := lw_g (lw_at lw_m4 132 rfl) rfl
theorem q976 : (Jvm.Cond.code ({ cls := "ExamSlips", name := "keeps", desc := "(II)I" } : Jvm.MethodName) prog_1_method_30_code (4 : Nat) (Option.some Jvm.ClassFile.FieldType.int)) ∈ lw_all := lw_g (lw_at lw_m4 133 rfl) rfl
theorem q977 : (Jvm.Cond.methodLink "ExamSlips" (212 : Nat) ({ cls := "ExamSlips", name := "keepsOf", desc := "(LExamSlips$Question;I)I" } : Jvm.MethodName)) ∈ lw_all := lw_g (lw_at lw_m4 134 rfl) rfl
theorem q978 : (Jvm.Cond.privateMethod ({ cls := "ExamSlips", name := "keepsOf", desc := "(LExamSlips$Question;I)I" } : Jvm.MethodName)) ∈ lw_tbl := lw_at lw_m4 135 rfl
theorem q979 : (Jvm.Cond.instanceMethod ({ cls := "ExamSlips", name := "keepsOf", desc := "(LExamSlips$Question;I)I" } : Jvm.MethodName)) ∈ lw_all := lw_g (lw_at lw_m4 136 rfl) rfl
theorem q980 : (Jvm.Cond.code ({ cls := "ExamSlips", name := "keepsOf", desc := "(LExamSlips$Question;I)I" } : Jvm.MethodName) prog_1_method_28_code (3 : Nat) (Option.some Jvm.ClassFile.FieldType.int)) ∈ lw_all := lw_g (lw_at lw_m4 137 rfl) rfl
theorem q982 : (Jvm.Cond.instanceMethod ({ cls := "ExamSlips", name := "chance", desc := "(I)I" } : Jvm.MethodName)) ∈ lw_all := lw_g (lw_at lw_m4 139 rfl) rfl
theorem q983 : (Jvm.Cond.selects "ExamSlips" ({ cls := "ExamSlips", name := "chance", desc := "(I)I" } : Jvm.MethodName) ({ cls := "ExamSlips", name := "chance", desc := "(I)I" } : Jvm.MethodName)) ∈ lw_all := lw_g (lw_at lw_m4 140 rfl) rfl
theorem q984 : (Jvm.Cond.code ({ cls := "ExamSlips", name := "chance", desc := "(I)I" } : Jvm.MethodName) prog_1_method_31_code (2 : Nat) (Option.some Jvm.ClassFile.FieldType.int)) ∈ lw_all := lw_g (lw_at lw_m4 141 rfl) rfl
theorem q985 : (Jvm.Cond.methodLink "ExamSlips" (216 : Nat) ({ cls := "ExamSlips$Asked", name := "clear", desc := "()LExamSlips$Asked;" } : Jvm.MethodName)) ∈ lw_all := lw_g (lw_at lw_m4 142 rfl) rfl
theorem q987 : (Jvm.Cond.instanceMethod ({ cls := "ExamSlips", name := "pass", desc := "(I)J" } : Jvm.MethodName)) ∈ lw_all := lw_g (lw_at lw_m4 144 rfl) rfl
theorem q988 : (Jvm.Cond.selects "ExamSlips" ({ cls := "ExamSlips", name := "pass", desc := "(I)J" } : Jvm.MethodName) ({ cls := "ExamSlips", name := "pass", desc := "(I)J" } : Jvm.MethodName)) ∈ lw_all := lw_g (lw_at lw_m4 145 rfl) rfl
theorem q989 : (Jvm.Cond.code ({ cls := "ExamSlips", name := "pass", desc := "(I)J" } : Jvm.MethodName) prog_1_method_33_code (2 : Nat) (Option.some Jvm.ClassFile.FieldType.long)) ∈ lw_all := lw_g (lw_at lw_m4 146 rfl) rfl
theorem q990 : (Jvm.Cond.methodLink "ExamSlips" (220 : Nat) ({ cls := "ExamSlips", name := "isPart", desc := "(I)Z" } : Jvm.MethodName)) ∈ lw_all := lw_g (lw_at lw_m4 147 rfl) rfl
theorem q991 : (Jvm.Cond.static ({ cls := "ExamSlips", name := "isPart", desc := "(I)Z" } : Jvm.MethodName)) ∈ lw_all := lw_g (lw_at lw_m4 148 rfl) rfl
theorem q992 : (Jvm.Cond.code ({ cls := "ExamSlips", name := "isPart", desc := "(I)Z" } : Jvm.MethodName) prog_1_method_32_code (1 : Nat) (Option.some Jvm.ClassFile.FieldType.boolean)) ∈ lw_all := lw_g (lw_at lw_m4 149 rfl) rfl
theorem q993 : (Jvm.Cond.methodLink "ExamSlips" (223 : Nat) ({ cls := "ExamSlips", name := "bowl", desc := "(II)LExamSlips$Bowl;" } : Jvm.MethodName)) ∈ lw_all := lw_g (lw_at lw_m4 150 rfl) rfl
theorem q994 : (Jvm.Cond.privateMethod ({ cls := "ExamSlips", name := "bowl", desc := "(II)LExamSlips$Bowl;" } : Jvm.MethodName)) ∈ lw_tbl := lw_at lw_m4 151 rfl
theorem q995 : (Jvm.Cond.instanceMethod ({ cls := "ExamSlips", name := "bowl", desc := "(II)LExamSlips$Bowl;" } : Jvm.MethodName)) ∈ lw_all := lw_g (lw_at lw_m4 152 rfl) rfl
theorem q996 : (Jvm.Cond.code ({ cls := "ExamSlips", name := "bowl", desc := "(II)LExamSlips$Bowl;" } : Jvm.MethodName) prog_1_method_5_code (6 : Nat) (Option.some (Jvm.ClassFile.FieldType.object "ExamSlips$Bowl"))) ∈ lw_all := lw_g (lw_at lw_m4 153 rfl) rfl
theorem q997 : (Jvm.Cond.classLink "ExamSlips" (7 : Nat) "ExamSlips$Bowl") ∈ lw_all := lw_g (lw_at lw_m4 154 rfl) rfl
theorem q999 : (Jvm.Cond.methodLinkNest "ExamSlips" (9 : Nat) ({ cls := "ExamSlips$Bowl", name := "<init>", desc := "(LExamSlips;)V" } : Jvm.MethodName) "ExamSlips") ∈ lw_tbl := lw_at lw_m4 156 rfl
theorem q1006 : (Jvm.Cond.privateMethod ({ cls := "ExamSlips", name := "chances", desc := "()[I" } : Jvm.MethodName)) ∈ lw_tbl := lw_at lw_m4 163 rfl
theorem q1007 : (Jvm.Cond.instanceMethod ({ cls := "ExamSlips", name := "chances", desc := "()[I" } : Jvm.MethodName)) ∈ lw_all := lw_g (lw_at lw_m4 164 rfl) rfl
theorem q1008 : (Jvm.Cond.code ({ cls := "ExamSlips", name := "chances", desc := "()[I" } : Jvm.MethodName) prog_1_method_4_code (3 : Nat) (Option.some (Jvm.ClassFile.FieldType.array Jvm.ClassFile.FieldType.int))) ∈ lw_all := lw_g (lw_at lw_m4 165 rfl) rfl
theorem q1009 : (Jvm.Cond.methodLink "ExamSlips" (3 : Nat) ({ cls := "ExamSlips", name := "chance", desc := "(I)I" } : Jvm.MethodName)) ∈ lw_all := lw_g (lw_at lw_m4 166 rfl) rfl
theorem q1018 : (Jvm.Cond.fieldLinkNest "ExamSlips" (247 : Nat) "ExamSlips$Answers" "most" "I" "ExamSlips") ∈ lw_tbl := lw_at lw_m4 175 rfl
theorem q1027 : (Jvm.Cond.fieldLinkNest "ExamSlips" (243 : Nat) "ExamSlips$Bowl" "answers" "LExamSlips$Answers;" "ExamSlips") ∈ lw_tbl := lw_at lw_m4 184 rfl
theorem q1038 : (Jvm.Cond.methodLink "ExamSlips" (46 : Nat) ({ cls := "ExamSlips$Bowl", name := "add", desc := "(IZ)V" } : Jvm.MethodName)) ∈ lw_all := lw_g (lw_at lw_m4 195 rfl) rfl
theorem q1042 : (Jvm.Cond.methodLink "ExamSlips" (227 : Nat) ({ cls := "ExamSlips$Bowl", name := "pass", desc := "(I)LExamSlips$Share;" } : Jvm.MethodName)) ∈ lw_all := lw_g (lw_at lw_m4 199 rfl) rfl
theorem q1068 : (Jvm.Cond.static ({ cls := "ExamSlips", name := "over", desc := "(II)J" } : Jvm.MethodName)) ∈ lw_all := lw_g (lw_at lw_m4 225 rfl) rfl
theorem q1069 : (Jvm.Cond.code ({ cls := "ExamSlips", name := "over", desc := "(II)J" } : Jvm.MethodName) prog_1_method_3_code (5 : Nat) (Option.some Jvm.ClassFile.FieldType.long)) ∈ lw_all := lw_g (lw_at lw_m4 226 rfl) rfl
theorem q1089 : (Jvm.Cond.static ({ cls := "ExamSlips", name := "common", desc := "(JJ)J" } : Jvm.MethodName)) ∈ lw_all := lw_g (lw_at lw_m5 6 rfl) rfl
theorem q1090 : (Jvm.Cond.code ({ cls := "ExamSlips", name := "common", desc := "(JJ)J" } : Jvm.MethodName) prog_1_method_2_code (10 : Nat) (Option.some Jvm.ClassFile.FieldType.long)) ∈ lw_all := lw_g (lw_at lw_m5 7 rfl) rfl
theorem q1092 : (Jvm.Cond.fieldLinkNest "ExamSlips" (261 : Nat) "ExamSlips$Share" "upper" "J" "ExamSlips") ∈ lw_tbl := lw_at lw_m5 9 rfl
theorem q1094 : (Jvm.Cond.fieldLinkNest "ExamSlips" (265 : Nat) "ExamSlips$Share" "lower" "J" "ExamSlips") ∈ lw_tbl := lw_at lw_m5 11 rfl
theorem q1100 : (Jvm.Cond.methodLink "ExamSlips" (231 : Nat) ({ cls := "ExamSlips$Share", name := "part", desc := "(I)J" } : Jvm.MethodName)) ∈ lw_all := lw_g (lw_at lw_m5 17 rfl) rfl
theorem q1104 : (Jvm.Cond.constantLong "ExamSlips" (237 : Nat) (-1 : Int64)) ∈ lw_all := lw_g (lw_at lw_m5 21 rfl) rfl
theorem q1106 : (Jvm.Cond.instanceMethod ({ cls := "ExamSlips", name := "right", desc := "(II)J" } : Jvm.MethodName)) ∈ lw_all := lw_g (lw_at lw_m5 23 rfl) rfl
theorem q1107 : (Jvm.Cond.selects "ExamSlips" ({ cls := "ExamSlips", name := "right", desc := "(II)J" } : Jvm.MethodName) ({ cls := "ExamSlips", name := "right", desc := "(II)J" } : Jvm.MethodName)) ∈ lw_all := lw_g (lw_at lw_m5 24 rfl) rfl
theorem q1108 : (Jvm.Cond.code ({ cls := "ExamSlips", name := "right", desc := "(II)J" } : Jvm.MethodName) prog_1_method_34_code (5 : Nat) (Option.some Jvm.ClassFile.FieldType.long)) ∈ lw_all := lw_g (lw_at lw_m5 25 rfl) rfl
theorem q1109 : (Jvm.Cond.methodLink "ExamSlips" (239 : Nat) ({ cls := "ExamSlips$Bowl", name := "ways", desc := "(I)[J" } : Jvm.MethodName)) ∈ lw_all := lw_g (lw_at lw_m5 26 rfl) rfl
theorem q1110 : (Jvm.Cond.classLink "ExamSlips" (232 : Nat) "ExamSlips$Share") ∈ lw_all := lw_g (lw_at lw_m5 27 rfl) rfl
theorem q1111 : (Jvm.Cond.methodLink "ExamSlips" (252 : Nat) ({ cls := "ExamSlips$Share", name := "<init>", desc := "(JJ)V" } : Jvm.MethodName)) ∈ lw_all := lw_g (lw_at lw_m5 28 rfl) rfl
theorem q1113 : (Jvm.Cond.instanceMethod ({ cls := "ExamSlips", name := "mean", desc := "(I)J" } : Jvm.MethodName)) ∈ lw_all := lw_g (lw_at lw_m5 30 rfl) rfl
theorem q1114 : (Jvm.Cond.selects "ExamSlips" ({ cls := "ExamSlips", name := "mean", desc := "(I)J" } : Jvm.MethodName) ({ cls := "ExamSlips", name := "mean", desc := "(I)J" } : Jvm.MethodName)) ∈ lw_all := lw_g (lw_at lw_m5 31 rfl) rfl
theorem q1115 : (Jvm.Cond.code ({ cls := "ExamSlips", name := "mean", desc := "(I)J" } : Jvm.MethodName) prog_1_method_35_code (7 : Nat) (Option.some Jvm.ClassFile.FieldType.long)) ∈ lw_all := lw_g (lw_at lw_m5 32 rfl) rfl
theorem q1117 : (Jvm.Cond.instanceMethod ({ cls := "ExamSlips", name := "sure", desc := "(II)J" } : Jvm.MethodName)) ∈ lw_all := lw_g (lw_at lw_m5 34 rfl) rfl
theorem q1118 : (Jvm.Cond.selects "ExamSlips" ({ cls := "ExamSlips", name := "sure", desc := "(II)J" } : Jvm.MethodName) ({ cls := "ExamSlips", name := "sure", desc := "(II)J" } : Jvm.MethodName)) ∈ lw_all := lw_g (lw_at lw_m5 35 rfl) rfl
theorem q1119 : (Jvm.Cond.code ({ cls := "ExamSlips", name := "sure", desc := "(II)J" } : Jvm.MethodName) prog_1_method_38_code (3 : Nat) (Option.some Jvm.ClassFile.FieldType.long)) ∈ lw_all := lw_g (lw_at lw_m5 36 rfl) rfl
theorem q1120 : (Jvm.Cond.methodLink "ExamSlips" (255 : Nat) ({ cls := "ExamSlips", name := "inBowl", desc := "()I" } : Jvm.MethodName)) ∈ lw_all := lw_g (lw_at lw_m5 37 rfl) rfl
theorem q1121 : (Jvm.Cond.privateMethod ({ cls := "ExamSlips", name := "inBowl", desc := "()I" } : Jvm.MethodName)) ∈ lw_tbl := lw_at lw_m5 38 rfl
theorem q1122 : (Jvm.Cond.instanceMethod ({ cls := "ExamSlips", name := "inBowl", desc := "()I" } : Jvm.MethodName)) ∈ lw_all := lw_g (lw_at lw_m5 39 rfl) rfl
theorem q1123 : (Jvm.Cond.code ({ cls := "ExamSlips", name := "inBowl", desc := "()I" } : Jvm.MethodName) prog_1_method_36_code (3 : Nat) (Option.some Jvm.ClassFile.FieldType.int)) ∈ lw_all := lw_g (lw_at lw_m5 40 rfl) rfl
theorem q1124 : (Jvm.Cond.methodLink "ExamSlips" (258 : Nat) ({ cls := "ExamSlips", name := "sureWith", desc := "(I)LExamSlips$Share;" } : Jvm.MethodName)) ∈ lw_all := lw_g (lw_at lw_m5 41 rfl) rfl
theorem q1125 : (Jvm.Cond.privateMethod ({ cls := "ExamSlips", name := "sureWith", desc := "(I)LExamSlips$Share;" } : Jvm.MethodName)) ∈ lw_tbl := lw_at lw_m5 42 rfl
theorem q1126 : (Jvm.Cond.instanceMethod ({ cls := "ExamSlips", name := "sureWith", desc := "(I)LExamSlips$Share;" } : Jvm.MethodName)) ∈ lw_all := lw_g (lw_at lw_m5 43 rfl) rfl
theorem q1127 : (Jvm.Cond.code ({ cls := "ExamSlips", name := "sureWith", desc := "(I)LExamSlips$Share;" } : Jvm.MethodName) prog_1_method_37_code (5 : Nat) (Option.some (Jvm.ClassFile.FieldType.object "ExamSlips$Share"))) ∈ lw_all := lw_g (lw_at lw_m5 44 rfl) rfl
theorem q1129 : (Jvm.Cond.instanceMethod ({ cls := "ExamSlips", name := "safe", desc := "()I" } : Jvm.MethodName)) ∈ lw_all := lw_g (lw_at lw_m5 46 rfl) rfl
theorem q1130 : (Jvm.Cond.selects "ExamSlips" ({ cls := "ExamSlips", name := "safe", desc := "()I" } : Jvm.MethodName) ({ cls := "ExamSlips", name := "safe", desc := "()I" } : Jvm.MethodName)) ∈ lw_all := lw_g (lw_at lw_m5 47 rfl) rfl
theorem q1131 : (Jvm.Cond.code ({ cls := "ExamSlips", name := "safe", desc := "()I" } : Jvm.MethodName) prog_1_method_39_code (4 : Nat) (Option.some Jvm.ClassFile.FieldType.int)) ∈ lw_all := lw_g (lw_at lw_m5 48 rfl) rfl
theorem q1133 : (Jvm.Cond.instanceMethod ({ cls := "ExamSlips", name := "worth", desc := "(I)I" } : Jvm.MethodName)) ∈ lw_all := lw_g (lw_at lw_m5 50 rfl) rfl
theorem q1134 : (Jvm.Cond.selects "ExamSlips" ({ cls := "ExamSlips", name := "worth", desc := "(I)I" } : Jvm.MethodName) ({ cls := "ExamSlips", name := "worth", desc := "(I)I" } : Jvm.MethodName)) ∈ lw_all := lw_g (lw_at lw_m5 51 rfl) rfl
theorem q1135 : (Jvm.Cond.code ({ cls := "ExamSlips", name := "worth", desc := "(I)I" } : Jvm.MethodName) prog_1_method_40_code (3 : Nat) (Option.some Jvm.ClassFile.FieldType.int)) ∈ lw_all := lw_g (lw_at lw_m5 52 rfl) rfl
theorem q1136 : (Jvm.Cond.constant "ExamSlips" (268 : Nat) (-10000000 : Int32)) ∈ lw_all := lw_g (lw_at lw_m5 53 rfl) rfl
theorem q1137 : (Jvm.Cond.methodLink "ExamSlips" (269 : Nat) ({ cls := "ExamSlips$Share", name := "millionths", desc := "()I" } : Jvm.MethodName)) ∈ lw_all := lw_g (lw_at lw_m5 54 rfl) rfl
theorem q1143 : (Jvm.Cond.instanceMethod ({ cls := "ExamSlips", name := "best", desc := "(II)J" } : Jvm.MethodName)) ∈ lw_all := lw_g (lw_at lw_m5 60 rfl) rfl
theorem q1144 : (Jvm.Cond.selects "ExamSlips" ({ cls := "ExamSlips", name := "best", desc := "(II)J" } : Jvm.MethodName) ({ cls := "ExamSlips", name := "best", desc := "(II)J" } : Jvm.MethodName)) ∈ lw_all := lw_g (lw_at lw_m5 61 rfl) rfl
theorem q1145 : (Jvm.Cond.code ({ cls := "ExamSlips", name := "best", desc := "(II)J" } : Jvm.MethodName) prog_1_method_42_code (4 : Nat) (Option.some Jvm.ClassFile.FieldType.long)) ∈ lw_all := lw_g (lw_at lw_m5 62 rfl) rfl
theorem q1146 : (Jvm.Cond.methodLink "ExamSlips" (274 : Nat) ({ cls := "ExamSlips", name := "isHours", desc := "(I)Z" } : Jvm.MethodName)) ∈ lw_all := lw_g (lw_at lw_m5 63 rfl) rfl
theorem q1147 : (Jvm.Cond.static ({ cls := "ExamSlips", name := "isHours", desc := "(I)Z" } : Jvm.MethodName)) ∈ lw_all := lw_g (lw_at lw_m5 64 rfl) rfl
theorem q1148 : (Jvm.Cond.code ({ cls := "ExamSlips", name := "isHours", desc := "(I)Z" } : Jvm.MethodName) prog_1_method_41_code (1 : Nat) (Option.some Jvm.ClassFile.FieldType.boolean)) ∈ lw_all := lw_g (lw_at lw_m5 65 rfl) rfl
theorem q1149 : (Jvm.Cond.constantLong "ExamSlips" (272 : Nat) (400 : Int64)) ∈ lw_all := lw_g (lw_at lw_m5 66 rfl) rfl
theorem q1150 : (Jvm.Cond.methodLink "ExamSlips" (277 : Nat) ({ cls := "ExamSlips", name := "schemes", desc := "()LExamSlips$Schemes;" } : Jvm.MethodName)) ∈ lw_all := lw_g (lw_at lw_m5 67 rfl) rfl
theorem q1151 : (Jvm.Cond.privateMethod ({ cls := "ExamSlips", name := "schemes", desc := "()LExamSlips$Schemes;" } : Jvm.MethodName)) ∈ lw_tbl := lw_at lw_m5 68 rfl
theorem q1152 : (Jvm.Cond.instanceMethod ({ cls := "ExamSlips", name := "schemes", desc := "()LExamSlips$Schemes;" } : Jvm.MethodName)) ∈ lw_all := lw_g (lw_at lw_m5 69 rfl) rfl
theorem q1153 : (Jvm.Cond.code ({ cls := "ExamSlips", name := "schemes", desc := "()LExamSlips$Schemes;" } : Jvm.MethodName) prog_1_method_13_code (1 : Nat) (Option.some (Jvm.ClassFile.FieldType.object "ExamSlips$Schemes"))) ∈ lw_all := lw_g (lw_at lw_m5 70 rfl) rfl
theorem q1154 : (Jvm.Cond.classLink "ExamSlips" (119 : Nat) "ExamSlips$Schemes") ∈ lw_all := lw_g (lw_at lw_m5 71 rfl) rfl
theorem q1156 : (Jvm.Cond.methodLink "ExamSlips" (121 : Nat) ({ cls := "ExamSlips$Schemes", name := "<init>", desc := "(LExamSlips;)V" } : Jvm.MethodName)) ∈ lw_all := lw_g (lw_at lw_m5 73 rfl) rfl
theorem q1207 : (Jvm.Cond.fieldLinkNest "ExamSlips" (286 : Nat) "ExamSlips$Schemes" "all" "J" "ExamSlips") ∈ lw_tbl := lw_at lw_m5 124 rfl
theorem q1220 : (Jvm.Cond.methodLink "ExamSlips" (281 : Nat) ({ cls := "ExamSlips$Schemes", name := "hours", desc := "(I)I" } : Jvm.MethodName)) ∈ lw_all := lw_g (lw_at lw_m5 137 rfl) rfl
theorem q1234 : (Jvm.Cond.methodLink "ExamSlips" (284 : Nat) ({ cls := "ExamSlips$Schemes", name := "most", desc := "(I)J" } : Jvm.MethodName)) ∈ lw_all := lw_g (lw_at lw_m5 151 rfl) rfl
theorem q1236 : (Jvm.Cond.instanceMethod ({ cls := "ExamSlips", name := "level", desc := "(II)I" } : Jvm.MethodName)) ∈ lw_all := lw_g (lw_at lw_m5 153 rfl) rfl
theorem q1237 : (Jvm.Cond.selects "ExamSlips" ({ cls := "ExamSlips", name := "level", desc := "(II)I" } : Jvm.MethodName) ({ cls := "ExamSlips", name := "level", desc := "(II)I" } : Jvm.MethodName)) ∈ lw_all := lw_g (lw_at lw_m5 154 rfl) rfl
theorem q1238 : (Jvm.Cond.code ({ cls := "ExamSlips", name := "level", desc := "(II)I" } : Jvm.MethodName) prog_1_method_43_code (4 : Nat) (Option.some Jvm.ClassFile.FieldType.int)) ∈ lw_all := lw_g (lw_at lw_m5 155 rfl) rfl
theorem q1239 : (Jvm.Cond.methodLink "ExamSlips" (289 : Nat) ({ cls := "ExamSlips$Schemes", name := "first", desc := "(I)[I" } : Jvm.MethodName)) ∈ lw_all := lw_g (lw_at lw_m5 156 rfl) rfl
theorem q1252 : (Jvm.Cond.methodLink "ExamSlips" (293 : Nat) ({ cls := "ExamSlips$Schemes", name := "levelOf", desc := "([II)I" } : Jvm.MethodName)) ∈ lw_all := lw_g (lw_at lw_m5 169 rfl) rfl
theorem q1257 : (Jvm.Cond.instanceMethod ({ cls := "ExamSlips", name := "enough", desc := "(I)I" } : Jvm.MethodName)) ∈ lw_all := lw_g (lw_at lw_m5 174 rfl) rfl
theorem q1258 : (Jvm.Cond.selects "ExamSlips" ({ cls := "ExamSlips", name := "enough", desc := "(I)I" } : Jvm.MethodName) ({ cls := "ExamSlips", name := "enough", desc := "(I)I" } : Jvm.MethodName)) ∈ lw_all := lw_g (lw_at lw_m5 175 rfl) rfl
theorem q1259 : (Jvm.Cond.code ({ cls := "ExamSlips", name := "enough", desc := "(I)I" } : Jvm.MethodName) prog_1_method_44_code (4 : Nat) (Option.some Jvm.ClassFile.FieldType.int)) ∈ lw_all := lw_g (lw_at lw_m5 176 rfl) rfl
theorem q1261 : (Jvm.Cond.instanceMethod ({ cls := "ExamSlips", name := "lesson", desc := "(II)I" } : Jvm.MethodName)) ∈ lw_all := lw_g (lw_at lw_m5 178 rfl) rfl
theorem q1262 : (Jvm.Cond.selects "ExamSlips" ({ cls := "ExamSlips", name := "lesson", desc := "(II)I" } : Jvm.MethodName) ({ cls := "ExamSlips", name := "lesson", desc := "(II)I" } : Jvm.MethodName)) ∈ lw_all := lw_g (lw_at lw_m5 179 rfl) rfl
theorem q1263 : (Jvm.Cond.code ({ cls := "ExamSlips", name := "lesson", desc := "(II)I" } : Jvm.MethodName) prog_1_method_45_code (3 : Nat) (Option.some Jvm.ClassFile.FieldType.int)) ∈ lw_all := lw_g (lw_at lw_m5 180 rfl) rfl
theorem q1264 : (Jvm.Cond.constantLong "ExamSlips" (297 : Nat) (19 : Int64)) ∈ lw_all := lw_g (lw_at lw_m5 181 rfl) rfl
theorem q1265 : (Jvm.Cond.classLink "ExamSlips" (302 : Nat) "ExamSlips$Lesson") ∈ lw_all := lw_g (lw_at lw_m5 182 rfl) rfl
theorem q1267 : (Jvm.Cond.methodLink "ExamSlips" (304 : Nat) ({ cls := "ExamSlips$Lesson", name := "<init>", desc := "(II)V" } : Jvm.MethodName)) ∈ lw_all := lw_g (lw_at lw_m5 184 rfl) rfl
theorem q1281 : (Jvm.Cond.instanceMethod ({ cls := "ExamSlips", name := "clear", desc := "()I" } : Jvm.MethodName)) ∈ lw_all := lw_g (lw_at lw_m5 198 rfl) rfl
theorem q1282 : (Jvm.Cond.selects "ExamSlips" ({ cls := "ExamSlips", name := "clear", desc := "()I" } : Jvm.MethodName) ({ cls := "ExamSlips", name := "clear", desc := "()I" } : Jvm.MethodName)) ∈ lw_all := lw_g (lw_at lw_m5 199 rfl) rfl
theorem q1283 : (Jvm.Cond.code ({ cls := "ExamSlips", name := "clear", desc := "()I" } : Jvm.MethodName) prog_1_method_46_code (2 : Nat) (Option.some Jvm.ClassFile.FieldType.int)) ∈ lw_all := lw_g (lw_at lw_m5 200 rfl) rfl
theorem q1284 : (Jvm.Cond.methodLink "ExamSlips" (307 : Nat) ({ cls := "java/util/ArrayList", name := "clear", desc := "()V" } : Jvm.MethodName)) ∈ lw_all := lw_g (lw_at lw_m5 201 rfl) rfl
theorem q1289 : (Jvm.Cond.instanceMethod ({ cls := "ExamSlips", name := "behind", desc := "(II)I" } : Jvm.MethodName)) ∈ lw_all := lw_g (lw_at lw_m5 206 rfl) rfl
theorem q1290 : (Jvm.Cond.selects "ExamSlips" ({ cls := "ExamSlips", name := "behind", desc := "(II)I" } : Jvm.MethodName) ({ cls := "ExamSlips", name := "behind", desc := "(II)I" } : Jvm.MethodName)) ∈ lw_all := lw_g (lw_at lw_m5 207 rfl) rfl
theorem q1291 : (Jvm.Cond.code ({ cls := "ExamSlips", name := "behind", desc := "(II)I" } : Jvm.MethodName) prog_1_method_47_code (4 : Nat) (Option.some Jvm.ClassFile.FieldType.int)) ∈ lw_all := lw_g (lw_at lw_m5 208 rfl) rfl
theorem q1292 : (Jvm.Cond.classLink "ExamSlips" (309 : Nat) "ExamSlips$Mind") ∈ lw_all := lw_g (lw_at lw_m5 209 rfl) rfl
theorem q1294 : (Jvm.Cond.methodLink "ExamSlips" (311 : Nat) ({ cls := "ExamSlips$Mind", name := "<init>", desc := "(LExamSlips;I)V" } : Jvm.MethodName)) ∈ lw_all := lw_g (lw_at lw_m5 211 rfl) rfl
theorem q1319 : (Jvm.Cond.fieldLinkNest "ExamSlips" (317 : Nat) "ExamSlips$Mind" "level" "[I" "ExamSlips") ∈ lw_tbl := lw_at lw_m5 236 rfl
theorem q1322 : (Jvm.Cond.fieldLinkNest "ExamSlips" (320 : Nat) "ExamSlips$Mind" "dropped" "I" "ExamSlips") ∈ lw_tbl := lw_at lw_m5 239 rfl
theorem q1324 : (Jvm.Cond.fieldLinkNest "ExamSlips" (326 : Nat) "ExamSlips$Mind" "fell" "I" "ExamSlips") ∈ lw_tbl := lw_at lw_m6 1 rfl
theorem q1326 : (Jvm.Cond.fieldLinkNest "ExamSlips" (323 : Nat) "ExamSlips$Mind" "firstDropped" "I" "ExamSlips") ∈ lw_tbl := lw_at lw_m6 3 rfl
theorem q1328 : (Jvm.Cond.fieldLinkNest "ExamSlips" (314 : Nat) "ExamSlips$Mind" "learned" "I" "ExamSlips") ∈ lw_tbl := lw_at lw_m6 5 rfl
theorem q1346 : (Jvm.Cond.instanceMethod ({ cls := "ExamSlips", name := "judge", desc := "(I)I" } : Jvm.MethodName)) ∈ lw_all := lw_g (lw_at lw_m6 23 rfl) rfl
theorem q1347 : (Jvm.Cond.selects "ExamSlips" ({ cls := "ExamSlips", name := "judge", desc := "(I)I" } : Jvm.MethodName) ({ cls := "ExamSlips", name := "judge", desc := "(I)I" } : Jvm.MethodName)) ∈ lw_all := lw_g (lw_at lw_m6 24 rfl) rfl
theorem q1348 : (Jvm.Cond.code ({ cls := "ExamSlips", name := "judge", desc := "(I)I" } : Jvm.MethodName) prog_1_method_48_code (3 : Nat) (Option.some Jvm.ClassFile.FieldType.int)) ∈ lw_all := lw_g (lw_at lw_m6 25 rfl) rfl
theorem q1350 : (Jvm.Cond.instanceMethod ({ cls := "ExamSlips", name := "learn", desc := "()I" } : Jvm.MethodName)) ∈ lw_all := lw_g (lw_at lw_m6 27 rfl) rfl
theorem q1351 : (Jvm.Cond.selects "ExamSlips" ({ cls := "ExamSlips", name := "learn", desc := "()I" } : Jvm.MethodName) ({ cls := "ExamSlips", name := "learn", desc := "()I" } : Jvm.MethodName)) ∈ lw_all := lw_g (lw_at lw_m6 28 rfl) rfl
theorem q1352 : (Jvm.Cond.code ({ cls := "ExamSlips", name := "learn", desc := "()I" } : Jvm.MethodName) prog_1_method_49_code (4 : Nat) (Option.some Jvm.ClassFile.FieldType.int)) ∈ lw_all := lw_g (lw_at lw_m6 29 rfl) rfl
theorem q1354 : (Jvm.Cond.instanceMethod ({ cls := "ExamSlips", name := "backward", desc := "(II)I" } : Jvm.MethodName)) ∈ lw_all := lw_g (lw_at lw_m6 31 rfl) rfl
theorem q1355 : (Jvm.Cond.selects "ExamSlips" ({ cls := "ExamSlips", name := "backward", desc := "(II)I" } : Jvm.MethodName) ({ cls := "ExamSlips", name := "backward", desc := "(II)I" } : Jvm.MethodName)) ∈ lw_all := lw_g (lw_at lw_m6 32 rfl) rfl
theorem q1356 : (Jvm.Cond.code ({ cls := "ExamSlips", name := "backward", desc := "(II)I" } : Jvm.MethodName) prog_1_method_50_code (4 : Nat) (Option.some Jvm.ClassFile.FieldType.int)) ∈ lw_all := lw_g (lw_at lw_m6 33 rfl) rfl
theorem q1357 : (Jvm.Cond.classLink "ExamSlips" (329 : Nat) "ExamSlips$Backward") ∈ lw_all := lw_g (lw_at lw_m6 34 rfl) rfl
theorem q1359 : (Jvm.Cond.methodLink "ExamSlips" (331 : Nat) ({ cls := "ExamSlips$Backward", name := "<init>", desc := "(LExamSlips;)V" } : Jvm.MethodName)) ∈ lw_all := lw_g (lw_at lw_m6 36 rfl) rfl
theorem q1370 : (Jvm.Cond.fieldLinkNest "ExamSlips" (332 : Nat) "ExamSlips$Backward" "days" "[[I" "ExamSlips") ∈ lw_tbl := lw_at lw_m6 47 rfl
theorem q1372 : (Jvm.Cond.fieldLinkNest "ExamSlips" (336 : Nat) "ExamSlips$Backward" "leftOut" "I" "ExamSlips") ∈ lw_tbl := lw_at lw_m6 49 rfl
theorem q1374 : (Jvm.Cond.fieldLinkNest "ExamSlips" (339 : Nat) "ExamSlips$Backward" "first" "I" "ExamSlips") ∈ lw_tbl := lw_at lw_m6 51 rfl
theorem q1386 : (Jvm.Cond.instanceMethod ({ cls := "ExamSlips", name := "friend", desc := "(II)I" } : Jvm.MethodName)) ∈ lw_all := lw_g (lw_at lw_m6 63 rfl) rfl
theorem q1387 : (Jvm.Cond.selects "ExamSlips" ({ cls := "ExamSlips", name := "friend", desc := "(II)I" } : Jvm.MethodName) ({ cls := "ExamSlips", name := "friend", desc := "(II)I" } : Jvm.MethodName)) ∈ lw_all := lw_g (lw_at lw_m6 64 rfl) rfl
theorem q1388 : (Jvm.Cond.code ({ cls := "ExamSlips", name := "friend", desc := "(II)I" } : Jvm.MethodName) prog_1_method_51_code (4 : Nat) (Option.some Jvm.ClassFile.FieldType.int)) ∈ lw_all := lw_g (lw_at lw_m6 65 rfl) rfl
theorem q1390 : (Jvm.Cond.instanceMethod ({ cls := "ExamSlips", name := "share", desc := "(I)I" } : Jvm.MethodName)) ∈ lw_all := lw_g (lw_at lw_m6 67 rfl) rfl
theorem q1391 : (Jvm.Cond.selects "ExamSlips" ({ cls := "ExamSlips", name := "share", desc := "(I)I" } : Jvm.MethodName) ({ cls := "ExamSlips", name := "share", desc := "(I)I" } : Jvm.MethodName)) ∈ lw_all := lw_g (lw_at lw_m6 68 rfl) rfl
theorem q1392 : (Jvm.Cond.code ({ cls := "ExamSlips", name := "share", desc := "(I)I" } : Jvm.MethodName) prog_1_method_52_code (3 : Nat) (Option.some Jvm.ClassFile.FieldType.int)) ∈ lw_all := lw_g (lw_at lw_m6 69 rfl) rfl
theorem q1393 : (Jvm.Cond.classLink "ExamSlips" (344 : Nat) "ExamSlips$Sharing") ∈ lw_all := lw_g (lw_at lw_m6 70 rfl) rfl
theorem q1395 : (Jvm.Cond.methodLink "ExamSlips" (346 : Nat) ({ cls := "ExamSlips$Sharing", name := "<init>", desc := "(LExamSlips;)V" } : Jvm.MethodName)) ∈ lw_all := lw_g (lw_at lw_m6 72 rfl) rfl
theorem q1423 : (Jvm.Cond.fieldLinkNest "ExamSlips" (349 : Nat) "ExamSlips$Sharing" "many" "I" "ExamSlips") ∈ lw_tbl := lw_at lw_m6 100 rfl
theorem q1426 : (Jvm.Cond.fieldLinkNest "ExamSlips" (351 : Nat) "ExamSlips$Sharing" "who" "[I" "ExamSlips") ∈ lw_tbl := lw_at lw_m6 103 rfl
theorem q1428 : (Jvm.Cond.fieldLinkNest "ExamSlips" (347 : Nat) "ExamSlips$Sharing" "all" "I" "ExamSlips") ∈ lw_tbl := lw_at lw_m6 105 rfl
theorem q1443 : (Jvm.Cond.instanceMethod ({ cls := "ExamSlips", name := "ill", desc := "(II)I" } : Jvm.MethodName)) ∈ lw_all := lw_g (lw_at lw_m6 120 rfl) rfl
theorem q1444 : (Jvm.Cond.selects "ExamSlips" ({ cls := "ExamSlips", name := "ill", desc := "(II)I" } : Jvm.MethodName) ({ cls := "ExamSlips", name := "ill", desc := "(II)I" } : Jvm.MethodName)) ∈ lw_all := lw_g (lw_at lw_m6 121 rfl) rfl
theorem q1445 : (Jvm.Cond.code ({ cls := "ExamSlips", name := "ill", desc := "(II)I" } : Jvm.MethodName) prog_1_method_53_code (12 : Nat) (Option.some Jvm.ClassFile.FieldType.int)) ∈ lw_all := lw_g (lw_at lw_m6 122 rfl) rfl
theorem q1446 : (Jvm.Cond.methodLink "ExamSlips" (354 : Nat) ({ cls := "ExamSlips", name := "over", desc := "(II)J" } : Jvm.MethodName)) ∈ lw_all := lw_g (lw_at lw_m6 123 rfl) rfl
theorem q1448 : (Jvm.Cond.instanceMethod ({ cls := "ExamSlips", name := "year", desc := "(I)I" } : Jvm.MethodName)) ∈ lw_all := lw_g (lw_at lw_m6 125 rfl) rfl
theorem q1449 : (Jvm.Cond.selects "ExamSlips" ({ cls := "ExamSlips", name := "year", desc := "(I)I" } : Jvm.MethodName) ({ cls := "ExamSlips", name := "year", desc := "(I)I" } : Jvm.MethodName)) ∈ lw_all := lw_g (lw_at lw_m6 126 rfl) rfl
theorem q1450 : (Jvm.Cond.code ({ cls := "ExamSlips", name := "year", desc := "(I)I" } : Jvm.MethodName) prog_1_method_55_code (2 : Nat) (Option.some Jvm.ClassFile.FieldType.int)) ∈ lw_all := lw_g (lw_at lw_m6 127 rfl) rfl
theorem q1451 : (Jvm.Cond.methodLink "ExamSlips" (358 : Nat) ({ cls := "ExamSlips", name := "isDrawn", desc := "(I)Z" } : Jvm.MethodName)) ∈ lw_all := lw_g (lw_at lw_m6 128 rfl) rfl
theorem q1452 : (Jvm.Cond.privateMethod ({ cls := "ExamSlips", name := "isDrawn", desc := "(I)Z" } : Jvm.MethodName)) ∈ lw_tbl := lw_at lw_m6 129 rfl
theorem q1453 : (Jvm.Cond.instanceMethod ({ cls := "ExamSlips", name := "isDrawn", desc := "(I)Z" } : Jvm.MethodName)) ∈ lw_all := lw_g (lw_at lw_m6 130 rfl) rfl
theorem q1454 : (Jvm.Cond.code ({ cls := "ExamSlips", name := "isDrawn", desc := "(I)Z" } : Jvm.MethodName) prog_1_method_54_code (2 : Nat) (Option.some Jvm.ClassFile.FieldType.boolean)) ∈ lw_all := lw_g (lw_at lw_m6 131 rfl) rfl
theorem q1456 : (Jvm.Cond.instanceMethod ({ cls := "ExamSlips", name := "row", desc := "()I" } : Jvm.MethodName)) ∈ lw_all := lw_g (lw_at lw_m6 133 rfl) rfl
theorem q1457 : (Jvm.Cond.selects "ExamSlips" ({ cls := "ExamSlips", name := "row", desc := "()I" } : Jvm.MethodName) ({ cls := "ExamSlips", name := "row", desc := "()I" } : Jvm.MethodName)) ∈ lw_all := lw_g (lw_at lw_m6 134 rfl) rfl
theorem q1458 : (Jvm.Cond.codeWith ({ cls := "ExamSlips", name := "row", desc := "()I" } : Jvm.MethodName) prog_1_method_57_code (8 : Nat) (Option.some Jvm.ClassFile.FieldType.int) [((58 : Nat), (65 : Nat), (163 : Nat), (380 : Nat)), ((58 : Nat), (65 : Nat), (266 : Nat), (0 : Nat)), ((163 : Nat), (168 : Nat), (266 : Nat), (0 : Nat)), ((266 : Nat), (268 : Nat), (266 : Nat), (0 : Nat))]) ∈ lw_all := lw_g (lw_at lw_m6 135 rfl) rfl
theorem q1459 : (Jvm.Cond.classLink "ExamSlips" (380 : Nat) "java/lang/ArrayIndexOutOfBoundsException") ∈ lw_all := lw_g (lw_at lw_m6 136 rfl) rfl
theorem q1493 : (Jvm.Cond.methodLink "ExamSlips" (367 : Nat) ({ cls := "java/lang/System", name := "arraycopy", desc := "(Ljava/lang/Object;ILjava/lang/Object;II)V" } : Jvm.MethodName)) ∈ lw_all := lw_g (lw_at lw_m6 170 rfl) rfl
theorem q1494 : (Jvm.Cond.methodLink "ExamSlips" (376 : Nat) ({ cls := "ExamSlips", name := "intAt", desc := "([BI)I" } : Jvm.MethodName)) ∈ lw_all := lw_g (lw_at lw_m6 171 rfl) rfl
theorem q1495 : (Jvm.Cond.static ({ cls := "ExamSlips", name := "intAt", desc := "([BI)I" } : Jvm.MethodName)) ∈ lw_all := lw_g (lw_at lw_m6 172 rfl) rfl
theorem q1496 : (Jvm.Cond.code ({ cls := "ExamSlips", name := "intAt", desc := "([BI)I" } : Jvm.MethodName) prog_1_method_56_code (2 : Nat) (Option.some Jvm.ClassFile.FieldType.int)) ∈ lw_all := lw_g (lw_at lw_m6 173 rfl) rfl
theorem q1498 : (Jvm.Cond.instanceMethod ({ cls := "ExamSlips", name := "lost", desc := "()I" } : Jvm.MethodName)) ∈ lw_all := lw_g (lw_at lw_m6 175 rfl) rfl
theorem q1499 : (Jvm.Cond.selects "ExamSlips" ({ cls := "ExamSlips", name := "lost", desc := "()I" } : Jvm.MethodName) ({ cls := "ExamSlips", name := "lost", desc := "()I" } : Jvm.MethodName)) ∈ lw_all := lw_g (lw_at lw_m6 176 rfl) rfl
theorem q1500 : (Jvm.Cond.code ({ cls := "ExamSlips", name := "lost", desc := "()I" } : Jvm.MethodName) prog_1_method_58_code (1 : Nat) (Option.some Jvm.ClassFile.FieldType.int)) ∈ lw_all := lw_g (lw_at lw_m6 177 rfl) rfl
theorem q1502 : (Jvm.Cond.instanceMethod ({ cls := "ExamSlips", name := "drawn", desc := "(II)I" } : Jvm.MethodName)) ∈ lw_all := lw_g (lw_at lw_m6 179 rfl) rfl
theorem q1503 : (Jvm.Cond.selects "ExamSlips" ({ cls := "ExamSlips", name := "drawn", desc := "(II)I" } : Jvm.MethodName) ({ cls := "ExamSlips", name := "drawn", desc := "(II)I" } : Jvm.MethodName)) ∈ lw_all := lw_g (lw_at lw_m6 180 rfl) rfl
theorem q1504 : (Jvm.Cond.code ({ cls := "ExamSlips", name := "drawn", desc := "(II)I" } : Jvm.MethodName) prog_1_method_59_code (7 : Nat) (Option.some Jvm.ClassFile.FieldType.int)) ∈ lw_all := lw_g (lw_at lw_m6 181 rfl) rfl
theorem q1506 : (Jvm.Cond.instanceMethod ({ cls := "ExamSlips", name := "seldom", desc := "(I)I" } : Jvm.MethodName)) ∈ lw_all := lw_g (lw_at lw_m6 183 rfl) rfl
theorem q1507 : (Jvm.Cond.selects "ExamSlips" ({ cls := "ExamSlips", name := "seldom", desc := "(I)I" } : Jvm.MethodName) ({ cls := "ExamSlips", name := "seldom", desc := "(I)I" } : Jvm.MethodName)) ∈ lw_all := lw_g (lw_at lw_m6 184 rfl) rfl
theorem q1508 : (Jvm.Cond.code ({ cls := "ExamSlips", name := "seldom", desc := "(I)I" } : Jvm.MethodName) prog_1_method_62_code (6 : Nat) (Option.some Jvm.ClassFile.FieldType.int)) ∈ lw_all := lw_g (lw_at lw_m6 185 rfl) rfl
theorem q1509 : (Jvm.Cond.methodLink "ExamSlips" (405 : Nat) ({ cls := "ExamSlips", name := "waysOf", desc := "()[LExamSlips$Huge;" } : Jvm.MethodName)) ∈ lw_all := lw_g (lw_at lw_m6 186 rfl) rfl
theorem q1510 : (Jvm.Cond.privateMethod ({ cls := "ExamSlips", name := "waysOf", desc := "()[LExamSlips$Huge;" } : Jvm.MethodName)) ∈ lw_tbl := lw_at lw_m6 187 rfl
theorem q1511 : (Jvm.Cond.instanceMethod ({ cls := "ExamSlips", name := "waysOf", desc := "()[LExamSlips$Huge;" } : Jvm.MethodName)) ∈ lw_all := lw_g (lw_at lw_m6 188 rfl) rfl
theorem q1512 : (Jvm.Cond.code ({ cls := "ExamSlips", name := "waysOf", desc := "()[LExamSlips$Huge;" } : Jvm.MethodName) prog_1_method_60_code (6 : Nat) (Option.some (Jvm.ClassFile.FieldType.array (Jvm.ClassFile.FieldType.object "ExamSlips$Huge")))) ∈ lw_all := lw_g (lw_at lw_m6 189 rfl) rfl
theorem q1513 : (Jvm.Cond.classLink "ExamSlips" (382 : Nat) "ExamSlips$Huge") ∈ lw_all := lw_g (lw_at lw_m6 190 rfl) rfl
theorem q1516 : (Jvm.Cond.methodLink "ExamSlips" (384 : Nat) ({ cls := "ExamSlips$Huge", name := "<init>", desc := "(I)V" } : Jvm.MethodName)) ∈ lw_all := lw_g (lw_at lw_m6 193 rfl) rfl
theorem q1524 : (Jvm.Cond.methodLink "ExamSlips" (386 : Nat) ({ cls := "ExamSlips$Huge", name := "times", desc := "(I)LExamSlips$Huge;" } : Jvm.MethodName)) ∈ lw_all := lw_g (lw_at lw_m6 201 rfl) rfl
theorem q1529 : (Jvm.Cond.methodLink "ExamSlips" (390 : Nat) ({ cls := "ExamSlips$Huge", name := "<init>", desc := "(LExamSlips$Huge;)V" } : Jvm.MethodName)) ∈ lw_all := lw_g (lw_at lw_m6 206 rfl) rfl
theorem q1533 : (Jvm.Cond.methodLink "ExamSlips" (393 : Nat) ({ cls := "ExamSlips$Huge", name := "plus", desc := "(LExamSlips$Huge;)LExamSlips$Huge;" } : Jvm.MethodName)) ∈ lw_all := lw_g (lw_at lw_m6 210 rfl) rfl
theorem q1537 : (Jvm.Cond.constant "ExamSlips" (400 : Nat) (1000000 : Int32)) ∈ lw_all := lw_g (lw_at lw_m6 214 rfl) rfl
theorem q1538 : (Jvm.Cond.methodLink "ExamSlips" (409 : Nat) ({ cls := "ExamSlips", name := "seldomOf", desc := "(I[LExamSlips$Huge;)I" } : Jvm.MethodName)) ∈ lw_all := lw_g (lw_at lw_m6 215 rfl) rfl
theorem q1539 : (Jvm.Cond.privateMethod ({ cls := "ExamSlips", name := "seldomOf", desc := "(I[LExamSlips$Huge;)I" } : Jvm.MethodName)) ∈ lw_tbl := lw_at lw_m6 216 rfl
theorem q1540 : (Jvm.Cond.instanceMethod ({ cls := "ExamSlips", name := "seldomOf", desc := "(I[LExamSlips$Huge;)I" } : Jvm.MethodName)) ∈ lw_all := lw_g (lw_at lw_m6 217 rfl) rfl
theorem q1541 : (Jvm.Cond.code ({ cls := "ExamSlips", name := "seldomOf", desc := "(I[LExamSlips$Huge;)I" } : Jvm.MethodName) prog_1_method_61_code (7 : Nat) (Option.some Jvm.ClassFile.FieldType.int)) ∈ lw_all := lw_g (lw_at lw_m6 218 rfl) rfl
theorem q1542 : (Jvm.Cond.methodLink "ExamSlips" (397 : Nat) ({ cls := "ExamSlips", name := "drawn", desc := "(II)I" } : Jvm.MethodName)) ∈ lw_all := lw_g (lw_at lw_m6 219 rfl) rfl
theorem q1543 : (Jvm.Cond.methodLink "ExamSlips" (401 : Nat) ({ cls := "ExamSlips$Huge", name := "has", desc := "(LExamSlips$Huge;I)I" } : Jvm.MethodName)) ∈ lw_all := lw_g (lw_at lw_m6 220 rfl) rfl
theorem q1557 : (Jvm.Cond.constantLong "ExamSlips" (413 : Nat) (1000000 : Int64)) ∈ lw_all := lw_g (lw_at lw_m6 234 rfl) rfl
theorem q1558 : (Jvm.Cond.methodLink "ExamSlips" (415 : Nat) ({ cls := "java/lang/Math", name := "min", desc := "(JJ)J" } : Jvm.MethodName)) ∈ lw_all := lw_g (lw_at lw_m6 235 rfl) rfl
theorem q1560 : (Jvm.Cond.instanceMethod ({ cls := "ExamSlips", name := "exam", desc := "(I)I" } : Jvm.MethodName)) ∈ lw_all := lw_g (lw_at lw_m6 237 rfl) rfl
theorem q1561 : (Jvm.Cond.selects "ExamSlips" ({ cls := "ExamSlips", name := "exam", desc := "(I)I" } : Jvm.MethodName) ({ cls := "ExamSlips", name := "exam", desc := "(I)I" } : Jvm.MethodName)) ∈ lw_all := lw_g (lw_at lw_m6 238 rfl) rfl
theorem q1562 : (Jvm.Cond.code ({ cls := "ExamSlips", name := "exam", desc := "(I)I" } : Jvm.MethodName) prog_1_method_66_code (2 : Nat) (Option.some Jvm.ClassFile.FieldType.int)) ∈ lw_all := lw_g (lw_at lw_m6 239 rfl) rfl
theorem q1563 : (Jvm.Cond.classLink "ExamSlips" (430 : Nat) "ExamSlips$Draws") ∈ lw_all := lw_g (lw_at lw_m7 0 rfl) rfl
theorem q1565 : (Jvm.Cond.methodLink "ExamSlips" (445 : Nat) ({ cls := "ExamSlips$Draws", name := "<init>", desc := "(I)V" } : Jvm.MethodName)) ∈ lw_all := lw_g (lw_at lw_m7 2 rfl) rfl
theorem q1573 : (Jvm.Cond.methodLink "ExamSlips" (446 : Nat) ({ cls := "ExamSlips", name := "draw", desc := "(LExamSlips$Draws;)LExamSlips$Table;" } : Jvm.MethodName)) ∈ lw_all := lw_g (lw_at lw_m7 10 rfl) rfl
theorem q1574 : (Jvm.Cond.privateMethod ({ cls := "ExamSlips", name := "draw", desc := "(LExamSlips$Draws;)LExamSlips$Table;" } : Jvm.MethodName)) ∈ lw_tbl := lw_at lw_m7 11 rfl
theorem q1575 : (Jvm.Cond.instanceMethod ({ cls := "ExamSlips", name := "draw", desc := "(LExamSlips$Draws;)LExamSlips$Table;" } : Jvm.MethodName)) ∈ lw_all := lw_g (lw_at lw_m7 12 rfl) rfl
theorem q1576 : (Jvm.Cond.code ({ cls := "ExamSlips", name := "draw", desc := "(LExamSlips$Draws;)LExamSlips$Table;" } : Jvm.MethodName) prog_1_method_64_code (10 : Nat) (Option.some (Jvm.ClassFile.FieldType.object "ExamSlips$Table"))) ∈ lw_all := lw_g (lw_at lw_m7 13 rfl) rfl
theorem q1577 : (Jvm.Cond.classLink "ExamSlips" (418 : Nat) "ExamSlips$Table") ∈ lw_all := lw_g (lw_at lw_m7 14 rfl) rfl
theorem q1579 : (Jvm.Cond.methodLinkNest "ExamSlips" (420 : Nat) ({ cls := "ExamSlips$Table", name := "<init>", desc := "()V" } : Jvm.MethodName) "ExamSlips") ∈ lw_tbl := lw_at lw_m7 16 rfl
theorem q1583 : (Jvm.Cond.fieldLinkNest "ExamSlips" (426 : Nat) "ExamSlips$Table" "lay" "I" "ExamSlips") ∈ lw_tbl := lw_at lw_m7 20 rfl
theorem q1584 : (Jvm.Cond.fieldLinkNest "ExamSlips" (436 : Nat) "ExamSlips$Table" "answered" "I" "ExamSlips") ∈ lw_tbl := lw_at lw_m7 21 rfl
theorem q1586 : (Jvm.Cond.fieldLinkNest "ExamSlips" (442 : Nat) "ExamSlips$Table" "right" "I" "ExamSlips") ∈ lw_tbl := lw_at lw_m7 23 rfl
theorem q1594 : (Jvm.Cond.methodLink "ExamSlips" (421 : Nat) ({ cls := "java/lang/Integer", name := "bitCount", desc := "(I)I" } : Jvm.MethodName)) ∈ lw_all := lw_g (lw_at lw_m7 31 rfl) rfl
theorem q1595 : (Jvm.Cond.methodLink "ExamSlips" (429 : Nat) ({ cls := "ExamSlips$Draws", name := "of", desc := "(I)I" } : Jvm.MethodName)) ∈ lw_all := lw_g (lw_at lw_m7 32 rfl) rfl
theorem q1602 : (Jvm.Cond.methodLink "ExamSlips" (433 : Nat) ({ cls := "ExamSlips", name := "pick", desc := "(II)I" } : Jvm.MethodName)) ∈ lw_all := lw_g (lw_at lw_m7 39 rfl) rfl
theorem q1603 : (Jvm.Cond.static ({ cls := "ExamSlips", name := "pick", desc := "(II)I" } : Jvm.MethodName)) ∈ lw_all := lw_g (lw_at lw_m7 40 rfl) rfl
theorem q1604 : (Jvm.Cond.code ({ cls := "ExamSlips", name := "pick", desc := "(II)I" } : Jvm.MethodName) prog_1_method_63_code (4 : Nat) (Option.some Jvm.ClassFile.FieldType.int)) ∈ lw_all := lw_g (lw_at lw_m7 41 rfl) rfl
theorem q1605 : (Jvm.Cond.methodLink "ExamSlips" (439 : Nat) ({ cls := "ExamSlips", name := "chanceOf", desc := "(I)I" } : Jvm.MethodName)) ∈ lw_all := lw_g (lw_at lw_m7 42 rfl) rfl
theorem q1606 : (Jvm.Cond.privateMethod ({ cls := "ExamSlips", name := "chanceOf", desc := "(I)I" } : Jvm.MethodName)) ∈ lw_tbl := lw_at lw_m7 43 rfl
theorem q1607 : (Jvm.Cond.instanceMethod ({ cls := "ExamSlips", name := "chanceOf", desc := "(I)I" } : Jvm.MethodName)) ∈ lw_all := lw_g (lw_at lw_m7 44 rfl) rfl
theorem q1608 : (Jvm.Cond.code ({ cls := "ExamSlips", name := "chanceOf", desc := "(I)I" } : Jvm.MethodName) prog_1_method_65_code (2 : Nat) (Option.some Jvm.ClassFile.FieldType.int)) ∈ lw_all := lw_g (lw_at lw_m7 45 rfl) rfl
theorem q1609 : (Jvm.Cond.methodLink "ExamSlips" (454 : Nat) ({ cls := "ExamSlips$Table", name := "rights", desc := "()I" } : Jvm.MethodName)) ∈ lw_all := lw_g (lw_at lw_m7 46 rfl) rfl
theorem q1615 : (Jvm.Cond.instanceMethod ({ cls := "ExamSlips", name := "table", desc := "(I)I" } : Jvm.MethodName)) ∈ lw_all := lw_g (lw_at lw_m7 52 rfl) rfl
theorem q1616 : (Jvm.Cond.selects "ExamSlips" ({ cls := "ExamSlips", name := "table", desc := "(I)I" } : Jvm.MethodName) ({ cls := "ExamSlips", name := "table", desc := "(I)I" } : Jvm.MethodName)) ∈ lw_all := lw_g (lw_at lw_m7 53 rfl) rfl
theorem q1617 : (Jvm.Cond.code ({ cls := "ExamSlips", name := "table", desc := "(I)I" } : Jvm.MethodName) prog_1_method_67_code (2 : Nat) (Option.some Jvm.ClassFile.FieldType.int)) ∈ lw_all := lw_g (lw_at lw_m7 54 rfl) rfl
theorem q1619 : (Jvm.Cond.instanceMethod ({ cls := "ExamSlips", name := "exams", desc := "(II)I" } : Jvm.MethodName)) ∈ lw_all := lw_g (lw_at lw_m7 56 rfl) rfl
theorem q1620 : (Jvm.Cond.selects "ExamSlips" ({ cls := "ExamSlips", name := "exams", desc := "(II)I" } : Jvm.MethodName) ({ cls := "ExamSlips", name := "exams", desc := "(II)I" } : Jvm.MethodName)) ∈ lw_all := lw_g (lw_at lw_m7 57 rfl) rfl
theorem q1621 : (Jvm.Cond.code ({ cls := "ExamSlips", name := "exams", desc := "(II)I" } : Jvm.MethodName) prog_1_method_68_code (6 : Nat) (Option.some Jvm.ClassFile.FieldType.int)) ∈ lw_all := lw_g (lw_at lw_m7 58 rfl) rfl
theorem q1622 : (Jvm.Cond.constantLong "ExamSlips" (457 : Nat) (500 : Int64)) ∈ lw_all := lw_g (lw_at lw_m7 59 rfl) rfl
theorem q1624 : (Jvm.Cond.instanceMethod ({ cls := "ExamSlips", name := "image", desc := "(I)I" } : Jvm.MethodName)) ∈ lw_all := lw_g (lw_at lw_m7 61 rfl) rfl
theorem q1625 : (Jvm.Cond.selects "ExamSlips" ({ cls := "ExamSlips", name := "image", desc := "(I)I" } : Jvm.MethodName) ({ cls := "ExamSlips", name := "image", desc := "(I)I" } : Jvm.MethodName)) ∈ lw_all := lw_g (lw_at lw_m7 62 rfl) rfl
theorem q1626 : (Jvm.Cond.code ({ cls := "ExamSlips", name := "image", desc := "(I)I" } : Jvm.MethodName) prog_1_method_69_code (2 : Nat) (Option.some Jvm.ClassFile.FieldType.int)) ∈ lw_all := lw_g (lw_at lw_m7 63 rfl) rfl
theorem q1627 : (Jvm.Cond.methodLink "ExamSlips" (459 : Nat) ({ cls := "ExamSlips$Exam", name := "copy", desc := "()LExamSlips$Exam;" } : Jvm.MethodName)) ∈ lw_all := lw_g (lw_at lw_m7 64 rfl) rfl
theorem q1647 : (Jvm.Cond.instanceMethod ({ cls := "ExamSlips", name := "back", desc := "(I)I" } : Jvm.MethodName)) ∈ lw_all := lw_g (lw_at lw_m7 84 rfl) rfl
theorem q1648 : (Jvm.Cond.selects "ExamSlips" ({ cls := "ExamSlips", name := "back", desc := "(I)I" } : Jvm.MethodName) ({ cls := "ExamSlips", name := "back", desc := "(I)I" } : Jvm.MethodName)) ∈ lw_all := lw_g (lw_at lw_m7 85 rfl) rfl
theorem q1649 : (Jvm.Cond.code ({ cls := "ExamSlips", name := "back", desc := "(I)I" } : Jvm.MethodName) prog_1_method_70_code (2 : Nat) (Option.some Jvm.ClassFile.FieldType.int)) ∈ lw_all := lw_g (lw_at lw_m7 86 rfl) rfl
theorem q1651 : (Jvm.Cond.instanceMethod ({ cls := "ExamSlips", name := "count", desc := "(I)I" } : Jvm.MethodName)) ∈ lw_all := lw_g (lw_at lw_m7 88 rfl) rfl
theorem q1652 : (Jvm.Cond.selects "ExamSlips" ({ cls := "ExamSlips", name := "count", desc := "(I)I" } : Jvm.MethodName) ({ cls := "ExamSlips", name := "count", desc := "(I)I" } : Jvm.MethodName)) ∈ lw_all := lw_g (lw_at lw_m7 89 rfl) rfl
theorem q1653 : (Jvm.Cond.code ({ cls := "ExamSlips", name := "count", desc := "(I)I" } : Jvm.MethodName) prog_1_method_71_code (4 : Nat) (Option.some Jvm.ClassFile.FieldType.int)) ∈ lw_all := lw_g (lw_at lw_m7 90 rfl) rfl
theorem q1655 : (Jvm.Cond.instanceMethod ({ cls := "ExamSlips", name := "status", desc := "()I" } : Jvm.MethodName)) ∈ lw_all := lw_g (lw_at lw_m7 92 rfl) rfl
theorem q1656 : (Jvm.Cond.selects "ExamSlips" ({ cls := "ExamSlips", name := "status", desc := "()I" } : Jvm.MethodName) ({ cls := "ExamSlips", name := "status", desc := "()I" } : Jvm.MethodName)) ∈ lw_all := lw_g (lw_at lw_m7 93 rfl) rfl
theorem q1657 : (Jvm.Cond.code ({ cls := "ExamSlips", name := "status", desc := "()I" } : Jvm.MethodName) prog_1_method_72_code (1 : Nat) (Option.some Jvm.ClassFile.FieldType.int)) ∈ lw_all := lw_g (lw_at lw_m7 94 rfl) rfl
theorem q2378 : (Jvm.Cond.castable "ExamSlips" "java/lang/Object") ∈ lw_tbl := lw_at lw_m10 95 rfl
theorem in_X0 : ∀ w ∈ wsX00, w ∈ lw_all := lw_in wsX00 [310, 312, 314, 316, 318, 320, 322, 324, 326, 328, 330, 332, 334] (by decide +kernel) (by decide +kernel)
