/-! ExamSlips$Exam -/
set_option maxRecDepth 100000
def RX1 : String := "ExamSlips$Exam"
def TX1 : u_T := fun k => match k with
  | 0 => ("ExamSlips$Exam", "questions", "Ljava/util/ArrayList;", true)
  | 1 => ("ExamSlips$Exam", "papers", "Ljava/util/ArrayList;", true)
  | 2 => ("ExamSlips$Exam", "diary", "Ljava/util/ArrayList;", true)
  | 3 => ("ExamSlips$Exam", "terms", "[I", true)
  | 4 => ("ExamSlips$Exam", "friends", "[I", true)
  | 5 => ("ExamSlips$Exam", "years", "[I", true)
  | 6 => ("ExamSlips$Exam", "yeared", "I", false)
  | _ => ("ExamSlips$Exam", "used", "I", false)
def tyX1 : Nat → FieldType := fun k => match k with
  | 0 => .object "java/util/ArrayList"
  | 1 => .object "java/util/ArrayList"
  | 2 => .object "java/util/ArrayList"
  | 3 => .array .int
  | 4 => .array .int
  | 5 => .array .int
  | 6 => .int
  | _ => .int
abbrev wsX10 : List Cond := u_ws RX1 TX1 8
theorem nmX1 : ∀ a, a < 8 → ∀ b, b < 8 → a ≠ b → (TX1 a).2.1 ≠ (TX1 b).2.1 := by decide +kernel
theorem tyX1_ok : ∀ k, k < 8 → parseFieldDescriptor (TX1 k).2.2.1 = some (tyX1 k) := by decide +kernel
abbrev cX1_init : ByteArray := prog_10_method_1_code
def yX1_init : MethodName := ⟨RX1, "<init>", "()V"⟩
def dkwX1_init_4 : List UInt8 := [2, 181, 0, 34, 177]
abbrev dktX1_init_4 : List UInt8 := dkwX1_init_4 ++ []
def dkwX1_init_3 : List UInt8 := [16, 6, 16, 6, 79, 181, 0, 24, 42, 6, 188, 10, 181, 0, 28, 42, 16, 40, 188, 10, 181, 0, 31, 42]
abbrev dktX1_init_3 : List UInt8 := dkwX1_init_3 ++ dktX1_init_4
def dkwX1_init_2 : List UInt8 := [89, 4, 6, 79, 89, 5, 5, 79, 89, 6, 3, 79, 89, 7, 16, 10, 79, 89, 8, 16, 19, 79, 89]
abbrev dktX1_init_2 : List UInt8 := dkwX1_init_2 ++ dktX1_init_3
def dkwX1_init_1 : List UInt8 := [181, 0, 18, 42, 187, 0, 9, 89, 183, 0, 11, 181, 0, 21, 42, 16, 7, 188, 10, 89, 3, 16, 8, 79]
abbrev dktX1_init_1 : List UInt8 := dkwX1_init_1 ++ dktX1_init_2
def dkwX1_init_0 : List UInt8 := [42, 183, 0, 3, 42, 187, 0, 9, 89, 183, 0, 11, 181, 0, 12, 42, 187, 0, 9, 89, 183, 0, 11]
abbrev dktX1_init_0 : List UInt8 := dkwX1_init_0 ++ dktX1_init_1
theorem dksX1_init_0 : cX1_init.data.toList.drop 0 = dktX1_init_0 := by decide +kernel
theorem dksX1_init_1 : cX1_init.data.toList.drop 23 = dktX1_init_1 := dk_seg dksX1_init_0 23 rfl rfl
theorem dksX1_init_2 : cX1_init.data.toList.drop 47 = dktX1_init_2 := dk_seg dksX1_init_1 24 rfl rfl
theorem dksX1_init_3 : cX1_init.data.toList.drop 70 = dktX1_init_3 := dk_seg dksX1_init_2 23 rfl rfl
theorem dksX1_init_4 : cX1_init.data.toList.drop 94 = dktX1_init_4 := dk_seg dksX1_init_3 24 rfl rfl
theorem dX1_init_0 : decode cX1_init 0 = .ok (.aload_n 0, 1) := dk_42 (dk_at dksX1_init_0 0 rfl rfl)
theorem dX1_init_1 : decode cX1_init 1 = .ok (.invokespecial 3, 3) := dk_183 0 3 (dk_at dksX1_init_0 1 rfl rfl)
theorem dX1_init_4 : decode cX1_init 4 = .ok (.aload_n 0, 1) := dk_42 (dk_at dksX1_init_0 4 rfl rfl)
theorem dX1_init_5 : decode cX1_init 5 = .ok (.new 9, 3) := dk_187 0 9 (dk_at dksX1_init_0 5 rfl rfl)
theorem dX1_init_8 : decode cX1_init 8 = .ok (.dup, 1) := dk_89 (dk_at dksX1_init_0 8 rfl rfl)
theorem dX1_init_9 : decode cX1_init 9 = .ok (.invokespecial 11, 3) := dk_183 0 11 (dk_at dksX1_init_0 9 rfl rfl)
theorem dX1_init_12 : decode cX1_init 12 = .ok (.putfield 12, 3) := dk_181 0 12 (dk_at dksX1_init_0 12 rfl rfl)
theorem dX1_init_15 : decode cX1_init 15 = .ok (.aload_n 0, 1) := dk_42 (dk_at dksX1_init_0 15 rfl rfl)
theorem dX1_init_16 : decode cX1_init 16 = .ok (.new 9, 3) := dk_187 0 9 (dk_at dksX1_init_0 16 rfl rfl)
theorem dX1_init_19 : decode cX1_init 19 = .ok (.dup, 1) := dk_89 (dk_at dksX1_init_0 19 rfl rfl)
theorem dX1_init_20 : decode cX1_init 20 = .ok (.invokespecial 11, 3) := dk_183 0 11 (dk_at dksX1_init_0 20 rfl rfl)
theorem dX1_init_23 : decode cX1_init 23 = .ok (.putfield 18, 3) := dk_181 0 18 (dk_at dksX1_init_1 0 rfl rfl)
theorem dX1_init_26 : decode cX1_init 26 = .ok (.aload_n 0, 1) := dk_42 (dk_at dksX1_init_1 3 rfl rfl)
theorem dX1_init_27 : decode cX1_init 27 = .ok (.new 9, 3) := dk_187 0 9 (dk_at dksX1_init_1 4 rfl rfl)
theorem dX1_init_30 : decode cX1_init 30 = .ok (.dup, 1) := dk_89 (dk_at dksX1_init_1 7 rfl rfl)
theorem dX1_init_31 : decode cX1_init 31 = .ok (.invokespecial 11, 3) := dk_183 0 11 (dk_at dksX1_init_1 8 rfl rfl)
theorem dX1_init_34 : decode cX1_init 34 = .ok (.putfield 21, 3) := dk_181 0 21 (dk_at dksX1_init_1 11 rfl rfl)
theorem dX1_init_37 : decode cX1_init 37 = .ok (.aload_n 0, 1) := dk_42 (dk_at dksX1_init_1 14 rfl rfl)
theorem dX1_init_38 : decode cX1_init 38 = .ok (.bipush 7, 2) := dk_16 7 (dk_at dksX1_init_1 15 rfl rfl)
theorem dX1_init_40 : decode cX1_init 40 = .ok (.newarray .int, 2) := dk_188_10 (dk_at dksX1_init_1 17 rfl rfl)
theorem dX1_init_42 : decode cX1_init 42 = .ok (.dup, 1) := dk_89 (dk_at dksX1_init_1 19 rfl rfl)
theorem dX1_init_43 : decode cX1_init 43 = .ok (.iconst 0, 1) := dk_3 (dk_at dksX1_init_1 20 rfl rfl)
theorem dX1_init_44 : decode cX1_init 44 = .ok (.bipush 8, 2) := dk_16 8 (dk_at dksX1_init_1 21 rfl rfl)
theorem dX1_init_46 : decode cX1_init 46 = .ok (.iastore, 1) := dk_79 (dk_at dksX1_init_1 23 rfl rfl)
theorem dX1_init_47 : decode cX1_init 47 = .ok (.dup, 1) := dk_89 (dk_at dksX1_init_2 0 rfl rfl)
theorem dX1_init_48 : decode cX1_init 48 = .ok (.iconst 1, 1) := dk_4 (dk_at dksX1_init_2 1 rfl rfl)
theorem dX1_init_49 : decode cX1_init 49 = .ok (.iconst 3, 1) := dk_6 (dk_at dksX1_init_2 2 rfl rfl)
theorem dX1_init_50 : decode cX1_init 50 = .ok (.iastore, 1) := dk_79 (dk_at dksX1_init_2 3 rfl rfl)
theorem dX1_init_51 : decode cX1_init 51 = .ok (.dup, 1) := dk_89 (dk_at dksX1_init_2 4 rfl rfl)
theorem dX1_init_52 : decode cX1_init 52 = .ok (.iconst 2, 1) := dk_5 (dk_at dksX1_init_2 5 rfl rfl)
theorem dX1_init_53 : decode cX1_init 53 = .ok (.iconst 2, 1) := dk_5 (dk_at dksX1_init_2 6 rfl rfl)
theorem dX1_init_54 : decode cX1_init 54 = .ok (.iastore, 1) := dk_79 (dk_at dksX1_init_2 7 rfl rfl)
theorem dX1_init_55 : decode cX1_init 55 = .ok (.dup, 1) := dk_89 (dk_at dksX1_init_2 8 rfl rfl)
theorem dX1_init_56 : decode cX1_init 56 = .ok (.iconst 3, 1) := dk_6 (dk_at dksX1_init_2 9 rfl rfl)
theorem dX1_init_57 : decode cX1_init 57 = .ok (.iconst 0, 1) := dk_3 (dk_at dksX1_init_2 10 rfl rfl)
theorem dX1_init_58 : decode cX1_init 58 = .ok (.iastore, 1) := dk_79 (dk_at dksX1_init_2 11 rfl rfl)
theorem dX1_init_59 : decode cX1_init 59 = .ok (.dup, 1) := dk_89 (dk_at dksX1_init_2 12 rfl rfl)
theorem dX1_init_60 : decode cX1_init 60 = .ok (.iconst 4, 1) := dk_7 (dk_at dksX1_init_2 13 rfl rfl)
theorem dX1_init_61 : decode cX1_init 61 = .ok (.bipush 10, 2) := dk_16 10 (dk_at dksX1_init_2 14 rfl rfl)
theorem dX1_init_63 : decode cX1_init 63 = .ok (.iastore, 1) := dk_79 (dk_at dksX1_init_2 16 rfl rfl)
theorem dX1_init_64 : decode cX1_init 64 = .ok (.dup, 1) := dk_89 (dk_at dksX1_init_2 17 rfl rfl)
theorem dX1_init_65 : decode cX1_init 65 = .ok (.iconst 5, 1) := dk_8 (dk_at dksX1_init_2 18 rfl rfl)
theorem dX1_init_66 : decode cX1_init 66 = .ok (.bipush 19, 2) := dk_16 19 (dk_at dksX1_init_2 19 rfl rfl)
theorem dX1_init_68 : decode cX1_init 68 = .ok (.iastore, 1) := dk_79 (dk_at dksX1_init_2 21 rfl rfl)
theorem dX1_init_69 : decode cX1_init 69 = .ok (.dup, 1) := dk_89 (dk_at dksX1_init_2 22 rfl rfl)
theorem dX1_init_70 : decode cX1_init 70 = .ok (.bipush 6, 2) := dk_16 6 (dk_at dksX1_init_3 0 rfl rfl)
theorem dX1_init_72 : decode cX1_init 72 = .ok (.bipush 6, 2) := dk_16 6 (dk_at dksX1_init_3 2 rfl rfl)
theorem dX1_init_74 : decode cX1_init 74 = .ok (.iastore, 1) := dk_79 (dk_at dksX1_init_3 4 rfl rfl)
theorem dX1_init_75 : decode cX1_init 75 = .ok (.putfield 24, 3) := dk_181 0 24 (dk_at dksX1_init_3 5 rfl rfl)
theorem dX1_init_78 : decode cX1_init 78 = .ok (.aload_n 0, 1) := dk_42 (dk_at dksX1_init_3 8 rfl rfl)
theorem dX1_init_79 : decode cX1_init 79 = .ok (.iconst 3, 1) := dk_6 (dk_at dksX1_init_3 9 rfl rfl)
theorem dX1_init_80 : decode cX1_init 80 = .ok (.newarray .int, 2) := dk_188_10 (dk_at dksX1_init_3 10 rfl rfl)
theorem dX1_init_82 : decode cX1_init 82 = .ok (.putfield 28, 3) := dk_181 0 28 (dk_at dksX1_init_3 12 rfl rfl)
theorem dX1_init_85 : decode cX1_init 85 = .ok (.aload_n 0, 1) := dk_42 (dk_at dksX1_init_3 15 rfl rfl)
theorem dX1_init_86 : decode cX1_init 86 = .ok (.bipush 40, 2) := dk_16 40 (dk_at dksX1_init_3 16 rfl rfl)
theorem dX1_init_88 : decode cX1_init 88 = .ok (.newarray .int, 2) := dk_188_10 (dk_at dksX1_init_3 18 rfl rfl)
theorem dX1_init_90 : decode cX1_init 90 = .ok (.putfield 31, 3) := dk_181 0 31 (dk_at dksX1_init_3 20 rfl rfl)
theorem dX1_init_93 : decode cX1_init 93 = .ok (.aload_n 0, 1) := dk_42 (dk_at dksX1_init_3 23 rfl rfl)
theorem dX1_init_94 : decode cX1_init 94 = .ok (.iconst (-1), 1) := dk_2 (dk_at dksX1_init_4 0 rfl rfl)
theorem dX1_init_95 : decode cX1_init 95 = .ok (.putfield 34, 3) := dk_181 0 34 (dk_at dksX1_init_4 1 rfl rfl)
theorem dX1_init_98 : decode cX1_init 98 = .ok (.return_, 1) := dk_177 (dk_at dksX1_init_4 4 rfl rfl)
abbrev cX1_copy : ByteArray := prog_10_method_2_code
def yX1_copy : MethodName := ⟨RX1, "copy", "()LExamSlips$Exam;"⟩
def dkwX1_copy_7 : List UInt8 := [180, 0, 67, 184, 0, 61, 43, 42, 180, 0, 67, 181, 0, 67, 43, 42, 180, 0, 34, 181, 0, 34, 43, 176]
abbrev dktX1_copy_7 : List UInt8 := dkwX1_copy_7 ++ []
def dkwX1_copy_6 : List UInt8 := [180, 0, 28, 3, 43, 180, 0, 28, 3, 6, 184, 0, 61, 42, 180, 0, 31, 3, 43, 180, 0, 31, 3, 42]
abbrev dktX1_copy_6 : List UInt8 := dkwX1_copy_6 ++ dktX1_copy_7
def dkwX1_copy_5 : List UInt8 := [87, 132, 2, 1, 167, 255, 223, 42, 180, 0, 24, 3, 43, 180, 0, 24, 3, 16, 7, 184, 0, 61, 42]
abbrev dktX1_copy_5 : List UInt8 := dkwX1_copy_5 ++ dktX1_copy_6
def dkwX1_copy_4 : List UInt8 := [182, 0, 39, 162, 0, 28, 43, 180, 0, 21, 42, 180, 0, 21, 28, 182, 0, 43, 192, 0, 59, 182, 0, 53]
abbrev dktX1_copy_4 : List UInt8 := dkwX1_copy_4 ++ dktX1_copy_5
def dkwX1_copy_3 : List UInt8 := [28, 182, 0, 43, 192, 0, 57, 182, 0, 53, 87, 132, 2, 1, 167, 255, 223, 3, 61, 28, 42, 180, 0, 21]
abbrev dktX1_copy_3 : List UInt8 := dkwX1_copy_3 ++ dktX1_copy_4
def dkwX1_copy_2 : List UInt8 := [167, 255, 220, 3, 61, 28, 42, 180, 0, 18, 182, 0, 39, 162, 0, 28, 43, 180, 0, 18, 42, 180, 0, 18]
abbrev dktX1_copy_2 : List UInt8 := dkwX1_copy_2 ++ dktX1_copy_3
def dkwX1_copy_1 : List UInt8 := [180, 0, 12, 42, 180, 0, 12, 28, 182, 0, 43, 192, 0, 47, 182, 0, 49, 182, 0, 53, 87, 132, 2, 1]
abbrev dktX1_copy_1 : List UInt8 := dkwX1_copy_1 ++ dktX1_copy_2
def dkwX1_copy_0 : List UInt8 := [187, 0, 13, 89, 183, 0, 38, 76, 3, 61, 28, 42, 180, 0, 12, 182, 0, 39, 162, 0, 31, 43]
abbrev dktX1_copy_0 : List UInt8 := dkwX1_copy_0 ++ dktX1_copy_1
theorem dksX1_copy_0 : cX1_copy.data.toList.drop 0 = dktX1_copy_0 := by decide +kernel
theorem dksX1_copy_1 : cX1_copy.data.toList.drop 22 = dktX1_copy_1 := dk_seg dksX1_copy_0 22 rfl rfl
theorem dksX1_copy_2 : cX1_copy.data.toList.drop 46 = dktX1_copy_2 := dk_seg dksX1_copy_1 24 rfl rfl
theorem dksX1_copy_3 : cX1_copy.data.toList.drop 70 = dktX1_copy_3 := dk_seg dksX1_copy_2 24 rfl rfl
theorem dksX1_copy_4 : cX1_copy.data.toList.drop 94 = dktX1_copy_4 := dk_seg dksX1_copy_3 24 rfl rfl
theorem dksX1_copy_5 : cX1_copy.data.toList.drop 118 = dktX1_copy_5 := dk_seg dksX1_copy_4 24 rfl rfl
theorem dksX1_copy_6 : cX1_copy.data.toList.drop 141 = dktX1_copy_6 := dk_seg dksX1_copy_5 23 rfl rfl
theorem dksX1_copy_7 : cX1_copy.data.toList.drop 165 = dktX1_copy_7 := dk_seg dksX1_copy_6 24 rfl rfl
theorem dX1_copy_0 : decode cX1_copy 0 = .ok (.new 13, 3) := dk_187 0 13 (dk_at dksX1_copy_0 0 rfl rfl)
theorem dX1_copy_3 : decode cX1_copy 3 = .ok (.dup, 1) := dk_89 (dk_at dksX1_copy_0 3 rfl rfl)
theorem dX1_copy_4 : decode cX1_copy 4 = .ok (.invokespecial 38, 3) := dk_183 0 38 (dk_at dksX1_copy_0 4 rfl rfl)
theorem dX1_copy_7 : decode cX1_copy 7 = .ok (.astore_n 1, 1) := dk_76 (dk_at dksX1_copy_0 7 rfl rfl)
theorem dX1_copy_8 : decode cX1_copy 8 = .ok (.iconst 0, 1) := dk_3 (dk_at dksX1_copy_0 8 rfl rfl)
theorem dX1_copy_9 : decode cX1_copy 9 = .ok (.istore_n 2, 1) := dk_61 (dk_at dksX1_copy_0 9 rfl rfl)
theorem dX1_copy_10 : decode cX1_copy 10 = .ok (.iload_n 2, 1) := dk_28 (dk_at dksX1_copy_0 10 rfl rfl)
theorem dX1_copy_11 : decode cX1_copy 11 = .ok (.aload_n 0, 1) := dk_42 (dk_at dksX1_copy_0 11 rfl rfl)
theorem dX1_copy_12 : decode cX1_copy 12 = .ok (.getfield 12, 3) := dk_180 0 12 (dk_at dksX1_copy_0 12 rfl rfl)
theorem dX1_copy_15 : decode cX1_copy 15 = .ok (.invokevirtual 39, 3) := dk_182 0 39 (dk_at dksX1_copy_0 15 rfl rfl)
theorem dX1_copy_18 : decode cX1_copy 18 = .ok (.if_icmp .ge 31, 3) := dk_162 0 31 (dk_at dksX1_copy_0 18 rfl rfl)
theorem dX1_copy_21 : decode cX1_copy 21 = .ok (.aload_n 1, 1) := dk_43 (dk_at dksX1_copy_0 21 rfl rfl)
theorem dX1_copy_22 : decode cX1_copy 22 = .ok (.getfield 12, 3) := dk_180 0 12 (dk_at dksX1_copy_1 0 rfl rfl)
theorem dX1_copy_25 : decode cX1_copy 25 = .ok (.aload_n 0, 1) := dk_42 (dk_at dksX1_copy_1 3 rfl rfl)
theorem dX1_copy_26 : decode cX1_copy 26 = .ok (.getfield 12, 3) := dk_180 0 12 (dk_at dksX1_copy_1 4 rfl rfl)
theorem dX1_copy_29 : decode cX1_copy 29 = .ok (.iload_n 2, 1) := dk_28 (dk_at dksX1_copy_1 7 rfl rfl)
theorem dX1_copy_30 : decode cX1_copy 30 = .ok (.invokevirtual 43, 3) := dk_182 0 43 (dk_at dksX1_copy_1 8 rfl rfl)
theorem dX1_copy_33 : decode cX1_copy 33 = .ok (.checkcast 47, 3) := dk_192 0 47 (dk_at dksX1_copy_1 11 rfl rfl)
theorem dX1_copy_36 : decode cX1_copy 36 = .ok (.invokevirtual 49, 3) := dk_182 0 49 (dk_at dksX1_copy_1 14 rfl rfl)
theorem dX1_copy_39 : decode cX1_copy 39 = .ok (.invokevirtual 53, 3) := dk_182 0 53 (dk_at dksX1_copy_1 17 rfl rfl)
theorem dX1_copy_42 : decode cX1_copy 42 = .ok (.pop, 1) := dk_87 (dk_at dksX1_copy_1 20 rfl rfl)
theorem dX1_copy_43 : decode cX1_copy 43 = .ok (.iinc 2 1, 3) := dk_132 2 1 (dk_at dksX1_copy_1 21 rfl rfl)
theorem dX1_copy_46 : decode cX1_copy 46 = .ok (.goto (-36), 3) := dk_167 255 220 (dk_at dksX1_copy_2 0 rfl rfl)
theorem dX1_copy_49 : decode cX1_copy 49 = .ok (.iconst 0, 1) := dk_3 (dk_at dksX1_copy_2 3 rfl rfl)
theorem dX1_copy_50 : decode cX1_copy 50 = .ok (.istore_n 2, 1) := dk_61 (dk_at dksX1_copy_2 4 rfl rfl)
theorem dX1_copy_51 : decode cX1_copy 51 = .ok (.iload_n 2, 1) := dk_28 (dk_at dksX1_copy_2 5 rfl rfl)
theorem dX1_copy_52 : decode cX1_copy 52 = .ok (.aload_n 0, 1) := dk_42 (dk_at dksX1_copy_2 6 rfl rfl)
theorem dX1_copy_53 : decode cX1_copy 53 = .ok (.getfield 18, 3) := dk_180 0 18 (dk_at dksX1_copy_2 7 rfl rfl)
theorem dX1_copy_56 : decode cX1_copy 56 = .ok (.invokevirtual 39, 3) := dk_182 0 39 (dk_at dksX1_copy_2 10 rfl rfl)
theorem dX1_copy_59 : decode cX1_copy 59 = .ok (.if_icmp .ge 28, 3) := dk_162 0 28 (dk_at dksX1_copy_2 13 rfl rfl)
theorem dX1_copy_62 : decode cX1_copy 62 = .ok (.aload_n 1, 1) := dk_43 (dk_at dksX1_copy_2 16 rfl rfl)
theorem dX1_copy_63 : decode cX1_copy 63 = .ok (.getfield 18, 3) := dk_180 0 18 (dk_at dksX1_copy_2 17 rfl rfl)
theorem dX1_copy_66 : decode cX1_copy 66 = .ok (.aload_n 0, 1) := dk_42 (dk_at dksX1_copy_2 20 rfl rfl)
theorem dX1_copy_67 : decode cX1_copy 67 = .ok (.getfield 18, 3) := dk_180 0 18 (dk_at dksX1_copy_2 21 rfl rfl)
theorem dX1_copy_70 : decode cX1_copy 70 = .ok (.iload_n 2, 1) := dk_28 (dk_at dksX1_copy_3 0 rfl rfl)
theorem dX1_copy_71 : decode cX1_copy 71 = .ok (.invokevirtual 43, 3) := dk_182 0 43 (dk_at dksX1_copy_3 1 rfl rfl)
theorem dX1_copy_74 : decode cX1_copy 74 = .ok (.checkcast 57, 3) := dk_192 0 57 (dk_at dksX1_copy_3 4 rfl rfl)
theorem dX1_copy_77 : decode cX1_copy 77 = .ok (.invokevirtual 53, 3) := dk_182 0 53 (dk_at dksX1_copy_3 7 rfl rfl)
theorem dX1_copy_80 : decode cX1_copy 80 = .ok (.pop, 1) := dk_87 (dk_at dksX1_copy_3 10 rfl rfl)
theorem dX1_copy_81 : decode cX1_copy 81 = .ok (.iinc 2 1, 3) := dk_132 2 1 (dk_at dksX1_copy_3 11 rfl rfl)
theorem dX1_copy_84 : decode cX1_copy 84 = .ok (.goto (-33), 3) := dk_167 255 223 (dk_at dksX1_copy_3 14 rfl rfl)
theorem dX1_copy_87 : decode cX1_copy 87 = .ok (.iconst 0, 1) := dk_3 (dk_at dksX1_copy_3 17 rfl rfl)
theorem dX1_copy_88 : decode cX1_copy 88 = .ok (.istore_n 2, 1) := dk_61 (dk_at dksX1_copy_3 18 rfl rfl)
theorem dX1_copy_89 : decode cX1_copy 89 = .ok (.iload_n 2, 1) := dk_28 (dk_at dksX1_copy_3 19 rfl rfl)
theorem dX1_copy_90 : decode cX1_copy 90 = .ok (.aload_n 0, 1) := dk_42 (dk_at dksX1_copy_3 20 rfl rfl)
theorem dX1_copy_91 : decode cX1_copy 91 = .ok (.getfield 21, 3) := dk_180 0 21 (dk_at dksX1_copy_3 21 rfl rfl)
theorem dX1_copy_94 : decode cX1_copy 94 = .ok (.invokevirtual 39, 3) := dk_182 0 39 (dk_at dksX1_copy_4 0 rfl rfl)
theorem dX1_copy_97 : decode cX1_copy 97 = .ok (.if_icmp .ge 28, 3) := dk_162 0 28 (dk_at dksX1_copy_4 3 rfl rfl)
theorem dX1_copy_100 : decode cX1_copy 100 = .ok (.aload_n 1, 1) := dk_43 (dk_at dksX1_copy_4 6 rfl rfl)
theorem dX1_copy_101 : decode cX1_copy 101 = .ok (.getfield 21, 3) := dk_180 0 21 (dk_at dksX1_copy_4 7 rfl rfl)
theorem dX1_copy_104 : decode cX1_copy 104 = .ok (.aload_n 0, 1) := dk_42 (dk_at dksX1_copy_4 10 rfl rfl)
theorem dX1_copy_105 : decode cX1_copy 105 = .ok (.getfield 21, 3) := dk_180 0 21 (dk_at dksX1_copy_4 11 rfl rfl)
theorem dX1_copy_108 : decode cX1_copy 108 = .ok (.iload_n 2, 1) := dk_28 (dk_at dksX1_copy_4 14 rfl rfl)
theorem dX1_copy_109 : decode cX1_copy 109 = .ok (.invokevirtual 43, 3) := dk_182 0 43 (dk_at dksX1_copy_4 15 rfl rfl)
theorem dX1_copy_112 : decode cX1_copy 112 = .ok (.checkcast 59, 3) := dk_192 0 59 (dk_at dksX1_copy_4 18 rfl rfl)
theorem dX1_copy_115 : decode cX1_copy 115 = .ok (.invokevirtual 53, 3) := dk_182 0 53 (dk_at dksX1_copy_4 21 rfl rfl)
theorem dX1_copy_118 : decode cX1_copy 118 = .ok (.pop, 1) := dk_87 (dk_at dksX1_copy_5 0 rfl rfl)
theorem dX1_copy_119 : decode cX1_copy 119 = .ok (.iinc 2 1, 3) := dk_132 2 1 (dk_at dksX1_copy_5 1 rfl rfl)
theorem dX1_copy_122 : decode cX1_copy 122 = .ok (.goto (-33), 3) := dk_167 255 223 (dk_at dksX1_copy_5 4 rfl rfl)
theorem dX1_copy_125 : decode cX1_copy 125 = .ok (.aload_n 0, 1) := dk_42 (dk_at dksX1_copy_5 7 rfl rfl)
theorem dX1_copy_126 : decode cX1_copy 126 = .ok (.getfield 24, 3) := dk_180 0 24 (dk_at dksX1_copy_5 8 rfl rfl)
theorem dX1_copy_129 : decode cX1_copy 129 = .ok (.iconst 0, 1) := dk_3 (dk_at dksX1_copy_5 11 rfl rfl)
theorem dX1_copy_130 : decode cX1_copy 130 = .ok (.aload_n 1, 1) := dk_43 (dk_at dksX1_copy_5 12 rfl rfl)
theorem dX1_copy_131 : decode cX1_copy 131 = .ok (.getfield 24, 3) := dk_180 0 24 (dk_at dksX1_copy_5 13 rfl rfl)
theorem dX1_copy_134 : decode cX1_copy 134 = .ok (.iconst 0, 1) := dk_3 (dk_at dksX1_copy_5 16 rfl rfl)
theorem dX1_copy_135 : decode cX1_copy 135 = .ok (.bipush 7, 2) := dk_16 7 (dk_at dksX1_copy_5 17 rfl rfl)
theorem dX1_copy_137 : decode cX1_copy 137 = .ok (.invokestatic 61, 3) := dk_184 0 61 (dk_at dksX1_copy_5 19 rfl rfl)
theorem dX1_copy_140 : decode cX1_copy 140 = .ok (.aload_n 0, 1) := dk_42 (dk_at dksX1_copy_5 22 rfl rfl)
theorem dX1_copy_141 : decode cX1_copy 141 = .ok (.getfield 28, 3) := dk_180 0 28 (dk_at dksX1_copy_6 0 rfl rfl)
theorem dX1_copy_144 : decode cX1_copy 144 = .ok (.iconst 0, 1) := dk_3 (dk_at dksX1_copy_6 3 rfl rfl)
theorem dX1_copy_145 : decode cX1_copy 145 = .ok (.aload_n 1, 1) := dk_43 (dk_at dksX1_copy_6 4 rfl rfl)
theorem dX1_copy_146 : decode cX1_copy 146 = .ok (.getfield 28, 3) := dk_180 0 28 (dk_at dksX1_copy_6 5 rfl rfl)
theorem dX1_copy_149 : decode cX1_copy 149 = .ok (.iconst 0, 1) := dk_3 (dk_at dksX1_copy_6 8 rfl rfl)
theorem dX1_copy_150 : decode cX1_copy 150 = .ok (.iconst 3, 1) := dk_6 (dk_at dksX1_copy_6 9 rfl rfl)
theorem dX1_copy_151 : decode cX1_copy 151 = .ok (.invokestatic 61, 3) := dk_184 0 61 (dk_at dksX1_copy_6 10 rfl rfl)
theorem dX1_copy_154 : decode cX1_copy 154 = .ok (.aload_n 0, 1) := dk_42 (dk_at dksX1_copy_6 13 rfl rfl)
theorem dX1_copy_155 : decode cX1_copy 155 = .ok (.getfield 31, 3) := dk_180 0 31 (dk_at dksX1_copy_6 14 rfl rfl)
theorem dX1_copy_158 : decode cX1_copy 158 = .ok (.iconst 0, 1) := dk_3 (dk_at dksX1_copy_6 17 rfl rfl)
theorem dX1_copy_159 : decode cX1_copy 159 = .ok (.aload_n 1, 1) := dk_43 (dk_at dksX1_copy_6 18 rfl rfl)
theorem dX1_copy_160 : decode cX1_copy 160 = .ok (.getfield 31, 3) := dk_180 0 31 (dk_at dksX1_copy_6 19 rfl rfl)
theorem dX1_copy_163 : decode cX1_copy 163 = .ok (.iconst 0, 1) := dk_3 (dk_at dksX1_copy_6 22 rfl rfl)
theorem dX1_copy_164 : decode cX1_copy 164 = .ok (.aload_n 0, 1) := dk_42 (dk_at dksX1_copy_6 23 rfl rfl)
theorem dX1_copy_165 : decode cX1_copy 165 = .ok (.getfield 67, 3) := dk_180 0 67 (dk_at dksX1_copy_7 0 rfl rfl)
theorem dX1_copy_168 : decode cX1_copy 168 = .ok (.invokestatic 61, 3) := dk_184 0 61 (dk_at dksX1_copy_7 3 rfl rfl)
theorem dX1_copy_171 : decode cX1_copy 171 = .ok (.aload_n 1, 1) := dk_43 (dk_at dksX1_copy_7 6 rfl rfl)
theorem dX1_copy_172 : decode cX1_copy 172 = .ok (.aload_n 0, 1) := dk_42 (dk_at dksX1_copy_7 7 rfl rfl)
theorem dX1_copy_173 : decode cX1_copy 173 = .ok (.getfield 67, 3) := dk_180 0 67 (dk_at dksX1_copy_7 8 rfl rfl)
theorem dX1_copy_176 : decode cX1_copy 176 = .ok (.putfield 67, 3) := dk_181 0 67 (dk_at dksX1_copy_7 11 rfl rfl)
theorem dX1_copy_179 : decode cX1_copy 179 = .ok (.aload_n 1, 1) := dk_43 (dk_at dksX1_copy_7 14 rfl rfl)
theorem dX1_copy_180 : decode cX1_copy 180 = .ok (.aload_n 0, 1) := dk_42 (dk_at dksX1_copy_7 15 rfl rfl)
theorem dX1_copy_181 : decode cX1_copy 181 = .ok (.getfield 34, 3) := dk_180 0 34 (dk_at dksX1_copy_7 16 rfl rfl)
theorem dX1_copy_184 : decode cX1_copy 184 = .ok (.putfield 34, 3) := dk_181 0 34 (dk_at dksX1_copy_7 19 rfl rfl)
theorem dX1_copy_187 : decode cX1_copy 187 = .ok (.aload_n 1, 1) := dk_43 (dk_at dksX1_copy_7 22 rfl rfl)
theorem dX1_copy_188 : decode cX1_copy 188 = .ok (.areturn, 1) := dk_176 (dk_at dksX1_copy_7 23 rfl rfl)
theorem q125 : (Jvm.Cond.initialized "ExamSlips$Exam") ∈ lw_all := lw_g (lw_at lw_m1 2 rfl) rfl
theorem q179 : (Jvm.Cond.instantiable "ExamSlips$Exam" (8 : Nat)) ∈ lw_all := lw_g (lw_at lw_m1 56 rfl) rfl
theorem q181 : (Jvm.Cond.instanceMethod ({ cls := "ExamSlips$Exam", name := "<init>", desc := "()V" } : Jvm.MethodName)) ∈ lw_all := lw_g (lw_at lw_m1 58 rfl) rfl
theorem q182 : (Jvm.Cond.code ({ cls := "ExamSlips$Exam", name := "<init>", desc := "()V" } : Jvm.MethodName) prog_10_method_1_code (1 : Nat) (Option.none : Option Jvm.ClassFile.FieldType)) ∈ lw_all := lw_g (lw_at lw_m1 59 rfl) rfl
theorem q183 : (Jvm.Cond.methodLink "ExamSlips$Exam" (3 : Nat) ({ cls := "java/lang/Object", name := "<init>", desc := "()V" } : Jvm.MethodName)) ∈ lw_all := lw_g (lw_at lw_m1 60 rfl) rfl
theorem q184 : (Jvm.Cond.classLink "ExamSlips$Exam" (9 : Nat) "java/util/ArrayList") ∈ lw_all := lw_g (lw_at lw_m1 61 rfl) rfl
theorem q186 : (Jvm.Cond.methodLink "ExamSlips$Exam" (11 : Nat) ({ cls := "java/util/ArrayList", name := "<init>", desc := "()V" } : Jvm.MethodName)) ∈ lw_all := lw_g (lw_at lw_m1 63 rfl) rfl
theorem q210 : (Jvm.Cond.fieldLink "ExamSlips$Exam" (12 : Nat) "ExamSlips$Exam" "questions" "Ljava/util/ArrayList;") ∈ lw_all := lw_g (lw_at lw_m1 87 rfl) rfl
theorem q215 : (Jvm.Cond.fieldLink "ExamSlips$Exam" (18 : Nat) "ExamSlips$Exam" "papers" "Ljava/util/ArrayList;") ∈ lw_all := lw_g (lw_at lw_m1 92 rfl) rfl
theorem q217 : (Jvm.Cond.fieldLink "ExamSlips$Exam" (21 : Nat) "ExamSlips$Exam" "diary" "Ljava/util/ArrayList;") ∈ lw_all := lw_g (lw_at lw_m1 94 rfl) rfl
theorem q221 : (Jvm.Cond.fieldLink "ExamSlips$Exam" (24 : Nat) "ExamSlips$Exam" "terms" "[I") ∈ lw_all := lw_g (lw_at lw_m1 98 rfl) rfl
theorem q226 : (Jvm.Cond.fieldLink "ExamSlips$Exam" (28 : Nat) "ExamSlips$Exam" "friends" "[I") ∈ lw_all := lw_g (lw_at lw_m1 103 rfl) rfl
theorem q229 : (Jvm.Cond.fieldLink "ExamSlips$Exam" (31 : Nat) "ExamSlips$Exam" "years" "[I") ∈ lw_all := lw_g (lw_at lw_m1 106 rfl) rfl
theorem q231 : (Jvm.Cond.fieldLink "ExamSlips$Exam" (67 : Nat) "ExamSlips$Exam" "yeared" "I") ∈ lw_all := lw_g (lw_at lw_m1 108 rfl) rfl
theorem q233 : (Jvm.Cond.fieldLink "ExamSlips$Exam" (34 : Nat) "ExamSlips$Exam" "used" "I") ∈ lw_all := lw_g (lw_at lw_m1 110 rfl) rfl
theorem q235 : (Jvm.Cond.laysFinal "ExamSlips$Exam" "ExamSlips$Exam" "questions" "Ljava/util/ArrayList;") ∈ lw_all := lw_g (lw_at lw_m1 112 rfl) rfl
theorem q236 : (Jvm.Cond.soleField "ExamSlips$Exam" "questions") ∈ lw_all := lw_g (lw_at lw_m1 113 rfl) rfl
theorem q237 : (Jvm.Cond.laysFinal "ExamSlips$Exam" "ExamSlips$Exam" "papers" "Ljava/util/ArrayList;") ∈ lw_all := lw_g (lw_at lw_m1 114 rfl) rfl
theorem q238 : (Jvm.Cond.soleField "ExamSlips$Exam" "papers") ∈ lw_all := lw_g (lw_at lw_m1 115 rfl) rfl
theorem q239 : (Jvm.Cond.laysFinal "ExamSlips$Exam" "ExamSlips$Exam" "diary" "Ljava/util/ArrayList;") ∈ lw_all := lw_g (lw_at lw_m1 116 rfl) rfl
theorem q240 : (Jvm.Cond.soleField "ExamSlips$Exam" "diary") ∈ lw_all := lw_g (lw_at lw_m1 117 rfl) rfl
theorem q241 : (Jvm.Cond.laysFinal "ExamSlips$Exam" "ExamSlips$Exam" "terms" "[I") ∈ lw_all := lw_g (lw_at lw_m1 118 rfl) rfl
theorem q242 : (Jvm.Cond.soleField "ExamSlips$Exam" "terms") ∈ lw_all := lw_g (lw_at lw_m1 119 rfl) rfl
theorem q243 : (Jvm.Cond.laysFinal "ExamSlips$Exam" "ExamSlips$Exam" "friends" "[I") ∈ lw_all := lw_g (lw_at lw_m1 120 rfl) rfl
theorem q244 : (Jvm.Cond.soleField "ExamSlips$Exam" "friends") ∈ lw_all := lw_g (lw_at lw_m1 121 rfl) rfl
theorem q245 : (Jvm.Cond.laysFinal "ExamSlips$Exam" "ExamSlips$Exam" "years" "[I") ∈ lw_all := lw_g (lw_at lw_m1 122 rfl) rfl
theorem q246 : (Jvm.Cond.soleField "ExamSlips$Exam" "years") ∈ lw_all := lw_g (lw_at lw_m1 123 rfl) rfl
theorem q247 : (Jvm.Cond.lays "ExamSlips$Exam" "ExamSlips$Exam" "yeared" "I") ∈ lw_all := lw_g (lw_at lw_m1 124 rfl) rfl
theorem q248 : (Jvm.Cond.soleField "ExamSlips$Exam" "yeared") ∈ lw_all := lw_g (lw_at lw_m1 125 rfl) rfl
theorem q249 : (Jvm.Cond.lays "ExamSlips$Exam" "ExamSlips$Exam" "used" "I") ∈ lw_all := lw_g (lw_at lw_m1 126 rfl) rfl
theorem q250 : (Jvm.Cond.soleField "ExamSlips$Exam" "used") ∈ lw_all := lw_g (lw_at lw_m1 127 rfl) rfl
theorem q251 : (Jvm.Cond.superclass "ExamSlips$Exam" "java/lang/Object") ∈ lw_all := lw_g (lw_at lw_m1 128 rfl) rfl
theorem q451 : (Jvm.Cond.selects "ExamSlips$Exam" ({ cls := "java/lang/Object", name := "getClass", desc := "()Ljava/lang/Class;" } : Jvm.MethodName) ({ cls := "java/lang/Object", name := "getClass", desc := "()Ljava/lang/Class;" } : Jvm.MethodName)) ∈ lw_all := lw_g (lw_at lw_m2 88 rfl) rfl
theorem q1628 : (Jvm.Cond.instanceMethod ({ cls := "ExamSlips$Exam", name := "copy", desc := "()LExamSlips$Exam;" } : Jvm.MethodName)) ∈ lw_all := lw_g (lw_at lw_m7 65 rfl) rfl
theorem q1629 : (Jvm.Cond.selects "ExamSlips$Exam" ({ cls := "ExamSlips$Exam", name := "copy", desc := "()LExamSlips$Exam;" } : Jvm.MethodName) ({ cls := "ExamSlips$Exam", name := "copy", desc := "()LExamSlips$Exam;" } : Jvm.MethodName)) ∈ lw_all := lw_g (lw_at lw_m7 66 rfl) rfl
theorem q1630 : (Jvm.Cond.code ({ cls := "ExamSlips$Exam", name := "copy", desc := "()LExamSlips$Exam;" } : Jvm.MethodName) prog_10_method_2_code (3 : Nat) (Option.some (Jvm.ClassFile.FieldType.object "ExamSlips$Exam"))) ∈ lw_all := lw_g (lw_at lw_m7 67 rfl) rfl
theorem q1631 : (Jvm.Cond.classLink "ExamSlips$Exam" (13 : Nat) "ExamSlips$Exam") ∈ lw_all := lw_g (lw_at lw_m7 68 rfl) rfl
theorem q1632 : (Jvm.Cond.methodLink "ExamSlips$Exam" (38 : Nat) ({ cls := "ExamSlips$Exam", name := "<init>", desc := "()V" } : Jvm.MethodName)) ∈ lw_all := lw_g (lw_at lw_m7 69 rfl) rfl
theorem q1633 : (Jvm.Cond.methodLink "ExamSlips$Exam" (39 : Nat) ({ cls := "java/util/ArrayList", name := "size", desc := "()I" } : Jvm.MethodName)) ∈ lw_all := lw_g (lw_at lw_m7 70 rfl) rfl
theorem q1634 : (Jvm.Cond.methodLink "ExamSlips$Exam" (43 : Nat) ({ cls := "java/util/ArrayList", name := "get", desc := "(I)Ljava/lang/Object;" } : Jvm.MethodName)) ∈ lw_all := lw_g (lw_at lw_m7 71 rfl) rfl
theorem q1635 : (Jvm.Cond.classLink "ExamSlips$Exam" (47 : Nat) "ExamSlips$Question") ∈ lw_all := lw_g (lw_at lw_m7 72 rfl) rfl
theorem q1636 : (Jvm.Cond.methodLink "ExamSlips$Exam" (49 : Nat) ({ cls := "ExamSlips$Question", name := "copy", desc := "()LExamSlips$Question;" } : Jvm.MethodName)) ∈ lw_all := lw_g (lw_at lw_m7 73 rfl) rfl
theorem q1642 : (Jvm.Cond.methodLink "ExamSlips$Exam" (53 : Nat) ({ cls := "java/util/ArrayList", name := "add", desc := "(Ljava/lang/Object;)Z" } : Jvm.MethodName)) ∈ lw_all := lw_g (lw_at lw_m7 79 rfl) rfl
theorem q1643 : (Jvm.Cond.classLink "ExamSlips$Exam" (57 : Nat) "ExamSlips$Text") ∈ lw_all := lw_g (lw_at lw_m7 80 rfl) rfl
theorem q1644 : (Jvm.Cond.classLink "ExamSlips$Exam" (59 : Nat) "ExamSlips$Lesson") ∈ lw_all := lw_g (lw_at lw_m7 81 rfl) rfl
theorem q1645 : (Jvm.Cond.methodLink "ExamSlips$Exam" (61 : Nat) ({ cls := "java/lang/System", name := "arraycopy", desc := "(Ljava/lang/Object;ILjava/lang/Object;II)V" } : Jvm.MethodName)) ∈ lw_all := lw_g (lw_at lw_m7 82 rfl) rfl
theorem q2372 : (Jvm.Cond.castable "ExamSlips$Exam" "java/lang/Object") ∈ lw_tbl := lw_at lw_m10 89 rfl
theorem in_X1 : ∀ w ∈ wsX10, w ∈ lw_all := lw_in wsX10 [235, 237, 239, 241, 243, 245, 247, 249] (by decide +kernel) (by decide +kernel)

/-! ExamSlips$Asked -/
set_option maxRecDepth 100000
def RX2 : String := "ExamSlips$Asked"
def TX2 : u_T := fun k => match k with
  | 0 => ("ExamSlips$Asked", "numbers", "[J", true)
  | _ => ("ExamSlips$Asked", "isBroken", "Z", false)
def tyX2 : Nat → FieldType := fun k => match k with
  | 0 => .array .long
  | _ => .boolean
abbrev wsX20 : List Cond := u_ws RX2 TX2 2
theorem nmX2 : ∀ a, a < 2 → ∀ b, b < 2 → a ≠ b → (TX2 a).2.1 ≠ (TX2 b).2.1 := by decide +kernel
theorem tyX2_ok : ∀ k, k < 2 → parseFieldDescriptor (TX2 k).2.2.1 = some (tyX2 k) := by decide +kernel
abbrev cX2_init : ByteArray := prog_4_method_1_code
def yX2_init : MethodName := ⟨RX2, "<init>", "()V"⟩
def dkwX2_init_0 : List UInt8 := [42, 183, 0, 1, 42, 16, 7, 188, 11, 181, 0, 7, 177]
abbrev dktX2_init_0 : List UInt8 := dkwX2_init_0 ++ []
theorem dksX2_init_0 : cX2_init.data.toList.drop 0 = dktX2_init_0 := by decide +kernel
theorem dX2_init_0 : decode cX2_init 0 = .ok (.aload_n 0, 1) := dk_42 (dk_at dksX2_init_0 0 rfl rfl)
theorem dX2_init_1 : decode cX2_init 1 = .ok (.invokespecial 1, 3) := dk_183 0 1 (dk_at dksX2_init_0 1 rfl rfl)
theorem dX2_init_4 : decode cX2_init 4 = .ok (.aload_n 0, 1) := dk_42 (dk_at dksX2_init_0 4 rfl rfl)
theorem dX2_init_5 : decode cX2_init 5 = .ok (.bipush 7, 2) := dk_16 7 (dk_at dksX2_init_0 5 rfl rfl)
theorem dX2_init_7 : decode cX2_init 7 = .ok (.newarray .long, 2) := dk_188_11 (dk_at dksX2_init_0 7 rfl rfl)
theorem dX2_init_9 : decode cX2_init 9 = .ok (.putfield 7, 3) := dk_181 0 7 (dk_at dksX2_init_0 9 rfl rfl)
theorem dX2_init_12 : decode cX2_init 12 = .ok (.return_, 1) := dk_177 (dk_at dksX2_init_0 12 rfl rfl)
abbrev cX2_clear : ByteArray := prog_4_method_2_code
def yX2_clear : MethodName := ⟨RX2, "clear", "()LExamSlips$Asked;"⟩
def dkwX2_clear_0 : List UInt8 := [3, 60, 27, 16, 7, 162, 0, 16, 42, 180, 0, 7, 27, 9, 80, 132, 1, 1, 167, 255, 240, 42, 176]
abbrev dktX2_clear_0 : List UInt8 := dkwX2_clear_0 ++ []
theorem dksX2_clear_0 : cX2_clear.data.toList.drop 0 = dktX2_clear_0 := by decide +kernel
theorem dX2_clear_0 : decode cX2_clear 0 = .ok (.iconst 0, 1) := dk_3 (dk_at dksX2_clear_0 0 rfl rfl)
theorem dX2_clear_1 : decode cX2_clear 1 = .ok (.istore_n 1, 1) := dk_60 (dk_at dksX2_clear_0 1 rfl rfl)
theorem dX2_clear_2 : decode cX2_clear 2 = .ok (.iload_n 1, 1) := dk_27 (dk_at dksX2_clear_0 2 rfl rfl)
theorem dX2_clear_3 : decode cX2_clear 3 = .ok (.bipush 7, 2) := dk_16 7 (dk_at dksX2_clear_0 3 rfl rfl)
theorem dX2_clear_5 : decode cX2_clear 5 = .ok (.if_icmp .ge 16, 3) := dk_162 0 16 (dk_at dksX2_clear_0 5 rfl rfl)
theorem dX2_clear_8 : decode cX2_clear 8 = .ok (.aload_n 0, 1) := dk_42 (dk_at dksX2_clear_0 8 rfl rfl)
theorem dX2_clear_9 : decode cX2_clear 9 = .ok (.getfield 7, 3) := dk_180 0 7 (dk_at dksX2_clear_0 9 rfl rfl)
theorem dX2_clear_12 : decode cX2_clear 12 = .ok (.iload_n 1, 1) := dk_27 (dk_at dksX2_clear_0 12 rfl rfl)
theorem dX2_clear_13 : decode cX2_clear 13 = .ok (.lconst 0, 1) := dk_9 (dk_at dksX2_clear_0 13 rfl rfl)
theorem dX2_clear_14 : decode cX2_clear 14 = .ok (.lastore, 1) := dk_80 (dk_at dksX2_clear_0 14 rfl rfl)
theorem dX2_clear_15 : decode cX2_clear 15 = .ok (.iinc 1 1, 3) := dk_132 1 1 (dk_at dksX2_clear_0 15 rfl rfl)
theorem dX2_clear_18 : decode cX2_clear 18 = .ok (.goto (-16), 3) := dk_167 255 240 (dk_at dksX2_clear_0 18 rfl rfl)
theorem dX2_clear_21 : decode cX2_clear 21 = .ok (.aload_n 0, 1) := dk_42 (dk_at dksX2_clear_0 21 rfl rfl)
theorem dX2_clear_22 : decode cX2_clear 22 = .ok (.areturn, 1) := dk_176 (dk_at dksX2_clear_0 22 rfl rfl)
abbrev cX2_within : ByteArray := prog_4_method_3_code
def yX2_within : MethodName := ⟨RX2, "within", "(J)J"⟩
def dkwX2_within_1 : List UInt8 := [4, 167, 0, 4, 3, 181, 0, 13, 42, 180, 0, 13, 153, 0, 7, 9, 167, 0, 4, 31, 173]
abbrev dktX2_within_1 : List UInt8 := dkwX2_within_1 ++ []
def dkwX2_within_0 : List UInt8 := [42, 42, 180, 0, 13, 154, 0, 19, 31, 20, 0, 17, 148, 157, 0, 11, 31, 20, 0, 19, 148, 156, 0, 7]
abbrev dktX2_within_0 : List UInt8 := dkwX2_within_0 ++ dktX2_within_1
theorem dksX2_within_0 : cX2_within.data.toList.drop 0 = dktX2_within_0 := by decide +kernel
theorem dksX2_within_1 : cX2_within.data.toList.drop 24 = dktX2_within_1 := dk_seg dksX2_within_0 24 rfl rfl
theorem dX2_within_0 : decode cX2_within 0 = .ok (.aload_n 0, 1) := dk_42 (dk_at dksX2_within_0 0 rfl rfl)
theorem dX2_within_1 : decode cX2_within 1 = .ok (.aload_n 0, 1) := dk_42 (dk_at dksX2_within_0 1 rfl rfl)
theorem dX2_within_2 : decode cX2_within 2 = .ok (.getfield 13, 3) := dk_180 0 13 (dk_at dksX2_within_0 2 rfl rfl)
theorem dX2_within_5 : decode cX2_within 5 = .ok (.ifCond .ne 19, 3) := dk_154 0 19 (dk_at dksX2_within_0 5 rfl rfl)
theorem dX2_within_8 : decode cX2_within 8 = .ok (.lload_n 1, 1) := dk_31 (dk_at dksX2_within_0 8 rfl rfl)
theorem dX2_within_9 : decode cX2_within 9 = .ok (.ldc2_w 17, 3) := dk_20 0 17 (dk_at dksX2_within_0 9 rfl rfl)
theorem dX2_within_12 : decode cX2_within 12 = .ok (.lcmp, 1) := dk_148 (dk_at dksX2_within_0 12 rfl rfl)
theorem dX2_within_13 : decode cX2_within 13 = .ok (.ifCond .gt 11, 3) := dk_157 0 11 (dk_at dksX2_within_0 13 rfl rfl)
theorem dX2_within_16 : decode cX2_within 16 = .ok (.lload_n 1, 1) := dk_31 (dk_at dksX2_within_0 16 rfl rfl)
theorem dX2_within_17 : decode cX2_within 17 = .ok (.ldc2_w 19, 3) := dk_20 0 19 (dk_at dksX2_within_0 17 rfl rfl)
theorem dX2_within_20 : decode cX2_within 20 = .ok (.lcmp, 1) := dk_148 (dk_at dksX2_within_0 20 rfl rfl)
theorem dX2_within_21 : decode cX2_within 21 = .ok (.ifCond .ge 7, 3) := dk_156 0 7 (dk_at dksX2_within_0 21 rfl rfl)
theorem dX2_within_24 : decode cX2_within 24 = .ok (.iconst 1, 1) := dk_4 (dk_at dksX2_within_1 0 rfl rfl)
theorem dX2_within_25 : decode cX2_within 25 = .ok (.goto 4, 3) := dk_167 0 4 (dk_at dksX2_within_1 1 rfl rfl)
theorem dX2_within_28 : decode cX2_within 28 = .ok (.iconst 0, 1) := dk_3 (dk_at dksX2_within_1 4 rfl rfl)
theorem dX2_within_29 : decode cX2_within 29 = .ok (.putfield 13, 3) := dk_181 0 13 (dk_at dksX2_within_1 5 rfl rfl)
theorem dX2_within_32 : decode cX2_within 32 = .ok (.aload_n 0, 1) := dk_42 (dk_at dksX2_within_1 8 rfl rfl)
theorem dX2_within_33 : decode cX2_within 33 = .ok (.getfield 13, 3) := dk_180 0 13 (dk_at dksX2_within_1 9 rfl rfl)
theorem dX2_within_36 : decode cX2_within 36 = .ok (.ifCond .eq 7, 3) := dk_153 0 7 (dk_at dksX2_within_1 12 rfl rfl)
theorem dX2_within_39 : decode cX2_within 39 = .ok (.lconst 0, 1) := dk_9 (dk_at dksX2_within_1 15 rfl rfl)
theorem dX2_within_40 : decode cX2_within 40 = .ok (.goto 4, 3) := dk_167 0 4 (dk_at dksX2_within_1 16 rfl rfl)
theorem dX2_within_43 : decode cX2_within 43 = .ok (.lload_n 1, 1) := dk_31 (dk_at dksX2_within_1 19 rfl rfl)
theorem dX2_within_44 : decode cX2_within 44 = .ok (.lreturn, 1) := dk_173 (dk_at dksX2_within_1 20 rfl rfl)
theorem q129 : (Jvm.Cond.initialized "ExamSlips$Asked") ∈ lw_all := lw_g (lw_at lw_m1 6 rfl) rfl
theorem q255 : (Jvm.Cond.instantiable "ExamSlips$Asked" (2 : Nat)) ∈ lw_all := lw_g (lw_at lw_m1 132 rfl) rfl
theorem q257 : (Jvm.Cond.instanceMethod ({ cls := "ExamSlips$Asked", name := "<init>", desc := "()V" } : Jvm.MethodName)) ∈ lw_all := lw_g (lw_at lw_m1 134 rfl) rfl
theorem q258 : (Jvm.Cond.code ({ cls := "ExamSlips$Asked", name := "<init>", desc := "()V" } : Jvm.MethodName) prog_4_method_1_code (1 : Nat) (Option.none : Option Jvm.ClassFile.FieldType)) ∈ lw_all := lw_g (lw_at lw_m1 135 rfl) rfl
theorem q259 : (Jvm.Cond.methodLink "ExamSlips$Asked" (1 : Nat) ({ cls := "java/lang/Object", name := "<init>", desc := "()V" } : Jvm.MethodName)) ∈ lw_all := lw_g (lw_at lw_m1 136 rfl) rfl
theorem q260 : (Jvm.Cond.fieldLink "ExamSlips$Asked" (7 : Nat) "ExamSlips$Asked" "numbers" "[J") ∈ lw_all := lw_g (lw_at lw_m1 137 rfl) rfl
theorem q269 : (Jvm.Cond.fieldLink "ExamSlips$Asked" (13 : Nat) "ExamSlips$Asked" "isBroken" "Z") ∈ lw_all := lw_g (lw_at lw_m1 146 rfl) rfl
theorem q270 : (Jvm.Cond.laysFinal "ExamSlips$Asked" "ExamSlips$Asked" "numbers" "[J") ∈ lw_all := lw_g (lw_at lw_m1 147 rfl) rfl
theorem q271 : (Jvm.Cond.soleField "ExamSlips$Asked" "numbers") ∈ lw_all := lw_g (lw_at lw_m1 148 rfl) rfl
theorem q272 : (Jvm.Cond.lays "ExamSlips$Asked" "ExamSlips$Asked" "isBroken" "Z") ∈ lw_all := lw_g (lw_at lw_m1 149 rfl) rfl
theorem q273 : (Jvm.Cond.soleField "ExamSlips$Asked" "isBroken") ∈ lw_all := lw_g (lw_at lw_m1 150 rfl) rfl
theorem q274 : (Jvm.Cond.superclass "ExamSlips$Asked" "java/lang/Object") ∈ lw_all := lw_g (lw_at lw_m1 151 rfl) rfl
theorem q445 : (Jvm.Cond.selects "ExamSlips$Asked" ({ cls := "java/lang/Object", name := "getClass", desc := "()Ljava/lang/Class;" } : Jvm.MethodName) ({ cls := "java/lang/Object", name := "getClass", desc := "()Ljava/lang/Class;" } : Jvm.MethodName)) ∈ lw_all := lw_g (lw_at lw_m2 82 rfl) rfl
theorem q918 : (Jvm.Cond.instanceMethod ({ cls := "ExamSlips$Asked", name := "clear", desc := "()LExamSlips$Asked;" } : Jvm.MethodName)) ∈ lw_all := lw_g (lw_at lw_m4 75 rfl) rfl
theorem q919 : (Jvm.Cond.selects "ExamSlips$Asked" ({ cls := "ExamSlips$Asked", name := "clear", desc := "()LExamSlips$Asked;" } : Jvm.MethodName) ({ cls := "ExamSlips$Asked", name := "clear", desc := "()LExamSlips$Asked;" } : Jvm.MethodName)) ∈ lw_all := lw_g (lw_at lw_m4 76 rfl) rfl
theorem q920 : (Jvm.Cond.code ({ cls := "ExamSlips$Asked", name := "clear", desc := "()LExamSlips$Asked;" } : Jvm.MethodName) prog_4_method_2_code (2 : Nat) (Option.some (Jvm.ClassFile.FieldType.object "ExamSlips$Asked"))) ∈ lw_all := lw_g (lw_at lw_m4 77 rfl) rfl
theorem q952 : (Jvm.Cond.instanceMethod ({ cls := "ExamSlips$Asked", name := "within", desc := "(J)J" } : Jvm.MethodName)) ∈ lw_all := lw_g (lw_at lw_m4 109 rfl) rfl
theorem q953 : (Jvm.Cond.selects "ExamSlips$Asked" ({ cls := "ExamSlips$Asked", name := "within", desc := "(J)J" } : Jvm.MethodName) ({ cls := "ExamSlips$Asked", name := "within", desc := "(J)J" } : Jvm.MethodName)) ∈ lw_all := lw_g (lw_at lw_m4 110 rfl) rfl
theorem q954 : (Jvm.Cond.code ({ cls := "ExamSlips$Asked", name := "within", desc := "(J)J" } : Jvm.MethodName) prog_4_method_3_code (3 : Nat) (Option.some Jvm.ClassFile.FieldType.long)) ∈ lw_all := lw_g (lw_at lw_m4 111 rfl) rfl
theorem q955 : (Jvm.Cond.constantLong "ExamSlips$Asked" (17 : Nat) (1000000000 : Int64)) ∈ lw_all := lw_g (lw_at lw_m4 112 rfl) rfl
theorem q956 : (Jvm.Cond.constantLong "ExamSlips$Asked" (19 : Nat) (-1000000000 : Int64)) ∈ lw_all := lw_g (lw_at lw_m4 113 rfl) rfl
theorem q2380 : (Jvm.Cond.castable "ExamSlips$Asked" "java/lang/Object") ∈ lw_tbl := lw_at lw_m10 97 rfl
theorem in_X2 : ∀ w ∈ wsX20, w ∈ lw_all := lw_in wsX20 [270, 272] (by decide +kernel) (by decide +kernel)

/-! ExamSlips$Text -/
set_option maxRecDepth 100000
def RX3 : String := "ExamSlips$Text"
def TX3 : u_T := fun k => match k with
  | _ => ("ExamSlips$Text", "clauses", "[LExamSlips$Clause;", true)
def tyX3 : Nat → FieldType := fun k => match k with
  | _ => .array (.object "ExamSlips$Clause")
abbrev wsX30 : List Cond := u_ws RX3 TX3 1
theorem nmX3 : ∀ a, a < 1 → ∀ b, b < 1 → a ≠ b → (TX3 a).2.1 ≠ (TX3 b).2.1 := by decide +kernel
theorem tyX3_ok : ∀ k, k < 1 → parseFieldDescriptor (TX3 k).2.2.1 = some (tyX3 k) := by decide +kernel
abbrev cX3_init : ByteArray := prog_26_method_1_code
def yX3_init : MethodName := ⟨RX3, "<init>", "([LExamSlips$Clause;)V"⟩
def dkwX3_init_0 : List UInt8 := [42, 183, 0, 1, 42, 43, 181, 0, 7, 177]
abbrev dktX3_init_0 : List UInt8 := dkwX3_init_0 ++ []
theorem dksX3_init_0 : cX3_init.data.toList.drop 0 = dktX3_init_0 := by decide +kernel
theorem dX3_init_0 : decode cX3_init 0 = .ok (.aload_n 0, 1) := dk_42 (dk_at dksX3_init_0 0 rfl rfl)
theorem dX3_init_1 : decode cX3_init 1 = .ok (.invokespecial 1, 3) := dk_183 0 1 (dk_at dksX3_init_0 1 rfl rfl)
theorem dX3_init_4 : decode cX3_init 4 = .ok (.aload_n 0, 1) := dk_42 (dk_at dksX3_init_0 4 rfl rfl)
theorem dX3_init_5 : decode cX3_init 5 = .ok (.aload_n 1, 1) := dk_43 (dk_at dksX3_init_0 5 rfl rfl)
theorem dX3_init_6 : decode cX3_init 6 = .ok (.putfield 7, 3) := dk_181 0 7 (dk_at dksX3_init_0 6 rfl rfl)
theorem dX3_init_9 : decode cX3_init 9 = .ok (.return_, 1) := dk_177 (dk_at dksX3_init_0 9 rfl rfl)
abbrev cX3_tells : ByteArray := prog_26_method_2_code
def yX3_tells : MethodName := ⟨RX3, "tells", "(ILExamSlips$Asked;III)I"⟩
def dkwX3_tells_3 : List UInt8 := [133, 22, 6, 184, 0, 27, 184, 0, 33, 136, 172]
abbrev dktX3_tells_3 : List UInt8 := dkwX3_tells_3 ++ []
def dkwX3_tells_2 : List UInt8 := [182, 0, 19, 153, 0, 10, 25, 11, 180, 0, 23, 55, 6, 132, 10, 1, 167, 255, 214, 21, 4, 133, 21, 5]
abbrev dktX3_tells_2 : List UInt8 := dkwX3_tells_2 ++ dktX3_tells_3
def dkwX3_tells_1 : List UInt8 := [162, 0, 41, 25, 8, 21, 10, 50, 58, 11, 25, 11, 180, 0, 13, 27, 160, 0, 19, 25, 11, 44]
abbrev dktX3_tells_1 : List UInt8 := dkwX3_tells_1 ++ dktX3_tells_2
def dkwX3_tells_0 : List UInt8 := [29, 133, 55, 6, 42, 180, 0, 7, 58, 8, 25, 8, 190, 54, 9, 3, 54, 10, 21, 10, 21, 9]
abbrev dktX3_tells_0 : List UInt8 := dkwX3_tells_0 ++ dktX3_tells_1
theorem dksX3_tells_0 : cX3_tells.data.toList.drop 0 = dktX3_tells_0 := by decide +kernel
theorem dksX3_tells_1 : cX3_tells.data.toList.drop 22 = dktX3_tells_1 := dk_seg dksX3_tells_0 22 rfl rfl
theorem dksX3_tells_2 : cX3_tells.data.toList.drop 44 = dktX3_tells_2 := dk_seg dksX3_tells_1 22 rfl rfl
theorem dksX3_tells_3 : cX3_tells.data.toList.drop 68 = dktX3_tells_3 := dk_seg dksX3_tells_2 24 rfl rfl
theorem dX3_tells_0 : decode cX3_tells 0 = .ok (.iload_n 3, 1) := dk_29 (dk_at dksX3_tells_0 0 rfl rfl)
theorem dX3_tells_1 : decode cX3_tells 1 = .ok (.i2l, 1) := dk_133 (dk_at dksX3_tells_0 1 rfl rfl)
theorem dX3_tells_2 : decode cX3_tells 2 = .ok (.lstore 6, 2) := dk_55 6 (dk_at dksX3_tells_0 2 rfl rfl)
theorem dX3_tells_4 : decode cX3_tells 4 = .ok (.aload_n 0, 1) := dk_42 (dk_at dksX3_tells_0 4 rfl rfl)
theorem dX3_tells_5 : decode cX3_tells 5 = .ok (.getfield 7, 3) := dk_180 0 7 (dk_at dksX3_tells_0 5 rfl rfl)
theorem dX3_tells_8 : decode cX3_tells 8 = .ok (.astore 8, 2) := dk_58 8 (dk_at dksX3_tells_0 8 rfl rfl)
theorem dX3_tells_10 : decode cX3_tells 10 = .ok (.aload 8, 2) := dk_25 8 (dk_at dksX3_tells_0 10 rfl rfl)
theorem dX3_tells_12 : decode cX3_tells 12 = .ok (.arraylength, 1) := dk_190 (dk_at dksX3_tells_0 12 rfl rfl)
theorem dX3_tells_13 : decode cX3_tells 13 = .ok (.istore 9, 2) := dk_54 9 (dk_at dksX3_tells_0 13 rfl rfl)
theorem dX3_tells_15 : decode cX3_tells 15 = .ok (.iconst 0, 1) := dk_3 (dk_at dksX3_tells_0 15 rfl rfl)
theorem dX3_tells_16 : decode cX3_tells 16 = .ok (.istore 10, 2) := dk_54 10 (dk_at dksX3_tells_0 16 rfl rfl)
theorem dX3_tells_18 : decode cX3_tells 18 = .ok (.iload 10, 2) := dk_21 10 (dk_at dksX3_tells_0 18 rfl rfl)
theorem dX3_tells_20 : decode cX3_tells 20 = .ok (.iload 9, 2) := dk_21 9 (dk_at dksX3_tells_0 20 rfl rfl)
theorem dX3_tells_22 : decode cX3_tells 22 = .ok (.if_icmp .ge 41, 3) := dk_162 0 41 (dk_at dksX3_tells_1 0 rfl rfl)
theorem dX3_tells_25 : decode cX3_tells 25 = .ok (.aload 8, 2) := dk_25 8 (dk_at dksX3_tells_1 3 rfl rfl)
theorem dX3_tells_27 : decode cX3_tells 27 = .ok (.iload 10, 2) := dk_21 10 (dk_at dksX3_tells_1 5 rfl rfl)
theorem dX3_tells_29 : decode cX3_tells 29 = .ok (.aaload, 1) := dk_50 (dk_at dksX3_tells_1 7 rfl rfl)
theorem dX3_tells_30 : decode cX3_tells 30 = .ok (.astore 11, 2) := dk_58 11 (dk_at dksX3_tells_1 8 rfl rfl)
theorem dX3_tells_32 : decode cX3_tells 32 = .ok (.aload 11, 2) := dk_25 11 (dk_at dksX3_tells_1 10 rfl rfl)
theorem dX3_tells_34 : decode cX3_tells 34 = .ok (.getfield 13, 3) := dk_180 0 13 (dk_at dksX3_tells_1 12 rfl rfl)
theorem dX3_tells_37 : decode cX3_tells 37 = .ok (.iload_n 1, 1) := dk_27 (dk_at dksX3_tells_1 15 rfl rfl)
theorem dX3_tells_38 : decode cX3_tells 38 = .ok (.if_icmp .ne 19, 3) := dk_160 0 19 (dk_at dksX3_tells_1 16 rfl rfl)
theorem dX3_tells_41 : decode cX3_tells 41 = .ok (.aload 11, 2) := dk_25 11 (dk_at dksX3_tells_1 19 rfl rfl)
theorem dX3_tells_43 : decode cX3_tells 43 = .ok (.aload_n 2, 1) := dk_44 (dk_at dksX3_tells_1 21 rfl rfl)
theorem dX3_tells_44 : decode cX3_tells 44 = .ok (.invokevirtual 19, 3) := dk_182 0 19 (dk_at dksX3_tells_2 0 rfl rfl)
theorem dX3_tells_47 : decode cX3_tells 47 = .ok (.ifCond .eq 10, 3) := dk_153 0 10 (dk_at dksX3_tells_2 3 rfl rfl)
theorem dX3_tells_50 : decode cX3_tells 50 = .ok (.aload 11, 2) := dk_25 11 (dk_at dksX3_tells_2 6 rfl rfl)
theorem dX3_tells_52 : decode cX3_tells 52 = .ok (.getfield 23, 3) := dk_180 0 23 (dk_at dksX3_tells_2 8 rfl rfl)
theorem dX3_tells_55 : decode cX3_tells 55 = .ok (.lstore 6, 2) := dk_55 6 (dk_at dksX3_tells_2 11 rfl rfl)
theorem dX3_tells_57 : decode cX3_tells 57 = .ok (.iinc 10 1, 3) := dk_132 10 1 (dk_at dksX3_tells_2 13 rfl rfl)
theorem dX3_tells_60 : decode cX3_tells 60 = .ok (.goto (-42), 3) := dk_167 255 214 (dk_at dksX3_tells_2 16 rfl rfl)
theorem dX3_tells_63 : decode cX3_tells 63 = .ok (.iload 4, 2) := dk_21 4 (dk_at dksX3_tells_2 19 rfl rfl)
theorem dX3_tells_65 : decode cX3_tells 65 = .ok (.i2l, 1) := dk_133 (dk_at dksX3_tells_2 21 rfl rfl)
theorem dX3_tells_66 : decode cX3_tells 66 = .ok (.iload 5, 2) := dk_21 5 (dk_at dksX3_tells_2 22 rfl rfl)
theorem dX3_tells_68 : decode cX3_tells 68 = .ok (.i2l, 1) := dk_133 (dk_at dksX3_tells_3 0 rfl rfl)
theorem dX3_tells_69 : decode cX3_tells 69 = .ok (.lload 6, 2) := dk_22 6 (dk_at dksX3_tells_3 1 rfl rfl)
theorem dX3_tells_71 : decode cX3_tells 71 = .ok (.invokestatic 27, 3) := dk_184 0 27 (dk_at dksX3_tells_3 3 rfl rfl)
theorem dX3_tells_74 : decode cX3_tells 74 = .ok (.invokestatic 33, 3) := dk_184 0 33 (dk_at dksX3_tells_3 6 rfl rfl)
theorem dX3_tells_77 : decode cX3_tells 77 = .ok (.l2i, 1) := dk_136 (dk_at dksX3_tells_3 9 rfl rfl)
theorem dX3_tells_78 : decode cX3_tells 78 = .ok (.ireturn, 1) := dk_172 (dk_at dksX3_tells_3 10 rfl rfl)
theorem q130 : (Jvm.Cond.initialized "ExamSlips$Text") ∈ lw_all := lw_g (lw_at lw_m1 7 rfl) rfl
theorem q277 : (Jvm.Cond.instantiable "ExamSlips$Text" (1 : Nat)) ∈ lw_all := lw_g (lw_at lw_m1 154 rfl) rfl
theorem q281 : (Jvm.Cond.instanceMethod ({ cls := "ExamSlips$Text", name := "<init>", desc := "([LExamSlips$Clause;)V" } : Jvm.MethodName)) ∈ lw_all := lw_g (lw_at lw_m1 158 rfl) rfl
theorem q282 : (Jvm.Cond.code ({ cls := "ExamSlips$Text", name := "<init>", desc := "([LExamSlips$Clause;)V" } : Jvm.MethodName) prog_26_method_1_code (2 : Nat) (Option.none : Option Jvm.ClassFile.FieldType)) ∈ lw_all := lw_g (lw_at lw_m1 159 rfl) rfl
theorem q283 : (Jvm.Cond.methodLink "ExamSlips$Text" (1 : Nat) ({ cls := "java/lang/Object", name := "<init>", desc := "()V" } : Jvm.MethodName)) ∈ lw_all := lw_g (lw_at lw_m1 160 rfl) rfl
theorem q284 : (Jvm.Cond.fieldLink "ExamSlips$Text" (7 : Nat) "ExamSlips$Text" "clauses" "[LExamSlips$Clause;") ∈ lw_all := lw_g (lw_at lw_m1 161 rfl) rfl
theorem q285 : (Jvm.Cond.laysFinal "ExamSlips$Text" "ExamSlips$Text" "clauses" "[LExamSlips$Clause;") ∈ lw_all := lw_g (lw_at lw_m1 162 rfl) rfl
theorem q286 : (Jvm.Cond.soleField "ExamSlips$Text" "clauses") ∈ lw_all := lw_g (lw_at lw_m1 163 rfl) rfl
theorem q287 : (Jvm.Cond.superclass "ExamSlips$Text" "java/lang/Object") ∈ lw_all := lw_g (lw_at lw_m1 164 rfl) rfl
theorem q465 : (Jvm.Cond.selects "ExamSlips$Text" ({ cls := "java/lang/Object", name := "getClass", desc := "()Ljava/lang/Class;" } : Jvm.MethodName) ({ cls := "java/lang/Object", name := "getClass", desc := "()Ljava/lang/Class;" } : Jvm.MethodName)) ∈ lw_all := lw_g (lw_at lw_m2 102 rfl) rfl
theorem q876 : (Jvm.Cond.fieldLinkNest "ExamSlips$Text" (13 : Nat) "ExamSlips$Clause" "head" "I" "ExamSlips") ∈ lw_tbl := lw_at lw_m4 33 rfl
theorem q880 : (Jvm.Cond.fieldLinkNest "ExamSlips$Text" (23 : Nat) "ExamSlips$Clause" "told" "J" "ExamSlips") ∈ lw_tbl := lw_at lw_m4 37 rfl
theorem q926 : (Jvm.Cond.instanceMethod ({ cls := "ExamSlips$Text", name := "tells", desc := "(ILExamSlips$Asked;III)I" } : Jvm.MethodName)) ∈ lw_all := lw_g (lw_at lw_m4 83 rfl) rfl
theorem q927 : (Jvm.Cond.selects "ExamSlips$Text" ({ cls := "ExamSlips$Text", name := "tells", desc := "(ILExamSlips$Asked;III)I" } : Jvm.MethodName) ({ cls := "ExamSlips$Text", name := "tells", desc := "(ILExamSlips$Asked;III)I" } : Jvm.MethodName)) ∈ lw_all := lw_g (lw_at lw_m4 84 rfl) rfl
theorem q928 : (Jvm.Cond.code ({ cls := "ExamSlips$Text", name := "tells", desc := "(ILExamSlips$Asked;III)I" } : Jvm.MethodName) prog_26_method_2_code (12 : Nat) (Option.some Jvm.ClassFile.FieldType.int)) ∈ lw_all := lw_g (lw_at lw_m4 85 rfl) rfl
theorem q929 : (Jvm.Cond.methodLink "ExamSlips$Text" (19 : Nat) ({ cls := "ExamSlips$Clause", name := "holds", desc := "(LExamSlips$Asked;)Z" } : Jvm.MethodName)) ∈ lw_all := lw_g (lw_at lw_m4 86 rfl) rfl
theorem q967 : (Jvm.Cond.methodLink "ExamSlips$Text" (27 : Nat) ({ cls := "java/lang/Math", name := "min", desc := "(JJ)J" } : Jvm.MethodName)) ∈ lw_all := lw_g (lw_at lw_m4 124 rfl) rfl
theorem q970 : (Jvm.Cond.methodLink "ExamSlips$Text" (33 : Nat) ({ cls := "java/lang/Math", name := "max", desc := "(JJ)J" } : Jvm.MethodName)) ∈ lw_all := lw_g (lw_at lw_m4 127 rfl) rfl
theorem q2381 : (Jvm.Cond.castable "ExamSlips$Text" "java/lang/Object") ∈ lw_tbl := lw_at lw_m10 98 rfl
theorem in_X3 : ∀ w ∈ wsX30, w ∈ lw_all := lw_in wsX30 [285] (by decide +kernel) (by decide +kernel)

/-! ExamSlips$Question -/
set_option maxRecDepth 100000
def RX5 : String := "ExamSlips$Question"
def TX5 : u_T := fun k => match k with
  | 0 => ("ExamSlips$Question", "number", "I", true)
  | 1 => ("ExamSlips$Question", "king", "I", true)
  | 2 => ("ExamSlips$Question", "pages", "I", true)
  | 3 => ("ExamSlips$Question", "known", "I", false)
  | 4 => ("ExamSlips$Question", "isLiked", "Z", false)
  | _ => ("ExamSlips$Question", "isOut", "Z", false)
def tyX5 : Nat → FieldType := fun k => match k with
  | 0 => .int
  | 1 => .int
  | 2 => .int
  | 3 => .int
  | 4 => .boolean
  | _ => .boolean
abbrev wsX50 : List Cond := u_ws RX5 TX5 6
theorem nmX5 : ∀ a, a < 6 → ∀ b, b < 6 → a ≠ b → (TX5 a).2.1 ≠ (TX5 b).2.1 := by decide +kernel
theorem tyX5_ok : ∀ k, k < 6 → parseFieldDescriptor (TX5 k).2.2.1 = some (tyX5 k) := by decide +kernel
abbrev cX5_init : ByteArray := prog_17_method_1_code
def yX5_init : MethodName := ⟨RX5, "<init>", "(III)V"⟩
def dkwX5_init_0 : List UInt8 := [42, 183, 0, 1, 42, 27, 181, 0, 7, 42, 28, 181, 0, 13, 42, 29, 181, 0, 16, 177]
abbrev dktX5_init_0 : List UInt8 := dkwX5_init_0 ++ []
theorem dksX5_init_0 : cX5_init.data.toList.drop 0 = dktX5_init_0 := by decide +kernel
theorem dX5_init_0 : decode cX5_init 0 = .ok (.aload_n 0, 1) := dk_42 (dk_at dksX5_init_0 0 rfl rfl)
theorem dX5_init_1 : decode cX5_init 1 = .ok (.invokespecial 1, 3) := dk_183 0 1 (dk_at dksX5_init_0 1 rfl rfl)
theorem dX5_init_4 : decode cX5_init 4 = .ok (.aload_n 0, 1) := dk_42 (dk_at dksX5_init_0 4 rfl rfl)
theorem dX5_init_5 : decode cX5_init 5 = .ok (.iload_n 1, 1) := dk_27 (dk_at dksX5_init_0 5 rfl rfl)
theorem dX5_init_6 : decode cX5_init 6 = .ok (.putfield 7, 3) := dk_181 0 7 (dk_at dksX5_init_0 6 rfl rfl)
theorem dX5_init_9 : decode cX5_init 9 = .ok (.aload_n 0, 1) := dk_42 (dk_at dksX5_init_0 9 rfl rfl)
theorem dX5_init_10 : decode cX5_init 10 = .ok (.iload_n 2, 1) := dk_28 (dk_at dksX5_init_0 10 rfl rfl)
theorem dX5_init_11 : decode cX5_init 11 = .ok (.putfield 13, 3) := dk_181 0 13 (dk_at dksX5_init_0 11 rfl rfl)
theorem dX5_init_14 : decode cX5_init 14 = .ok (.aload_n 0, 1) := dk_42 (dk_at dksX5_init_0 14 rfl rfl)
theorem dX5_init_15 : decode cX5_init 15 = .ok (.iload_n 3, 1) := dk_29 (dk_at dksX5_init_0 15 rfl rfl)
theorem dX5_init_16 : decode cX5_init 16 = .ok (.putfield 16, 3) := dk_181 0 16 (dk_at dksX5_init_0 16 rfl rfl)
theorem dX5_init_19 : decode cX5_init 19 = .ok (.return_, 1) := dk_177 (dk_at dksX5_init_0 19 rfl rfl)
abbrev cX5_ask : ByteArray := prog_17_method_3_code
def yX5_ask : MethodName := ⟨RX5, "ask", "(LExamSlips$Asked;I)LExamSlips$Asked;"⟩
def dkwX5_ask_2 : List UInt8 := [153, 0, 7, 10, 167, 0, 4, 9, 80, 43, 180, 0, 38, 16, 6, 42, 180, 0, 7, 133, 80, 43, 176]
abbrev dktX5_ask_2 : List UInt8 := dkwX5_ask_2 ++ []
def dkwX5_ask_1 : List UInt8 := [180, 0, 16, 133, 80, 43, 180, 0, 38, 5, 28, 133, 80, 43, 180, 0, 38, 7, 42, 180, 0, 25]
abbrev dktX5_ask_1 : List UInt8 := dkwX5_ask_1 ++ dktX5_ask_2
def dkwX5_ask_0 : List UInt8 := [43, 182, 0, 32, 87, 43, 180, 0, 38, 3, 42, 180, 0, 13, 133, 80, 43, 180, 0, 38, 4, 42]
abbrev dktX5_ask_0 : List UInt8 := dkwX5_ask_0 ++ dktX5_ask_1
theorem dksX5_ask_0 : cX5_ask.data.toList.drop 0 = dktX5_ask_0 := by decide +kernel
theorem dksX5_ask_1 : cX5_ask.data.toList.drop 22 = dktX5_ask_1 := dk_seg dksX5_ask_0 22 rfl rfl
theorem dksX5_ask_2 : cX5_ask.data.toList.drop 44 = dktX5_ask_2 := dk_seg dksX5_ask_1 22 rfl rfl
theorem dX5_ask_0 : decode cX5_ask 0 = .ok (.aload_n 1, 1) := dk_43 (dk_at dksX5_ask_0 0 rfl rfl)
theorem dX5_ask_1 : decode cX5_ask 1 = .ok (.invokevirtual 32, 3) := dk_182 0 32 (dk_at dksX5_ask_0 1 rfl rfl)
theorem dX5_ask_4 : decode cX5_ask 4 = .ok (.pop, 1) := dk_87 (dk_at dksX5_ask_0 4 rfl rfl)
theorem dX5_ask_5 : decode cX5_ask 5 = .ok (.aload_n 1, 1) := dk_43 (dk_at dksX5_ask_0 5 rfl rfl)
theorem dX5_ask_6 : decode cX5_ask 6 = .ok (.getfield 38, 3) := dk_180 0 38 (dk_at dksX5_ask_0 6 rfl rfl)
theorem dX5_ask_9 : decode cX5_ask 9 = .ok (.iconst 0, 1) := dk_3 (dk_at dksX5_ask_0 9 rfl rfl)
theorem dX5_ask_10 : decode cX5_ask 10 = .ok (.aload_n 0, 1) := dk_42 (dk_at dksX5_ask_0 10 rfl rfl)
theorem dX5_ask_11 : decode cX5_ask 11 = .ok (.getfield 13, 3) := dk_180 0 13 (dk_at dksX5_ask_0 11 rfl rfl)
theorem dX5_ask_14 : decode cX5_ask 14 = .ok (.i2l, 1) := dk_133 (dk_at dksX5_ask_0 14 rfl rfl)
theorem dX5_ask_15 : decode cX5_ask 15 = .ok (.lastore, 1) := dk_80 (dk_at dksX5_ask_0 15 rfl rfl)
theorem dX5_ask_16 : decode cX5_ask 16 = .ok (.aload_n 1, 1) := dk_43 (dk_at dksX5_ask_0 16 rfl rfl)
theorem dX5_ask_17 : decode cX5_ask 17 = .ok (.getfield 38, 3) := dk_180 0 38 (dk_at dksX5_ask_0 17 rfl rfl)
theorem dX5_ask_20 : decode cX5_ask 20 = .ok (.iconst 1, 1) := dk_4 (dk_at dksX5_ask_0 20 rfl rfl)
theorem dX5_ask_21 : decode cX5_ask 21 = .ok (.aload_n 0, 1) := dk_42 (dk_at dksX5_ask_0 21 rfl rfl)
theorem dX5_ask_22 : decode cX5_ask 22 = .ok (.getfield 16, 3) := dk_180 0 16 (dk_at dksX5_ask_1 0 rfl rfl)
theorem dX5_ask_25 : decode cX5_ask 25 = .ok (.i2l, 1) := dk_133 (dk_at dksX5_ask_1 3 rfl rfl)
theorem dX5_ask_26 : decode cX5_ask 26 = .ok (.lastore, 1) := dk_80 (dk_at dksX5_ask_1 4 rfl rfl)
theorem dX5_ask_27 : decode cX5_ask 27 = .ok (.aload_n 1, 1) := dk_43 (dk_at dksX5_ask_1 5 rfl rfl)
theorem dX5_ask_28 : decode cX5_ask 28 = .ok (.getfield 38, 3) := dk_180 0 38 (dk_at dksX5_ask_1 6 rfl rfl)
theorem dX5_ask_31 : decode cX5_ask 31 = .ok (.iconst 2, 1) := dk_5 (dk_at dksX5_ask_1 9 rfl rfl)
theorem dX5_ask_32 : decode cX5_ask 32 = .ok (.iload_n 2, 1) := dk_28 (dk_at dksX5_ask_1 10 rfl rfl)
theorem dX5_ask_33 : decode cX5_ask 33 = .ok (.i2l, 1) := dk_133 (dk_at dksX5_ask_1 11 rfl rfl)
theorem dX5_ask_34 : decode cX5_ask 34 = .ok (.lastore, 1) := dk_80 (dk_at dksX5_ask_1 12 rfl rfl)
theorem dX5_ask_35 : decode cX5_ask 35 = .ok (.aload_n 1, 1) := dk_43 (dk_at dksX5_ask_1 13 rfl rfl)
theorem dX5_ask_36 : decode cX5_ask 36 = .ok (.getfield 38, 3) := dk_180 0 38 (dk_at dksX5_ask_1 14 rfl rfl)
theorem dX5_ask_39 : decode cX5_ask 39 = .ok (.iconst 4, 1) := dk_7 (dk_at dksX5_ask_1 17 rfl rfl)
theorem dX5_ask_40 : decode cX5_ask 40 = .ok (.aload_n 0, 1) := dk_42 (dk_at dksX5_ask_1 18 rfl rfl)
theorem dX5_ask_41 : decode cX5_ask 41 = .ok (.getfield 25, 3) := dk_180 0 25 (dk_at dksX5_ask_1 19 rfl rfl)
theorem dX5_ask_44 : decode cX5_ask 44 = .ok (.ifCond .eq 7, 3) := dk_153 0 7 (dk_at dksX5_ask_2 0 rfl rfl)
theorem dX5_ask_47 : decode cX5_ask 47 = .ok (.lconst 1, 1) := dk_10 (dk_at dksX5_ask_2 3 rfl rfl)
theorem dX5_ask_48 : decode cX5_ask 48 = .ok (.goto 4, 3) := dk_167 0 4 (dk_at dksX5_ask_2 4 rfl rfl)
theorem dX5_ask_51 : decode cX5_ask 51 = .ok (.lconst 0, 1) := dk_9 (dk_at dksX5_ask_2 7 rfl rfl)
theorem dX5_ask_52 : decode cX5_ask 52 = .ok (.lastore, 1) := dk_80 (dk_at dksX5_ask_2 8 rfl rfl)
theorem dX5_ask_53 : decode cX5_ask 53 = .ok (.aload_n 1, 1) := dk_43 (dk_at dksX5_ask_2 9 rfl rfl)
theorem dX5_ask_54 : decode cX5_ask 54 = .ok (.getfield 38, 3) := dk_180 0 38 (dk_at dksX5_ask_2 10 rfl rfl)
theorem dX5_ask_57 : decode cX5_ask 57 = .ok (.bipush 6, 2) := dk_16 6 (dk_at dksX5_ask_2 13 rfl rfl)
theorem dX5_ask_59 : decode cX5_ask 59 = .ok (.aload_n 0, 1) := dk_42 (dk_at dksX5_ask_2 15 rfl rfl)
theorem dX5_ask_60 : decode cX5_ask 60 = .ok (.getfield 7, 3) := dk_180 0 7 (dk_at dksX5_ask_2 16 rfl rfl)
theorem dX5_ask_63 : decode cX5_ask 63 = .ok (.i2l, 1) := dk_133 (dk_at dksX5_ask_2 19 rfl rfl)
theorem dX5_ask_64 : decode cX5_ask 64 = .ok (.lastore, 1) := dk_80 (dk_at dksX5_ask_2 20 rfl rfl)
theorem dX5_ask_65 : decode cX5_ask 65 = .ok (.aload_n 1, 1) := dk_43 (dk_at dksX5_ask_2 21 rfl rfl)
theorem dX5_ask_66 : decode cX5_ask 66 = .ok (.areturn, 1) := dk_176 (dk_at dksX5_ask_2 22 rfl rfl)
abbrev cX5_copy : ByteArray := prog_17_method_2_code
def yX5_copy : MethodName := ⟨RX5, "copy", "()LExamSlips$Question;"⟩
def dkwX5_copy_1 : List UInt8 := [180, 0, 22, 181, 0, 22, 43, 42, 180, 0, 25, 181, 0, 25, 43, 42, 180, 0, 29, 181, 0, 29, 43, 176]
abbrev dktX5_copy_1 : List UInt8 := dkwX5_copy_1 ++ []
def dkwX5_copy_0 : List UInt8 := [187, 0, 8, 89, 42, 180, 0, 7, 42, 180, 0, 13, 42, 180, 0, 16, 183, 0, 19, 76, 43, 42]
abbrev dktX5_copy_0 : List UInt8 := dkwX5_copy_0 ++ dktX5_copy_1
theorem dksX5_copy_0 : cX5_copy.data.toList.drop 0 = dktX5_copy_0 := by decide +kernel
theorem dksX5_copy_1 : cX5_copy.data.toList.drop 22 = dktX5_copy_1 := dk_seg dksX5_copy_0 22 rfl rfl
theorem dX5_copy_0 : decode cX5_copy 0 = .ok (.new 8, 3) := dk_187 0 8 (dk_at dksX5_copy_0 0 rfl rfl)
theorem dX5_copy_3 : decode cX5_copy 3 = .ok (.dup, 1) := dk_89 (dk_at dksX5_copy_0 3 rfl rfl)
theorem dX5_copy_4 : decode cX5_copy 4 = .ok (.aload_n 0, 1) := dk_42 (dk_at dksX5_copy_0 4 rfl rfl)
theorem dX5_copy_5 : decode cX5_copy 5 = .ok (.getfield 7, 3) := dk_180 0 7 (dk_at dksX5_copy_0 5 rfl rfl)
theorem dX5_copy_8 : decode cX5_copy 8 = .ok (.aload_n 0, 1) := dk_42 (dk_at dksX5_copy_0 8 rfl rfl)
theorem dX5_copy_9 : decode cX5_copy 9 = .ok (.getfield 13, 3) := dk_180 0 13 (dk_at dksX5_copy_0 9 rfl rfl)
theorem dX5_copy_12 : decode cX5_copy 12 = .ok (.aload_n 0, 1) := dk_42 (dk_at dksX5_copy_0 12 rfl rfl)
theorem dX5_copy_13 : decode cX5_copy 13 = .ok (.getfield 16, 3) := dk_180 0 16 (dk_at dksX5_copy_0 13 rfl rfl)
theorem dX5_copy_16 : decode cX5_copy 16 = .ok (.invokespecial 19, 3) := dk_183 0 19 (dk_at dksX5_copy_0 16 rfl rfl)
theorem dX5_copy_19 : decode cX5_copy 19 = .ok (.astore_n 1, 1) := dk_76 (dk_at dksX5_copy_0 19 rfl rfl)
theorem dX5_copy_20 : decode cX5_copy 20 = .ok (.aload_n 1, 1) := dk_43 (dk_at dksX5_copy_0 20 rfl rfl)
theorem dX5_copy_21 : decode cX5_copy 21 = .ok (.aload_n 0, 1) := dk_42 (dk_at dksX5_copy_0 21 rfl rfl)
theorem dX5_copy_22 : decode cX5_copy 22 = .ok (.getfield 22, 3) := dk_180 0 22 (dk_at dksX5_copy_1 0 rfl rfl)
theorem dX5_copy_25 : decode cX5_copy 25 = .ok (.putfield 22, 3) := dk_181 0 22 (dk_at dksX5_copy_1 3 rfl rfl)
theorem dX5_copy_28 : decode cX5_copy 28 = .ok (.aload_n 1, 1) := dk_43 (dk_at dksX5_copy_1 6 rfl rfl)
theorem dX5_copy_29 : decode cX5_copy 29 = .ok (.aload_n 0, 1) := dk_42 (dk_at dksX5_copy_1 7 rfl rfl)
theorem dX5_copy_30 : decode cX5_copy 30 = .ok (.getfield 25, 3) := dk_180 0 25 (dk_at dksX5_copy_1 8 rfl rfl)
theorem dX5_copy_33 : decode cX5_copy 33 = .ok (.putfield 25, 3) := dk_181 0 25 (dk_at dksX5_copy_1 11 rfl rfl)
theorem dX5_copy_36 : decode cX5_copy 36 = .ok (.aload_n 1, 1) := dk_43 (dk_at dksX5_copy_1 14 rfl rfl)
theorem dX5_copy_37 : decode cX5_copy 37 = .ok (.aload_n 0, 1) := dk_42 (dk_at dksX5_copy_1 15 rfl rfl)
theorem dX5_copy_38 : decode cX5_copy 38 = .ok (.getfield 29, 3) := dk_180 0 29 (dk_at dksX5_copy_1 16 rfl rfl)
theorem dX5_copy_41 : decode cX5_copy 41 = .ok (.putfield 29, 3) := dk_181 0 29 (dk_at dksX5_copy_1 19 rfl rfl)
theorem dX5_copy_44 : decode cX5_copy 44 = .ok (.aload_n 1, 1) := dk_43 (dk_at dksX5_copy_1 22 rfl rfl)
theorem dX5_copy_45 : decode cX5_copy 45 = .ok (.areturn, 1) := dk_176 (dk_at dksX5_copy_1 23 rfl rfl)
theorem q133 : (Jvm.Cond.initialized "ExamSlips$Question") ∈ lw_all := lw_g (lw_at lw_m1 10 rfl) rfl
theorem q262 : (Jvm.Cond.fieldLinkNest "ExamSlips$Question" (38 : Nat) "ExamSlips$Asked" "numbers" "[J" "ExamSlips") ∈ lw_tbl := lw_at lw_m1 139 rfl
theorem q375 : (Jvm.Cond.instantiable "ExamSlips$Question" (6 : Nat)) ∈ lw_all := lw_g (lw_at lw_m2 12 rfl) rfl
theorem q377 : (Jvm.Cond.instanceMethod ({ cls := "ExamSlips$Question", name := "<init>", desc := "(III)V" } : Jvm.MethodName)) ∈ lw_all := lw_g (lw_at lw_m2 14 rfl) rfl
theorem q378 : (Jvm.Cond.code ({ cls := "ExamSlips$Question", name := "<init>", desc := "(III)V" } : Jvm.MethodName) prog_17_method_1_code (4 : Nat) (Option.none : Option Jvm.ClassFile.FieldType)) ∈ lw_all := lw_g (lw_at lw_m2 15 rfl) rfl
theorem q379 : (Jvm.Cond.methodLink "ExamSlips$Question" (1 : Nat) ({ cls := "java/lang/Object", name := "<init>", desc := "()V" } : Jvm.MethodName)) ∈ lw_all := lw_g (lw_at lw_m2 16 rfl) rfl
theorem q380 : (Jvm.Cond.fieldLink "ExamSlips$Question" (7 : Nat) "ExamSlips$Question" "number" "I") ∈ lw_all := lw_g (lw_at lw_m2 17 rfl) rfl
theorem q384 : (Jvm.Cond.fieldLink "ExamSlips$Question" (13 : Nat) "ExamSlips$Question" "king" "I") ∈ lw_all := lw_g (lw_at lw_m2 21 rfl) rfl
theorem q388 : (Jvm.Cond.fieldLink "ExamSlips$Question" (16 : Nat) "ExamSlips$Question" "pages" "I") ∈ lw_all := lw_g (lw_at lw_m2 25 rfl) rfl
theorem q390 : (Jvm.Cond.fieldLink "ExamSlips$Question" (22 : Nat) "ExamSlips$Question" "known" "I") ∈ lw_all := lw_g (lw_at lw_m2 27 rfl) rfl
theorem q392 : (Jvm.Cond.fieldLink "ExamSlips$Question" (25 : Nat) "ExamSlips$Question" "isLiked" "Z") ∈ lw_all := lw_g (lw_at lw_m2 29 rfl) rfl
theorem q395 : (Jvm.Cond.fieldLink "ExamSlips$Question" (29 : Nat) "ExamSlips$Question" "isOut" "Z") ∈ lw_all := lw_g (lw_at lw_m2 32 rfl) rfl
theorem q397 : (Jvm.Cond.laysFinal "ExamSlips$Question" "ExamSlips$Question" "number" "I") ∈ lw_all := lw_g (lw_at lw_m2 34 rfl) rfl
theorem q398 : (Jvm.Cond.soleField "ExamSlips$Question" "number") ∈ lw_all := lw_g (lw_at lw_m2 35 rfl) rfl
theorem q399 : (Jvm.Cond.laysFinal "ExamSlips$Question" "ExamSlips$Question" "king" "I") ∈ lw_all := lw_g (lw_at lw_m2 36 rfl) rfl
theorem q400 : (Jvm.Cond.soleField "ExamSlips$Question" "king") ∈ lw_all := lw_g (lw_at lw_m2 37 rfl) rfl
theorem q401 : (Jvm.Cond.laysFinal "ExamSlips$Question" "ExamSlips$Question" "pages" "I") ∈ lw_all := lw_g (lw_at lw_m2 38 rfl) rfl
theorem q402 : (Jvm.Cond.soleField "ExamSlips$Question" "pages") ∈ lw_all := lw_g (lw_at lw_m2 39 rfl) rfl
theorem q403 : (Jvm.Cond.lays "ExamSlips$Question" "ExamSlips$Question" "known" "I") ∈ lw_all := lw_g (lw_at lw_m2 40 rfl) rfl
theorem q404 : (Jvm.Cond.soleField "ExamSlips$Question" "known") ∈ lw_all := lw_g (lw_at lw_m2 41 rfl) rfl
theorem q405 : (Jvm.Cond.lays "ExamSlips$Question" "ExamSlips$Question" "isLiked" "Z") ∈ lw_all := lw_g (lw_at lw_m2 42 rfl) rfl
theorem q406 : (Jvm.Cond.soleField "ExamSlips$Question" "isLiked") ∈ lw_all := lw_g (lw_at lw_m2 43 rfl) rfl
theorem q407 : (Jvm.Cond.lays "ExamSlips$Question" "ExamSlips$Question" "isOut" "Z") ∈ lw_all := lw_g (lw_at lw_m2 44 rfl) rfl
theorem q408 : (Jvm.Cond.soleField "ExamSlips$Question" "isOut") ∈ lw_all := lw_g (lw_at lw_m2 45 rfl) rfl
theorem q409 : (Jvm.Cond.superclass "ExamSlips$Question" "java/lang/Object") ∈ lw_all := lw_g (lw_at lw_m2 46 rfl) rfl
theorem q458 : (Jvm.Cond.selects "ExamSlips$Question" ({ cls := "java/lang/Object", name := "getClass", desc := "()Ljava/lang/Class;" } : Jvm.MethodName) ({ cls := "java/lang/Object", name := "getClass", desc := "()Ljava/lang/Class;" } : Jvm.MethodName)) ∈ lw_all := lw_g (lw_at lw_m2 95 rfl) rfl
theorem q914 : (Jvm.Cond.instanceMethod ({ cls := "ExamSlips$Question", name := "ask", desc := "(LExamSlips$Asked;I)LExamSlips$Asked;" } : Jvm.MethodName)) ∈ lw_all := lw_g (lw_at lw_m4 71 rfl) rfl
theorem q915 : (Jvm.Cond.selects "ExamSlips$Question" ({ cls := "ExamSlips$Question", name := "ask", desc := "(LExamSlips$Asked;I)LExamSlips$Asked;" } : Jvm.MethodName) ({ cls := "ExamSlips$Question", name := "ask", desc := "(LExamSlips$Asked;I)LExamSlips$Asked;" } : Jvm.MethodName)) ∈ lw_all := lw_g (lw_at lw_m4 72 rfl) rfl
theorem q916 : (Jvm.Cond.code ({ cls := "ExamSlips$Question", name := "ask", desc := "(LExamSlips$Asked;I)LExamSlips$Asked;" } : Jvm.MethodName) prog_17_method_3_code (3 : Nat) (Option.some (Jvm.ClassFile.FieldType.object "ExamSlips$Asked"))) ∈ lw_all := lw_g (lw_at lw_m4 73 rfl) rfl
theorem q917 : (Jvm.Cond.methodLink "ExamSlips$Question" (32 : Nat) ({ cls := "ExamSlips$Asked", name := "clear", desc := "()LExamSlips$Asked;" } : Jvm.MethodName)) ∈ lw_all := lw_g (lw_at lw_m4 74 rfl) rfl
theorem q1637 : (Jvm.Cond.instanceMethod ({ cls := "ExamSlips$Question", name := "copy", desc := "()LExamSlips$Question;" } : Jvm.MethodName)) ∈ lw_all := lw_g (lw_at lw_m7 74 rfl) rfl
theorem q1638 : (Jvm.Cond.selects "ExamSlips$Question" ({ cls := "ExamSlips$Question", name := "copy", desc := "()LExamSlips$Question;" } : Jvm.MethodName) ({ cls := "ExamSlips$Question", name := "copy", desc := "()LExamSlips$Question;" } : Jvm.MethodName)) ∈ lw_all := lw_g (lw_at lw_m7 75 rfl) rfl
theorem q1639 : (Jvm.Cond.code ({ cls := "ExamSlips$Question", name := "copy", desc := "()LExamSlips$Question;" } : Jvm.MethodName) prog_17_method_2_code (2 : Nat) (Option.some (Jvm.ClassFile.FieldType.object "ExamSlips$Question"))) ∈ lw_all := lw_g (lw_at lw_m7 76 rfl) rfl
theorem q1640 : (Jvm.Cond.classLink "ExamSlips$Question" (8 : Nat) "ExamSlips$Question") ∈ lw_all := lw_g (lw_at lw_m7 77 rfl) rfl
theorem q1641 : (Jvm.Cond.methodLink "ExamSlips$Question" (19 : Nat) ({ cls := "ExamSlips$Question", name := "<init>", desc := "(III)V" } : Jvm.MethodName)) ∈ lw_all := lw_g (lw_at lw_m7 78 rfl) rfl
theorem q2376 : (Jvm.Cond.castable "ExamSlips$Question" "java/lang/Object") ∈ lw_tbl := lw_at lw_m10 93 rfl
theorem in_X5 : ∀ w ∈ wsX50, w ∈ lw_all := lw_in wsX50 [397, 399, 401, 403, 405, 407] (by decide +kernel) (by decide +kernel)

/-! ExamSlips$Reader -/
set_option maxRecDepth 100000
def RX6 : String := "ExamSlips$Reader"
def TX6 : u_T := fun k => match k with
  | 0 => ("ExamSlips$Reader", "from", "I", false)
  | 1 => ("ExamSlips$Reader", "to", "I", false)
  | 2 => ("ExamSlips$Reader", "leaves", "I", false)
  | 3 => ("ExamSlips$Reader", "deep", "I", false)
  | 4 => ("ExamSlips$Reader", "piled", "I", false)
  | 5 => ("ExamSlips$Reader", "pile", "[LExamSlips$Test;", true)
  | 6 => ("ExamSlips$Reader", "words", "[Ljava/lang/String;", true)
  | 7 => ("ExamSlips$Reader", "heads", "[Ljava/lang/String;", true)
  | _ => ("ExamSlips$Reader", "this$0", "LExamSlips;", true)
def tyX6 : Nat → FieldType := fun k => match k with
  | 0 => .int
  | 1 => .int
  | 2 => .int
  | 3 => .int
  | 4 => .int
  | 5 => .array (.object "ExamSlips$Test")
  | 6 => .array (.object "java/lang/String")
  | 7 => .array (.object "java/lang/String")
  | _ => .object "ExamSlips"
abbrev wsX60 : List Cond := u_ws RX6 TX6 9
theorem nmX6 : ∀ a, a < 9 → ∀ b, b < 9 → a ≠ b → (TX6 a).2.1 ≠ (TX6 b).2.1 := by decide +kernel
theorem tyX6_ok : ∀ k, k < 9 → parseFieldDescriptor (TX6 k).2.2.1 = some (tyX6 k) := by decide +kernel
abbrev cX6_init : ByteArray := prog_18_method_1_code
def yX6_init : MethodName := ⟨RX6, "<init>", "(LExamSlips;)V"⟩
def dkwX6_init_3 : List UInt8 := [83, 89, 4, 18, 43, 83, 89, 5, 18, 45, 83, 181, 0, 47, 177]
abbrev dktX6_init_3 : List UInt8 := dkwX6_init_3 ++ []
def dkwX6_init_2 : List UInt8 := [83, 89, 8, 18, 33, 83, 89, 16, 6, 18, 35, 83, 181, 0, 37, 42, 6, 189, 0, 21, 89, 3, 18, 41]
abbrev dktX6_init_2 : List UInt8 := dkwX6_init_2 ++ dktX6_init_3
def dkwX6_init_1 : List UInt8 := [89, 3, 18, 23, 83, 89, 4, 18, 25, 83, 89, 5, 18, 27, 83, 89, 6, 18, 29, 83, 89, 7, 18, 31]
abbrev dktX6_init_1 : List UInt8 := dkwX6_init_1 ++ dktX6_init_2
def dkwX6_init_0 : List UInt8 := [42, 43, 181, 0, 3, 42, 183, 0, 9, 42, 16, 50, 189, 0, 15, 181, 0, 17, 42, 16, 7, 189, 0, 21]
abbrev dktX6_init_0 : List UInt8 := dkwX6_init_0 ++ dktX6_init_1
theorem dksX6_init_0 : cX6_init.data.toList.drop 0 = dktX6_init_0 := by decide +kernel
theorem dksX6_init_1 : cX6_init.data.toList.drop 24 = dktX6_init_1 := dk_seg dksX6_init_0 24 rfl rfl
theorem dksX6_init_2 : cX6_init.data.toList.drop 48 = dktX6_init_2 := dk_seg dksX6_init_1 24 rfl rfl
theorem dksX6_init_3 : cX6_init.data.toList.drop 72 = dktX6_init_3 := dk_seg dksX6_init_2 24 rfl rfl
theorem dX6_init_0 : decode cX6_init 0 = .ok (.aload_n 0, 1) := dk_42 (dk_at dksX6_init_0 0 rfl rfl)
theorem dX6_init_1 : decode cX6_init 1 = .ok (.aload_n 1, 1) := dk_43 (dk_at dksX6_init_0 1 rfl rfl)
theorem dX6_init_2 : decode cX6_init 2 = .ok (.putfield 3, 3) := dk_181 0 3 (dk_at dksX6_init_0 2 rfl rfl)
theorem dX6_init_5 : decode cX6_init 5 = .ok (.aload_n 0, 1) := dk_42 (dk_at dksX6_init_0 5 rfl rfl)
theorem dX6_init_6 : decode cX6_init 6 = .ok (.invokespecial 9, 3) := dk_183 0 9 (dk_at dksX6_init_0 6 rfl rfl)
theorem dX6_init_9 : decode cX6_init 9 = .ok (.aload_n 0, 1) := dk_42 (dk_at dksX6_init_0 9 rfl rfl)
theorem dX6_init_10 : decode cX6_init 10 = .ok (.bipush 50, 2) := dk_16 50 (dk_at dksX6_init_0 10 rfl rfl)
theorem dX6_init_12 : decode cX6_init 12 = .ok (.anewarray 15, 3) := dk_189 0 15 (dk_at dksX6_init_0 12 rfl rfl)
theorem dX6_init_15 : decode cX6_init 15 = .ok (.putfield 17, 3) := dk_181 0 17 (dk_at dksX6_init_0 15 rfl rfl)
theorem dX6_init_18 : decode cX6_init 18 = .ok (.aload_n 0, 1) := dk_42 (dk_at dksX6_init_0 18 rfl rfl)
theorem dX6_init_19 : decode cX6_init 19 = .ok (.bipush 7, 2) := dk_16 7 (dk_at dksX6_init_0 19 rfl rfl)
theorem dX6_init_21 : decode cX6_init 21 = .ok (.anewarray 21, 3) := dk_189 0 21 (dk_at dksX6_init_0 21 rfl rfl)
theorem dX6_init_24 : decode cX6_init 24 = .ok (.dup, 1) := dk_89 (dk_at dksX6_init_1 0 rfl rfl)
theorem dX6_init_25 : decode cX6_init 25 = .ok (.iconst 0, 1) := dk_3 (dk_at dksX6_init_1 1 rfl rfl)
theorem dX6_init_26 : decode cX6_init 26 = .ok (.ldc 23, 2) := dk_18 23 (dk_at dksX6_init_1 2 rfl rfl)
theorem dX6_init_28 : decode cX6_init 28 = .ok (.aastore, 1) := dk_83 (dk_at dksX6_init_1 4 rfl rfl)
theorem dX6_init_29 : decode cX6_init 29 = .ok (.dup, 1) := dk_89 (dk_at dksX6_init_1 5 rfl rfl)
theorem dX6_init_30 : decode cX6_init 30 = .ok (.iconst 1, 1) := dk_4 (dk_at dksX6_init_1 6 rfl rfl)
theorem dX6_init_31 : decode cX6_init 31 = .ok (.ldc 25, 2) := dk_18 25 (dk_at dksX6_init_1 7 rfl rfl)
theorem dX6_init_33 : decode cX6_init 33 = .ok (.aastore, 1) := dk_83 (dk_at dksX6_init_1 9 rfl rfl)
theorem dX6_init_34 : decode cX6_init 34 = .ok (.dup, 1) := dk_89 (dk_at dksX6_init_1 10 rfl rfl)
theorem dX6_init_35 : decode cX6_init 35 = .ok (.iconst 2, 1) := dk_5 (dk_at dksX6_init_1 11 rfl rfl)
theorem dX6_init_36 : decode cX6_init 36 = .ok (.ldc 27, 2) := dk_18 27 (dk_at dksX6_init_1 12 rfl rfl)
theorem dX6_init_38 : decode cX6_init 38 = .ok (.aastore, 1) := dk_83 (dk_at dksX6_init_1 14 rfl rfl)
theorem dX6_init_39 : decode cX6_init 39 = .ok (.dup, 1) := dk_89 (dk_at dksX6_init_1 15 rfl rfl)
theorem dX6_init_40 : decode cX6_init 40 = .ok (.iconst 3, 1) := dk_6 (dk_at dksX6_init_1 16 rfl rfl)
theorem dX6_init_41 : decode cX6_init 41 = .ok (.ldc 29, 2) := dk_18 29 (dk_at dksX6_init_1 17 rfl rfl)
theorem dX6_init_43 : decode cX6_init 43 = .ok (.aastore, 1) := dk_83 (dk_at dksX6_init_1 19 rfl rfl)
theorem dX6_init_44 : decode cX6_init 44 = .ok (.dup, 1) := dk_89 (dk_at dksX6_init_1 20 rfl rfl)
theorem dX6_init_45 : decode cX6_init 45 = .ok (.iconst 4, 1) := dk_7 (dk_at dksX6_init_1 21 rfl rfl)
theorem dX6_init_46 : decode cX6_init 46 = .ok (.ldc 31, 2) := dk_18 31 (dk_at dksX6_init_1 22 rfl rfl)
theorem dX6_init_48 : decode cX6_init 48 = .ok (.aastore, 1) := dk_83 (dk_at dksX6_init_2 0 rfl rfl)
theorem dX6_init_49 : decode cX6_init 49 = .ok (.dup, 1) := dk_89 (dk_at dksX6_init_2 1 rfl rfl)
theorem dX6_init_50 : decode cX6_init 50 = .ok (.iconst 5, 1) := dk_8 (dk_at dksX6_init_2 2 rfl rfl)
theorem dX6_init_51 : decode cX6_init 51 = .ok (.ldc 33, 2) := dk_18 33 (dk_at dksX6_init_2 3 rfl rfl)
theorem dX6_init_53 : decode cX6_init 53 = .ok (.aastore, 1) := dk_83 (dk_at dksX6_init_2 5 rfl rfl)
theorem dX6_init_54 : decode cX6_init 54 = .ok (.dup, 1) := dk_89 (dk_at dksX6_init_2 6 rfl rfl)
theorem dX6_init_55 : decode cX6_init 55 = .ok (.bipush 6, 2) := dk_16 6 (dk_at dksX6_init_2 7 rfl rfl)
theorem dX6_init_57 : decode cX6_init 57 = .ok (.ldc 35, 2) := dk_18 35 (dk_at dksX6_init_2 9 rfl rfl)
theorem dX6_init_59 : decode cX6_init 59 = .ok (.aastore, 1) := dk_83 (dk_at dksX6_init_2 11 rfl rfl)
theorem dX6_init_60 : decode cX6_init 60 = .ok (.putfield 37, 3) := dk_181 0 37 (dk_at dksX6_init_2 12 rfl rfl)
theorem dX6_init_63 : decode cX6_init 63 = .ok (.aload_n 0, 1) := dk_42 (dk_at dksX6_init_2 15 rfl rfl)
theorem dX6_init_64 : decode cX6_init 64 = .ok (.iconst 3, 1) := dk_6 (dk_at dksX6_init_2 16 rfl rfl)
theorem dX6_init_65 : decode cX6_init 65 = .ok (.anewarray 21, 3) := dk_189 0 21 (dk_at dksX6_init_2 17 rfl rfl)
theorem dX6_init_68 : decode cX6_init 68 = .ok (.dup, 1) := dk_89 (dk_at dksX6_init_2 20 rfl rfl)
theorem dX6_init_69 : decode cX6_init 69 = .ok (.iconst 0, 1) := dk_3 (dk_at dksX6_init_2 21 rfl rfl)
theorem dX6_init_70 : decode cX6_init 70 = .ok (.ldc 41, 2) := dk_18 41 (dk_at dksX6_init_2 22 rfl rfl)
theorem dX6_init_72 : decode cX6_init 72 = .ok (.aastore, 1) := dk_83 (dk_at dksX6_init_3 0 rfl rfl)
theorem dX6_init_73 : decode cX6_init 73 = .ok (.dup, 1) := dk_89 (dk_at dksX6_init_3 1 rfl rfl)
theorem dX6_init_74 : decode cX6_init 74 = .ok (.iconst 1, 1) := dk_4 (dk_at dksX6_init_3 2 rfl rfl)
theorem dX6_init_75 : decode cX6_init 75 = .ok (.ldc 43, 2) := dk_18 43 (dk_at dksX6_init_3 3 rfl rfl)
theorem dX6_init_77 : decode cX6_init 77 = .ok (.aastore, 1) := dk_83 (dk_at dksX6_init_3 5 rfl rfl)
theorem dX6_init_78 : decode cX6_init 78 = .ok (.dup, 1) := dk_89 (dk_at dksX6_init_3 6 rfl rfl)
theorem dX6_init_79 : decode cX6_init 79 = .ok (.iconst 2, 1) := dk_5 (dk_at dksX6_init_3 7 rfl rfl)
theorem dX6_init_80 : decode cX6_init 80 = .ok (.ldc 45, 2) := dk_18 45 (dk_at dksX6_init_3 8 rfl rfl)
theorem dX6_init_82 : decode cX6_init 82 = .ok (.aastore, 1) := dk_83 (dk_at dksX6_init_3 10 rfl rfl)
theorem dX6_init_83 : decode cX6_init 83 = .ok (.putfield 47, 3) := dk_181 0 47 (dk_at dksX6_init_3 11 rfl rfl)
theorem dX6_init_86 : decode cX6_init 86 = .ok (.return_, 1) := dk_177 (dk_at dksX6_init_3 14 rfl rfl)
abbrev cX6_read : ByteArray := prog_18_method_2_code
def yX6_read : MethodName := ⟨RX6, "read", "()LExamSlips$Text;"⟩
def dkwX6_read_4 : List UInt8 := [45, 3, 28, 184, 0, 88, 187, 0, 94, 89, 45, 183, 0, 96, 176]
abbrev dktX6_read_4 : List UInt8 := dkwX6_read_4 ++ []
def dkwX6_read_3 : List UInt8 := [180, 0, 3, 180, 0, 85, 160, 0, 7, 4, 167, 0, 4, 3, 182, 0, 68, 28, 189, 0, 50, 78, 43, 3]
abbrev dktX6_read_3 : List UInt8 := dkwX6_read_3 ++ dktX6_read_4
def dkwX6_read_2 : List UInt8 := [28, 42, 182, 0, 72, 83, 132, 2, 1, 42, 18, 76, 182, 0, 78, 154, 255, 225, 42, 42, 180, 0, 82, 42]
abbrev dktX6_read_2 : List UInt8 := dkwX6_read_2 ++ dktX6_read_3
def dkwX6_read_1 : List UInt8 := [3, 181, 0, 62, 42, 182, 0, 65, 42, 28, 16, 12, 162, 0, 7, 4, 167, 0, 4, 3, 182, 0, 68, 43]
abbrev dktX6_read_1 : List UInt8 := dkwX6_read_1 ++ dktX6_read_2
def dkwX6_read_0 : List UInt8 := [16, 12, 189, 0, 50, 76, 3, 61, 42, 3, 181, 0, 52, 42, 3, 181, 0, 56, 42, 3, 181, 0, 59, 42]
abbrev dktX6_read_0 : List UInt8 := dkwX6_read_0 ++ dktX6_read_1
theorem dksX6_read_0 : cX6_read.data.toList.drop 0 = dktX6_read_0 := by decide +kernel
theorem dksX6_read_1 : cX6_read.data.toList.drop 24 = dktX6_read_1 := dk_seg dksX6_read_0 24 rfl rfl
theorem dksX6_read_2 : cX6_read.data.toList.drop 48 = dktX6_read_2 := dk_seg dksX6_read_1 24 rfl rfl
theorem dksX6_read_3 : cX6_read.data.toList.drop 72 = dktX6_read_3 := dk_seg dksX6_read_2 24 rfl rfl
theorem dksX6_read_4 : cX6_read.data.toList.drop 96 = dktX6_read_4 := dk_seg dksX6_read_3 24 rfl rfl
theorem dX6_read_0 : decode cX6_read 0 = .ok (.bipush 12, 2) := dk_16 12 (dk_at dksX6_read_0 0 rfl rfl)
theorem dX6_read_2 : decode cX6_read 2 = .ok (.anewarray 50, 3) := dk_189 0 50 (dk_at dksX6_read_0 2 rfl rfl)
theorem dX6_read_5 : decode cX6_read 5 = .ok (.astore_n 1, 1) := dk_76 (dk_at dksX6_read_0 5 rfl rfl)
theorem dX6_read_6 : decode cX6_read 6 = .ok (.iconst 0, 1) := dk_3 (dk_at dksX6_read_0 6 rfl rfl)
theorem dX6_read_7 : decode cX6_read 7 = .ok (.istore_n 2, 1) := dk_61 (dk_at dksX6_read_0 7 rfl rfl)
theorem dX6_read_8 : decode cX6_read 8 = .ok (.aload_n 0, 1) := dk_42 (dk_at dksX6_read_0 8 rfl rfl)
theorem dX6_read_9 : decode cX6_read 9 = .ok (.iconst 0, 1) := dk_3 (dk_at dksX6_read_0 9 rfl rfl)
theorem dX6_read_10 : decode cX6_read 10 = .ok (.putfield 52, 3) := dk_181 0 52 (dk_at dksX6_read_0 10 rfl rfl)
theorem dX6_read_13 : decode cX6_read 13 = .ok (.aload_n 0, 1) := dk_42 (dk_at dksX6_read_0 13 rfl rfl)
theorem dX6_read_14 : decode cX6_read 14 = .ok (.iconst 0, 1) := dk_3 (dk_at dksX6_read_0 14 rfl rfl)
theorem dX6_read_15 : decode cX6_read 15 = .ok (.putfield 56, 3) := dk_181 0 56 (dk_at dksX6_read_0 15 rfl rfl)
theorem dX6_read_18 : decode cX6_read 18 = .ok (.aload_n 0, 1) := dk_42 (dk_at dksX6_read_0 18 rfl rfl)
theorem dX6_read_19 : decode cX6_read 19 = .ok (.iconst 0, 1) := dk_3 (dk_at dksX6_read_0 19 rfl rfl)
theorem dX6_read_20 : decode cX6_read 20 = .ok (.putfield 59, 3) := dk_181 0 59 (dk_at dksX6_read_0 20 rfl rfl)
theorem dX6_read_23 : decode cX6_read 23 = .ok (.aload_n 0, 1) := dk_42 (dk_at dksX6_read_0 23 rfl rfl)
theorem dX6_read_24 : decode cX6_read 24 = .ok (.iconst 0, 1) := dk_3 (dk_at dksX6_read_1 0 rfl rfl)
theorem dX6_read_25 : decode cX6_read 25 = .ok (.putfield 62, 3) := dk_181 0 62 (dk_at dksX6_read_1 1 rfl rfl)
theorem dX6_read_28 : decode cX6_read 28 = .ok (.aload_n 0, 1) := dk_42 (dk_at dksX6_read_1 4 rfl rfl)
theorem dX6_read_29 : decode cX6_read 29 = .ok (.invokevirtual 65, 3) := dk_182 0 65 (dk_at dksX6_read_1 5 rfl rfl)
theorem dX6_read_32 : decode cX6_read 32 = .ok (.aload_n 0, 1) := dk_42 (dk_at dksX6_read_1 8 rfl rfl)
theorem dX6_read_33 : decode cX6_read 33 = .ok (.iload_n 2, 1) := dk_28 (dk_at dksX6_read_1 9 rfl rfl)
theorem dX6_read_34 : decode cX6_read 34 = .ok (.bipush 12, 2) := dk_16 12 (dk_at dksX6_read_1 10 rfl rfl)
theorem dX6_read_36 : decode cX6_read 36 = .ok (.if_icmp .ge 7, 3) := dk_162 0 7 (dk_at dksX6_read_1 12 rfl rfl)
theorem dX6_read_39 : decode cX6_read 39 = .ok (.iconst 1, 1) := dk_4 (dk_at dksX6_read_1 15 rfl rfl)
theorem dX6_read_40 : decode cX6_read 40 = .ok (.goto 4, 3) := dk_167 0 4 (dk_at dksX6_read_1 16 rfl rfl)
theorem dX6_read_43 : decode cX6_read 43 = .ok (.iconst 0, 1) := dk_3 (dk_at dksX6_read_1 19 rfl rfl)
theorem dX6_read_44 : decode cX6_read 44 = .ok (.invokevirtual 68, 3) := dk_182 0 68 (dk_at dksX6_read_1 20 rfl rfl)
theorem dX6_read_47 : decode cX6_read 47 = .ok (.aload_n 1, 1) := dk_43 (dk_at dksX6_read_1 23 rfl rfl)
theorem dX6_read_48 : decode cX6_read 48 = .ok (.iload_n 2, 1) := dk_28 (dk_at dksX6_read_2 0 rfl rfl)
theorem dX6_read_49 : decode cX6_read 49 = .ok (.aload_n 0, 1) := dk_42 (dk_at dksX6_read_2 1 rfl rfl)
theorem dX6_read_50 : decode cX6_read 50 = .ok (.invokevirtual 72, 3) := dk_182 0 72 (dk_at dksX6_read_2 2 rfl rfl)
theorem dX6_read_53 : decode cX6_read 53 = .ok (.aastore, 1) := dk_83 (dk_at dksX6_read_2 5 rfl rfl)
theorem dX6_read_54 : decode cX6_read 54 = .ok (.iinc 2 1, 3) := dk_132 2 1 (dk_at dksX6_read_2 6 rfl rfl)
theorem dX6_read_57 : decode cX6_read 57 = .ok (.aload_n 0, 1) := dk_42 (dk_at dksX6_read_2 9 rfl rfl)
theorem dX6_read_58 : decode cX6_read 58 = .ok (.ldc 76, 2) := dk_18 76 (dk_at dksX6_read_2 10 rfl rfl)
theorem dX6_read_60 : decode cX6_read 60 = .ok (.invokevirtual 78, 3) := dk_182 0 78 (dk_at dksX6_read_2 12 rfl rfl)
theorem dX6_read_63 : decode cX6_read 63 = .ok (.ifCond .ne (-31), 3) := dk_154 255 225 (dk_at dksX6_read_2 15 rfl rfl)
theorem dX6_read_66 : decode cX6_read 66 = .ok (.aload_n 0, 1) := dk_42 (dk_at dksX6_read_2 18 rfl rfl)
theorem dX6_read_67 : decode cX6_read 67 = .ok (.aload_n 0, 1) := dk_42 (dk_at dksX6_read_2 19 rfl rfl)
theorem dX6_read_68 : decode cX6_read 68 = .ok (.getfield 82, 3) := dk_180 0 82 (dk_at dksX6_read_2 20 rfl rfl)
theorem dX6_read_71 : decode cX6_read 71 = .ok (.aload_n 0, 1) := dk_42 (dk_at dksX6_read_2 23 rfl rfl)
theorem dX6_read_72 : decode cX6_read 72 = .ok (.getfield 3, 3) := dk_180 0 3 (dk_at dksX6_read_3 0 rfl rfl)
theorem dX6_read_75 : decode cX6_read 75 = .ok (.getfield 85, 3) := dk_180 0 85 (dk_at dksX6_read_3 3 rfl rfl)
theorem dX6_read_78 : decode cX6_read 78 = .ok (.if_icmp .ne 7, 3) := dk_160 0 7 (dk_at dksX6_read_3 6 rfl rfl)
theorem dX6_read_81 : decode cX6_read 81 = .ok (.iconst 1, 1) := dk_4 (dk_at dksX6_read_3 9 rfl rfl)
theorem dX6_read_82 : decode cX6_read 82 = .ok (.goto 4, 3) := dk_167 0 4 (dk_at dksX6_read_3 10 rfl rfl)
theorem dX6_read_85 : decode cX6_read 85 = .ok (.iconst 0, 1) := dk_3 (dk_at dksX6_read_3 13 rfl rfl)
theorem dX6_read_86 : decode cX6_read 86 = .ok (.invokevirtual 68, 3) := dk_182 0 68 (dk_at dksX6_read_3 14 rfl rfl)
theorem dX6_read_89 : decode cX6_read 89 = .ok (.iload_n 2, 1) := dk_28 (dk_at dksX6_read_3 17 rfl rfl)
theorem dX6_read_90 : decode cX6_read 90 = .ok (.anewarray 50, 3) := dk_189 0 50 (dk_at dksX6_read_3 18 rfl rfl)
theorem dX6_read_93 : decode cX6_read 93 = .ok (.astore_n 3, 1) := dk_78 (dk_at dksX6_read_3 21 rfl rfl)
theorem dX6_read_94 : decode cX6_read 94 = .ok (.aload_n 1, 1) := dk_43 (dk_at dksX6_read_3 22 rfl rfl)
theorem dX6_read_95 : decode cX6_read 95 = .ok (.iconst 0, 1) := dk_3 (dk_at dksX6_read_3 23 rfl rfl)
theorem dX6_read_96 : decode cX6_read 96 = .ok (.aload_n 3, 1) := dk_45 (dk_at dksX6_read_4 0 rfl rfl)
theorem dX6_read_97 : decode cX6_read 97 = .ok (.iconst 0, 1) := dk_3 (dk_at dksX6_read_4 1 rfl rfl)
theorem dX6_read_98 : decode cX6_read 98 = .ok (.iload_n 2, 1) := dk_28 (dk_at dksX6_read_4 2 rfl rfl)
theorem dX6_read_99 : decode cX6_read 99 = .ok (.invokestatic 88, 3) := dk_184 0 88 (dk_at dksX6_read_4 3 rfl rfl)
theorem dX6_read_102 : decode cX6_read 102 = .ok (.new 94, 3) := dk_187 0 94 (dk_at dksX6_read_4 6 rfl rfl)
theorem dX6_read_105 : decode cX6_read 105 = .ok (.dup, 1) := dk_89 (dk_at dksX6_read_4 9 rfl rfl)
theorem dX6_read_106 : decode cX6_read 106 = .ok (.aload_n 3, 1) := dk_45 (dk_at dksX6_read_4 10 rfl rfl)
theorem dX6_read_107 : decode cX6_read 107 = .ok (.invokespecial 96, 3) := dk_183 0 96 (dk_at dksX6_read_4 11 rfl rfl)
theorem dX6_read_110 : decode cX6_read 110 = .ok (.areturn, 1) := dk_176 (dk_at dksX6_read_4 14 rfl rfl)
abbrev cX6_next : ByteArray := prog_18_method_3_code
def yX6_next : MethodName := ⟨RX6, "next", "()V"⟩
def dkwX6_next_8 : List UInt8 := [181, 0, 52, 167, 255, 188, 177]
abbrev dktX6_next_8 : List UInt8 := dkwX6_next_8 ++ []
def dkwX6_next_7 : List UInt8 := [180, 0, 3, 180, 0, 99, 42, 180, 0, 52, 51, 184, 0, 107, 153, 0, 16, 42, 89, 180, 0, 52, 4, 96]
abbrev dktX6_next_7 : List UInt8 := dkwX6_next_7 ++ dktX6_next_8
def dkwX6_next_6 : List UInt8 := [180, 0, 3, 180, 0, 99, 42, 180, 0, 52, 51, 184, 0, 103, 154, 0, 25, 28, 153, 0, 34, 42]
abbrev dktX6_next_6 : List UInt8 := dkwX6_next_6 ++ dktX6_next_7
def dkwX6_next_5 : List UInt8 := [181, 0, 52, 42, 180, 0, 52, 42, 180, 0, 3, 180, 0, 85, 162, 0, 60, 27, 153, 0, 21, 42]
abbrev dktX6_next_5 : List UInt8 := dkwX6_next_5 ++ dktX6_next_6
def dkwX6_next_4 : List UInt8 := [180, 0, 3, 180, 0, 99, 42, 180, 0, 52, 51, 184, 0, 107, 61, 42, 89, 180, 0, 52, 4, 96]
abbrev dktX6_next_4 : List UInt8 := dkwX6_next_4 ++ dktX6_next_5
def dkwX6_next_3 : List UInt8 := [180, 0, 85, 160, 0, 4, 177, 42, 180, 0, 3, 180, 0, 99, 42, 180, 0, 52, 51, 184, 0, 103, 60, 42]
abbrev dktX6_next_3 : List UInt8 := dkwX6_next_3 ++ dktX6_next_4
def dkwX6_next_2 : List UInt8 := [181, 0, 82, 167, 255, 215, 42, 42, 180, 0, 82, 181, 0, 52, 42, 180, 0, 52, 42, 180, 0, 3]
abbrev dktX6_next_2 : List UInt8 := dkwX6_next_2 ++ dktX6_next_3
def dkwX6_next_1 : List UInt8 := [180, 0, 3, 180, 0, 99, 42, 180, 0, 82, 51, 16, 32, 160, 0, 16, 42, 89, 180, 0, 82, 4, 96]
abbrev dktX6_next_1 : List UInt8 := dkwX6_next_1 ++ dktX6_next_2
def dkwX6_next_0 : List UInt8 := [42, 42, 180, 0, 52, 181, 0, 82, 42, 180, 0, 82, 42, 180, 0, 3, 180, 0, 85, 162, 0, 33, 42]
abbrev dktX6_next_0 : List UInt8 := dkwX6_next_0 ++ dktX6_next_1
theorem dksX6_next_0 : cX6_next.data.toList.drop 0 = dktX6_next_0 := by decide +kernel
theorem dksX6_next_1 : cX6_next.data.toList.drop 23 = dktX6_next_1 := dk_seg dksX6_next_0 23 rfl rfl
theorem dksX6_next_2 : cX6_next.data.toList.drop 46 = dktX6_next_2 := dk_seg dksX6_next_1 23 rfl rfl
theorem dksX6_next_3 : cX6_next.data.toList.drop 68 = dktX6_next_3 := dk_seg dksX6_next_2 22 rfl rfl
theorem dksX6_next_4 : cX6_next.data.toList.drop 92 = dktX6_next_4 := dk_seg dksX6_next_3 24 rfl rfl
theorem dksX6_next_5 : cX6_next.data.toList.drop 114 = dktX6_next_5 := dk_seg dksX6_next_4 22 rfl rfl
theorem dksX6_next_6 : cX6_next.data.toList.drop 136 = dktX6_next_6 := dk_seg dksX6_next_5 22 rfl rfl
theorem dksX6_next_7 : cX6_next.data.toList.drop 158 = dktX6_next_7 := dk_seg dksX6_next_6 22 rfl rfl
theorem dksX6_next_8 : cX6_next.data.toList.drop 182 = dktX6_next_8 := dk_seg dksX6_next_7 24 rfl rfl
theorem dX6_next_0 : decode cX6_next 0 = .ok (.aload_n 0, 1) := dk_42 (dk_at dksX6_next_0 0 rfl rfl)
theorem dX6_next_1 : decode cX6_next 1 = .ok (.aload_n 0, 1) := dk_42 (dk_at dksX6_next_0 1 rfl rfl)
theorem dX6_next_2 : decode cX6_next 2 = .ok (.getfield 52, 3) := dk_180 0 52 (dk_at dksX6_next_0 2 rfl rfl)
theorem dX6_next_5 : decode cX6_next 5 = .ok (.putfield 82, 3) := dk_181 0 82 (dk_at dksX6_next_0 5 rfl rfl)
theorem dX6_next_8 : decode cX6_next 8 = .ok (.aload_n 0, 1) := dk_42 (dk_at dksX6_next_0 8 rfl rfl)
theorem dX6_next_9 : decode cX6_next 9 = .ok (.getfield 82, 3) := dk_180 0 82 (dk_at dksX6_next_0 9 rfl rfl)
theorem dX6_next_12 : decode cX6_next 12 = .ok (.aload_n 0, 1) := dk_42 (dk_at dksX6_next_0 12 rfl rfl)
theorem dX6_next_13 : decode cX6_next 13 = .ok (.getfield 3, 3) := dk_180 0 3 (dk_at dksX6_next_0 13 rfl rfl)
theorem dX6_next_16 : decode cX6_next 16 = .ok (.getfield 85, 3) := dk_180 0 85 (dk_at dksX6_next_0 16 rfl rfl)
theorem dX6_next_19 : decode cX6_next 19 = .ok (.if_icmp .ge 33, 3) := dk_162 0 33 (dk_at dksX6_next_0 19 rfl rfl)
theorem dX6_next_22 : decode cX6_next 22 = .ok (.aload_n 0, 1) := dk_42 (dk_at dksX6_next_0 22 rfl rfl)
theorem dX6_next_23 : decode cX6_next 23 = .ok (.getfield 3, 3) := dk_180 0 3 (dk_at dksX6_next_1 0 rfl rfl)
theorem dX6_next_26 : decode cX6_next 26 = .ok (.getfield 99, 3) := dk_180 0 99 (dk_at dksX6_next_1 3 rfl rfl)
theorem dX6_next_29 : decode cX6_next 29 = .ok (.aload_n 0, 1) := dk_42 (dk_at dksX6_next_1 6 rfl rfl)
theorem dX6_next_30 : decode cX6_next 30 = .ok (.getfield 82, 3) := dk_180 0 82 (dk_at dksX6_next_1 7 rfl rfl)
theorem dX6_next_33 : decode cX6_next 33 = .ok (.baload, 1) := dk_51 (dk_at dksX6_next_1 10 rfl rfl)
theorem dX6_next_34 : decode cX6_next 34 = .ok (.bipush 32, 2) := dk_16 32 (dk_at dksX6_next_1 11 rfl rfl)
theorem dX6_next_36 : decode cX6_next 36 = .ok (.if_icmp .ne 16, 3) := dk_160 0 16 (dk_at dksX6_next_1 13 rfl rfl)
theorem dX6_next_39 : decode cX6_next 39 = .ok (.aload_n 0, 1) := dk_42 (dk_at dksX6_next_1 16 rfl rfl)
theorem dX6_next_40 : decode cX6_next 40 = .ok (.dup, 1) := dk_89 (dk_at dksX6_next_1 17 rfl rfl)
theorem dX6_next_41 : decode cX6_next 41 = .ok (.getfield 82, 3) := dk_180 0 82 (dk_at dksX6_next_1 18 rfl rfl)
theorem dX6_next_44 : decode cX6_next 44 = .ok (.iconst 1, 1) := dk_4 (dk_at dksX6_next_1 21 rfl rfl)
theorem dX6_next_45 : decode cX6_next 45 = .ok (.iadd, 1) := dk_96 (dk_at dksX6_next_1 22 rfl rfl)
theorem dX6_next_46 : decode cX6_next 46 = .ok (.putfield 82, 3) := dk_181 0 82 (dk_at dksX6_next_2 0 rfl rfl)
theorem dX6_next_49 : decode cX6_next 49 = .ok (.goto (-41), 3) := dk_167 255 215 (dk_at dksX6_next_2 3 rfl rfl)
theorem dX6_next_52 : decode cX6_next 52 = .ok (.aload_n 0, 1) := dk_42 (dk_at dksX6_next_2 6 rfl rfl)
theorem dX6_next_53 : decode cX6_next 53 = .ok (.aload_n 0, 1) := dk_42 (dk_at dksX6_next_2 7 rfl rfl)
theorem dX6_next_54 : decode cX6_next 54 = .ok (.getfield 82, 3) := dk_180 0 82 (dk_at dksX6_next_2 8 rfl rfl)
theorem dX6_next_57 : decode cX6_next 57 = .ok (.putfield 52, 3) := dk_181 0 52 (dk_at dksX6_next_2 11 rfl rfl)
theorem dX6_next_60 : decode cX6_next 60 = .ok (.aload_n 0, 1) := dk_42 (dk_at dksX6_next_2 14 rfl rfl)
theorem dX6_next_61 : decode cX6_next 61 = .ok (.getfield 52, 3) := dk_180 0 52 (dk_at dksX6_next_2 15 rfl rfl)
theorem dX6_next_64 : decode cX6_next 64 = .ok (.aload_n 0, 1) := dk_42 (dk_at dksX6_next_2 18 rfl rfl)
theorem dX6_next_65 : decode cX6_next 65 = .ok (.getfield 3, 3) := dk_180 0 3 (dk_at dksX6_next_2 19 rfl rfl)
theorem dX6_next_68 : decode cX6_next 68 = .ok (.getfield 85, 3) := dk_180 0 85 (dk_at dksX6_next_3 0 rfl rfl)
theorem dX6_next_71 : decode cX6_next 71 = .ok (.if_icmp .ne 4, 3) := dk_160 0 4 (dk_at dksX6_next_3 3 rfl rfl)
theorem dX6_next_74 : decode cX6_next 74 = .ok (.return_, 1) := dk_177 (dk_at dksX6_next_3 6 rfl rfl)
theorem dX6_next_75 : decode cX6_next 75 = .ok (.aload_n 0, 1) := dk_42 (dk_at dksX6_next_3 7 rfl rfl)
theorem dX6_next_76 : decode cX6_next 76 = .ok (.getfield 3, 3) := dk_180 0 3 (dk_at dksX6_next_3 8 rfl rfl)
theorem dX6_next_79 : decode cX6_next 79 = .ok (.getfield 99, 3) := dk_180 0 99 (dk_at dksX6_next_3 11 rfl rfl)
theorem dX6_next_82 : decode cX6_next 82 = .ok (.aload_n 0, 1) := dk_42 (dk_at dksX6_next_3 14 rfl rfl)
theorem dX6_next_83 : decode cX6_next 83 = .ok (.getfield 52, 3) := dk_180 0 52 (dk_at dksX6_next_3 15 rfl rfl)
theorem dX6_next_86 : decode cX6_next 86 = .ok (.baload, 1) := dk_51 (dk_at dksX6_next_3 18 rfl rfl)
theorem dX6_next_87 : decode cX6_next 87 = .ok (.invokestatic 103, 3) := dk_184 0 103 (dk_at dksX6_next_3 19 rfl rfl)
theorem dX6_next_90 : decode cX6_next 90 = .ok (.istore_n 1, 1) := dk_60 (dk_at dksX6_next_3 22 rfl rfl)
theorem dX6_next_91 : decode cX6_next 91 = .ok (.aload_n 0, 1) := dk_42 (dk_at dksX6_next_3 23 rfl rfl)
theorem dX6_next_92 : decode cX6_next 92 = .ok (.getfield 3, 3) := dk_180 0 3 (dk_at dksX6_next_4 0 rfl rfl)
theorem dX6_next_95 : decode cX6_next 95 = .ok (.getfield 99, 3) := dk_180 0 99 (dk_at dksX6_next_4 3 rfl rfl)
theorem dX6_next_98 : decode cX6_next 98 = .ok (.aload_n 0, 1) := dk_42 (dk_at dksX6_next_4 6 rfl rfl)
theorem dX6_next_99 : decode cX6_next 99 = .ok (.getfield 52, 3) := dk_180 0 52 (dk_at dksX6_next_4 7 rfl rfl)
theorem dX6_next_102 : decode cX6_next 102 = .ok (.baload, 1) := dk_51 (dk_at dksX6_next_4 10 rfl rfl)
theorem dX6_next_103 : decode cX6_next 103 = .ok (.invokestatic 107, 3) := dk_184 0 107 (dk_at dksX6_next_4 11 rfl rfl)
theorem dX6_next_106 : decode cX6_next 106 = .ok (.istore_n 2, 1) := dk_61 (dk_at dksX6_next_4 14 rfl rfl)
theorem dX6_next_107 : decode cX6_next 107 = .ok (.aload_n 0, 1) := dk_42 (dk_at dksX6_next_4 15 rfl rfl)
theorem dX6_next_108 : decode cX6_next 108 = .ok (.dup, 1) := dk_89 (dk_at dksX6_next_4 16 rfl rfl)
theorem dX6_next_109 : decode cX6_next 109 = .ok (.getfield 52, 3) := dk_180 0 52 (dk_at dksX6_next_4 17 rfl rfl)
theorem dX6_next_112 : decode cX6_next 112 = .ok (.iconst 1, 1) := dk_4 (dk_at dksX6_next_4 20 rfl rfl)
theorem dX6_next_113 : decode cX6_next 113 = .ok (.iadd, 1) := dk_96 (dk_at dksX6_next_4 21 rfl rfl)
theorem dX6_next_114 : decode cX6_next 114 = .ok (.putfield 52, 3) := dk_181 0 52 (dk_at dksX6_next_5 0 rfl rfl)
theorem dX6_next_117 : decode cX6_next 117 = .ok (.aload_n 0, 1) := dk_42 (dk_at dksX6_next_5 3 rfl rfl)
theorem dX6_next_118 : decode cX6_next 118 = .ok (.getfield 52, 3) := dk_180 0 52 (dk_at dksX6_next_5 4 rfl rfl)
theorem dX6_next_121 : decode cX6_next 121 = .ok (.aload_n 0, 1) := dk_42 (dk_at dksX6_next_5 7 rfl rfl)
theorem dX6_next_122 : decode cX6_next 122 = .ok (.getfield 3, 3) := dk_180 0 3 (dk_at dksX6_next_5 8 rfl rfl)
theorem dX6_next_125 : decode cX6_next 125 = .ok (.getfield 85, 3) := dk_180 0 85 (dk_at dksX6_next_5 11 rfl rfl)
theorem dX6_next_128 : decode cX6_next 128 = .ok (.if_icmp .ge 60, 3) := dk_162 0 60 (dk_at dksX6_next_5 14 rfl rfl)
theorem dX6_next_131 : decode cX6_next 131 = .ok (.iload_n 1, 1) := dk_27 (dk_at dksX6_next_5 17 rfl rfl)
theorem dX6_next_132 : decode cX6_next 132 = .ok (.ifCond .eq 21, 3) := dk_153 0 21 (dk_at dksX6_next_5 18 rfl rfl)
theorem dX6_next_135 : decode cX6_next 135 = .ok (.aload_n 0, 1) := dk_42 (dk_at dksX6_next_5 21 rfl rfl)
theorem dX6_next_136 : decode cX6_next 136 = .ok (.getfield 3, 3) := dk_180 0 3 (dk_at dksX6_next_6 0 rfl rfl)
theorem dX6_next_139 : decode cX6_next 139 = .ok (.getfield 99, 3) := dk_180 0 99 (dk_at dksX6_next_6 3 rfl rfl)
theorem dX6_next_142 : decode cX6_next 142 = .ok (.aload_n 0, 1) := dk_42 (dk_at dksX6_next_6 6 rfl rfl)
theorem dX6_next_143 : decode cX6_next 143 = .ok (.getfield 52, 3) := dk_180 0 52 (dk_at dksX6_next_6 7 rfl rfl)
theorem dX6_next_146 : decode cX6_next 146 = .ok (.baload, 1) := dk_51 (dk_at dksX6_next_6 10 rfl rfl)
theorem dX6_next_147 : decode cX6_next 147 = .ok (.invokestatic 103, 3) := dk_184 0 103 (dk_at dksX6_next_6 11 rfl rfl)
theorem dX6_next_150 : decode cX6_next 150 = .ok (.ifCond .ne 25, 3) := dk_154 0 25 (dk_at dksX6_next_6 14 rfl rfl)
theorem dX6_next_153 : decode cX6_next 153 = .ok (.iload_n 2, 1) := dk_28 (dk_at dksX6_next_6 17 rfl rfl)
theorem dX6_next_154 : decode cX6_next 154 = .ok (.ifCond .eq 34, 3) := dk_153 0 34 (dk_at dksX6_next_6 18 rfl rfl)
theorem dX6_next_157 : decode cX6_next 157 = .ok (.aload_n 0, 1) := dk_42 (dk_at dksX6_next_6 21 rfl rfl)
theorem dX6_next_158 : decode cX6_next 158 = .ok (.getfield 3, 3) := dk_180 0 3 (dk_at dksX6_next_7 0 rfl rfl)
theorem dX6_next_161 : decode cX6_next 161 = .ok (.getfield 99, 3) := dk_180 0 99 (dk_at dksX6_next_7 3 rfl rfl)
theorem dX6_next_164 : decode cX6_next 164 = .ok (.aload_n 0, 1) := dk_42 (dk_at dksX6_next_7 6 rfl rfl)
theorem dX6_next_165 : decode cX6_next 165 = .ok (.getfield 52, 3) := dk_180 0 52 (dk_at dksX6_next_7 7 rfl rfl)
theorem dX6_next_168 : decode cX6_next 168 = .ok (.baload, 1) := dk_51 (dk_at dksX6_next_7 10 rfl rfl)
theorem dX6_next_169 : decode cX6_next 169 = .ok (.invokestatic 107, 3) := dk_184 0 107 (dk_at dksX6_next_7 11 rfl rfl)
theorem dX6_next_172 : decode cX6_next 172 = .ok (.ifCond .eq 16, 3) := dk_153 0 16 (dk_at dksX6_next_7 14 rfl rfl)
theorem dX6_next_175 : decode cX6_next 175 = .ok (.aload_n 0, 1) := dk_42 (dk_at dksX6_next_7 17 rfl rfl)
theorem dX6_next_176 : decode cX6_next 176 = .ok (.dup, 1) := dk_89 (dk_at dksX6_next_7 18 rfl rfl)
theorem dX6_next_177 : decode cX6_next 177 = .ok (.getfield 52, 3) := dk_180 0 52 (dk_at dksX6_next_7 19 rfl rfl)
theorem dX6_next_180 : decode cX6_next 180 = .ok (.iconst 1, 1) := dk_4 (dk_at dksX6_next_7 22 rfl rfl)
theorem dX6_next_181 : decode cX6_next 181 = .ok (.iadd, 1) := dk_96 (dk_at dksX6_next_7 23 rfl rfl)
theorem dX6_next_182 : decode cX6_next 182 = .ok (.putfield 52, 3) := dk_181 0 52 (dk_at dksX6_next_8 0 rfl rfl)
theorem dX6_next_185 : decode cX6_next 185 = .ok (.goto (-68), 3) := dk_167 255 188 (dk_at dksX6_next_8 3 rfl rfl)
theorem dX6_next_188 : decode cX6_next 188 = .ok (.return_, 1) := dk_177 (dk_at dksX6_next_8 6 rfl rfl)
abbrev cX6_must : ByteArray := prog_18_method_7_code
def yX6_must : MethodName := ⟨RX6, "must", "(Z)V"⟩
def dkwX6_must_0 : List UInt8 := [27, 154, 0, 15, 187, 0, 121, 89, 42, 180, 0, 82, 183, 0, 123, 191, 177]
abbrev dktX6_must_0 : List UInt8 := dkwX6_must_0 ++ []
theorem dksX6_must_0 : cX6_must.data.toList.drop 0 = dktX6_must_0 := by decide +kernel
theorem dX6_must_0 : decode cX6_must 0 = .ok (.iload_n 1, 1) := dk_27 (dk_at dksX6_must_0 0 rfl rfl)
theorem dX6_must_1 : decode cX6_must 1 = .ok (.ifCond .ne 15, 3) := dk_154 0 15 (dk_at dksX6_must_0 1 rfl rfl)
theorem dX6_must_4 : decode cX6_must 4 = .ok (.new 121, 3) := dk_187 0 121 (dk_at dksX6_must_0 4 rfl rfl)
theorem dX6_must_7 : decode cX6_must 7 = .ok (.dup, 1) := dk_89 (dk_at dksX6_must_0 7 rfl rfl)
theorem dX6_must_8 : decode cX6_must 8 = .ok (.aload_n 0, 1) := dk_42 (dk_at dksX6_must_0 8 rfl rfl)
theorem dX6_must_9 : decode cX6_must 9 = .ok (.getfield 82, 3) := dk_180 0 82 (dk_at dksX6_must_0 9 rfl rfl)
theorem dX6_must_12 : decode cX6_must 12 = .ok (.invokespecial 123, 3) := dk_183 0 123 (dk_at dksX6_must_0 12 rfl rfl)
theorem dX6_must_15 : decode cX6_must 15 = .ok (.athrow, 1) := dk_191 (dk_at dksX6_must_0 15 rfl rfl)
theorem dX6_must_16 : decode cX6_must 16 = .ok (.return_, 1) := dk_177 (dk_at dksX6_must_0 16 rfl rfl)
abbrev cX6_clause : ByteArray := prog_18_method_9_code
def yX6_clause : MethodName := ⟨RX6, "clause", "()LExamSlips$Clause;"⟩
def dkwX6_clause_2 : List UInt8 := [1, 78, 187, 0, 50, 89, 27, 44, 45, 183, 0, 140, 176]
abbrev dktX6_clause_2 : List UInt8 := dkwX6_clause_2 ++ []
def dkwX6_clause_1 : List UInt8 := [182, 0, 65, 42, 182, 0, 130, 77, 42, 18, 134, 182, 0, 78, 153, 0, 10, 42, 182, 0, 136, 167, 0, 4]
abbrev dktX6_clause_1 : List UInt8 := dkwX6_clause_1 ++ dktX6_clause_2
def dkwX6_clause_0 : List UInt8 := [42, 42, 180, 0, 47, 182, 0, 126, 60, 42, 27, 2, 159, 0, 7, 4, 167, 0, 4, 3, 182, 0, 68, 42]
abbrev dktX6_clause_0 : List UInt8 := dkwX6_clause_0 ++ dktX6_clause_1
theorem dksX6_clause_0 : cX6_clause.data.toList.drop 0 = dktX6_clause_0 := by decide +kernel
theorem dksX6_clause_1 : cX6_clause.data.toList.drop 24 = dktX6_clause_1 := dk_seg dksX6_clause_0 24 rfl rfl
theorem dksX6_clause_2 : cX6_clause.data.toList.drop 48 = dktX6_clause_2 := dk_seg dksX6_clause_1 24 rfl rfl
theorem dX6_clause_0 : decode cX6_clause 0 = .ok (.aload_n 0, 1) := dk_42 (dk_at dksX6_clause_0 0 rfl rfl)
theorem dX6_clause_1 : decode cX6_clause 1 = .ok (.aload_n 0, 1) := dk_42 (dk_at dksX6_clause_0 1 rfl rfl)
theorem dX6_clause_2 : decode cX6_clause 2 = .ok (.getfield 47, 3) := dk_180 0 47 (dk_at dksX6_clause_0 2 rfl rfl)
theorem dX6_clause_5 : decode cX6_clause 5 = .ok (.invokevirtual 126, 3) := dk_182 0 126 (dk_at dksX6_clause_0 5 rfl rfl)
theorem dX6_clause_8 : decode cX6_clause 8 = .ok (.istore_n 1, 1) := dk_60 (dk_at dksX6_clause_0 8 rfl rfl)
theorem dX6_clause_9 : decode cX6_clause 9 = .ok (.aload_n 0, 1) := dk_42 (dk_at dksX6_clause_0 9 rfl rfl)
theorem dX6_clause_10 : decode cX6_clause 10 = .ok (.iload_n 1, 1) := dk_27 (dk_at dksX6_clause_0 10 rfl rfl)
theorem dX6_clause_11 : decode cX6_clause 11 = .ok (.iconst (-1), 1) := dk_2 (dk_at dksX6_clause_0 11 rfl rfl)
theorem dX6_clause_12 : decode cX6_clause 12 = .ok (.if_icmp .eq 7, 3) := dk_159 0 7 (dk_at dksX6_clause_0 12 rfl rfl)
theorem dX6_clause_15 : decode cX6_clause 15 = .ok (.iconst 1, 1) := dk_4 (dk_at dksX6_clause_0 15 rfl rfl)
theorem dX6_clause_16 : decode cX6_clause 16 = .ok (.goto 4, 3) := dk_167 0 4 (dk_at dksX6_clause_0 16 rfl rfl)
theorem dX6_clause_19 : decode cX6_clause 19 = .ok (.iconst 0, 1) := dk_3 (dk_at dksX6_clause_0 19 rfl rfl)
theorem dX6_clause_20 : decode cX6_clause 20 = .ok (.invokevirtual 68, 3) := dk_182 0 68 (dk_at dksX6_clause_0 20 rfl rfl)
theorem dX6_clause_23 : decode cX6_clause 23 = .ok (.aload_n 0, 1) := dk_42 (dk_at dksX6_clause_0 23 rfl rfl)
theorem dX6_clause_24 : decode cX6_clause 24 = .ok (.invokevirtual 65, 3) := dk_182 0 65 (dk_at dksX6_clause_1 0 rfl rfl)
theorem dX6_clause_27 : decode cX6_clause 27 = .ok (.aload_n 0, 1) := dk_42 (dk_at dksX6_clause_1 3 rfl rfl)
theorem dX6_clause_28 : decode cX6_clause 28 = .ok (.invokevirtual 130, 3) := dk_182 0 130 (dk_at dksX6_clause_1 4 rfl rfl)
theorem dX6_clause_31 : decode cX6_clause 31 = .ok (.astore_n 2, 1) := dk_77 (dk_at dksX6_clause_1 7 rfl rfl)
theorem dX6_clause_32 : decode cX6_clause 32 = .ok (.aload_n 0, 1) := dk_42 (dk_at dksX6_clause_1 8 rfl rfl)
theorem dX6_clause_33 : decode cX6_clause 33 = .ok (.ldc 134, 2) := dk_18 134 (dk_at dksX6_clause_1 9 rfl rfl)
theorem dX6_clause_35 : decode cX6_clause 35 = .ok (.invokevirtual 78, 3) := dk_182 0 78 (dk_at dksX6_clause_1 11 rfl rfl)
theorem dX6_clause_38 : decode cX6_clause 38 = .ok (.ifCond .eq 10, 3) := dk_153 0 10 (dk_at dksX6_clause_1 14 rfl rfl)
theorem dX6_clause_41 : decode cX6_clause 41 = .ok (.aload_n 0, 1) := dk_42 (dk_at dksX6_clause_1 17 rfl rfl)
theorem dX6_clause_42 : decode cX6_clause 42 = .ok (.invokevirtual 136, 3) := dk_182 0 136 (dk_at dksX6_clause_1 18 rfl rfl)
theorem dX6_clause_45 : decode cX6_clause 45 = .ok (.goto 4, 3) := dk_167 0 4 (dk_at dksX6_clause_1 21 rfl rfl)
theorem dX6_clause_48 : decode cX6_clause 48 = .ok (.aconst_null, 1) := dk_1 (dk_at dksX6_clause_2 0 rfl rfl)
theorem dX6_clause_49 : decode cX6_clause 49 = .ok (.astore_n 3, 1) := dk_78 (dk_at dksX6_clause_2 1 rfl rfl)
theorem dX6_clause_50 : decode cX6_clause 50 = .ok (.new 50, 3) := dk_187 0 50 (dk_at dksX6_clause_2 2 rfl rfl)
theorem dX6_clause_53 : decode cX6_clause 53 = .ok (.dup, 1) := dk_89 (dk_at dksX6_clause_2 5 rfl rfl)
theorem dX6_clause_54 : decode cX6_clause 54 = .ok (.iload_n 1, 1) := dk_27 (dk_at dksX6_clause_2 6 rfl rfl)
theorem dX6_clause_55 : decode cX6_clause 55 = .ok (.aload_n 2, 1) := dk_44 (dk_at dksX6_clause_2 7 rfl rfl)
theorem dX6_clause_56 : decode cX6_clause 56 = .ok (.aload_n 3, 1) := dk_45 (dk_at dksX6_clause_2 8 rfl rfl)
theorem dX6_clause_57 : decode cX6_clause 57 = .ok (.invokespecial 140, 3) := dk_183 0 140 (dk_at dksX6_clause_2 9 rfl rfl)
theorem dX6_clause_60 : decode cX6_clause 60 = .ok (.areturn, 1) := dk_176 (dk_at dksX6_clause_2 12 rfl rfl)
abbrev cX6_which : ByteArray := prog_18_method_5_code
def yX6_which : MethodName := ⟨RX6, "which", "([Ljava/lang/String;)I"⟩
def dkwX6_which_1 : List UInt8 := [167, 255, 235, 2, 172]
abbrev dktX6_which_1 : List UInt8 := dkwX6_which_1 ++ []
def dkwX6_which_0 : List UInt8 := [3, 61, 28, 43, 190, 162, 0, 21, 42, 43, 28, 50, 182, 0, 118, 153, 0, 5, 28, 172, 132, 2, 1]
abbrev dktX6_which_0 : List UInt8 := dkwX6_which_0 ++ dktX6_which_1
theorem dksX6_which_0 : cX6_which.data.toList.drop 0 = dktX6_which_0 := by decide +kernel
theorem dksX6_which_1 : cX6_which.data.toList.drop 23 = dktX6_which_1 := dk_seg dksX6_which_0 23 rfl rfl
theorem dX6_which_0 : decode cX6_which 0 = .ok (.iconst 0, 1) := dk_3 (dk_at dksX6_which_0 0 rfl rfl)
theorem dX6_which_1 : decode cX6_which 1 = .ok (.istore_n 2, 1) := dk_61 (dk_at dksX6_which_0 1 rfl rfl)
theorem dX6_which_2 : decode cX6_which 2 = .ok (.iload_n 2, 1) := dk_28 (dk_at dksX6_which_0 2 rfl rfl)
theorem dX6_which_3 : decode cX6_which 3 = .ok (.aload_n 1, 1) := dk_43 (dk_at dksX6_which_0 3 rfl rfl)
theorem dX6_which_4 : decode cX6_which 4 = .ok (.arraylength, 1) := dk_190 (dk_at dksX6_which_0 4 rfl rfl)
theorem dX6_which_5 : decode cX6_which 5 = .ok (.if_icmp .ge 21, 3) := dk_162 0 21 (dk_at dksX6_which_0 5 rfl rfl)
theorem dX6_which_8 : decode cX6_which 8 = .ok (.aload_n 0, 1) := dk_42 (dk_at dksX6_which_0 8 rfl rfl)
theorem dX6_which_9 : decode cX6_which 9 = .ok (.aload_n 1, 1) := dk_43 (dk_at dksX6_which_0 9 rfl rfl)
theorem dX6_which_10 : decode cX6_which 10 = .ok (.iload_n 2, 1) := dk_28 (dk_at dksX6_which_0 10 rfl rfl)
theorem dX6_which_11 : decode cX6_which 11 = .ok (.aaload, 1) := dk_50 (dk_at dksX6_which_0 11 rfl rfl)
theorem dX6_which_12 : decode cX6_which 12 = .ok (.invokevirtual 118, 3) := dk_182 0 118 (dk_at dksX6_which_0 12 rfl rfl)
theorem dX6_which_15 : decode cX6_which 15 = .ok (.ifCond .eq 5, 3) := dk_153 0 5 (dk_at dksX6_which_0 15 rfl rfl)
theorem dX6_which_18 : decode cX6_which 18 = .ok (.iload_n 2, 1) := dk_28 (dk_at dksX6_which_0 18 rfl rfl)
theorem dX6_which_19 : decode cX6_which 19 = .ok (.ireturn, 1) := dk_172 (dk_at dksX6_which_0 19 rfl rfl)
theorem dX6_which_20 : decode cX6_which 20 = .ok (.iinc 2 1, 3) := dk_132 2 1 (dk_at dksX6_which_0 20 rfl rfl)
theorem dX6_which_23 : decode cX6_which 23 = .ok (.goto (-21), 3) := dk_167 255 235 (dk_at dksX6_which_1 0 rfl rfl)
theorem dX6_which_26 : decode cX6_which 26 = .ok (.iconst (-1), 1) := dk_2 (dk_at dksX6_which_1 3 rfl rfl)
theorem dX6_which_27 : decode cX6_which 27 = .ok (.ireturn, 1) := dk_172 (dk_at dksX6_which_1 4 rfl rfl)
abbrev cX6_isWord : ByteArray := prog_18_method_4_code
def yX6_isWord : MethodName := ⟨RX6, "isWord", "(Ljava/lang/String;)Z"⟩
def dkwX6_isWord_2 : List UInt8 := [182, 0, 114, 159, 0, 5, 3, 172, 132, 2, 1, 167, 255, 221, 4, 172]
abbrev dktX6_isWord_2 : List UInt8 := dkwX6_isWord_2 ++ []
def dkwX6_isWord_1 : List UInt8 := [182, 0, 110, 162, 0, 33, 42, 180, 0, 3, 180, 0, 99, 42, 180, 0, 82, 28, 96, 51, 43, 28]
abbrev dktX6_isWord_1 : List UInt8 := dkwX6_isWord_1 ++ dktX6_isWord_2
def dkwX6_isWord_0 : List UInt8 := [42, 180, 0, 52, 42, 180, 0, 82, 100, 43, 182, 0, 110, 159, 0, 5, 3, 172, 3, 61, 28, 43]
abbrev dktX6_isWord_0 : List UInt8 := dkwX6_isWord_0 ++ dktX6_isWord_1
theorem dksX6_isWord_0 : cX6_isWord.data.toList.drop 0 = dktX6_isWord_0 := by decide +kernel
theorem dksX6_isWord_1 : cX6_isWord.data.toList.drop 22 = dktX6_isWord_1 := dk_seg dksX6_isWord_0 22 rfl rfl
theorem dksX6_isWord_2 : cX6_isWord.data.toList.drop 44 = dktX6_isWord_2 := dk_seg dksX6_isWord_1 22 rfl rfl
theorem dX6_isWord_0 : decode cX6_isWord 0 = .ok (.aload_n 0, 1) := dk_42 (dk_at dksX6_isWord_0 0 rfl rfl)
theorem dX6_isWord_1 : decode cX6_isWord 1 = .ok (.getfield 52, 3) := dk_180 0 52 (dk_at dksX6_isWord_0 1 rfl rfl)
theorem dX6_isWord_4 : decode cX6_isWord 4 = .ok (.aload_n 0, 1) := dk_42 (dk_at dksX6_isWord_0 4 rfl rfl)
theorem dX6_isWord_5 : decode cX6_isWord 5 = .ok (.getfield 82, 3) := dk_180 0 82 (dk_at dksX6_isWord_0 5 rfl rfl)
theorem dX6_isWord_8 : decode cX6_isWord 8 = .ok (.isub, 1) := dk_100 (dk_at dksX6_isWord_0 8 rfl rfl)
theorem dX6_isWord_9 : decode cX6_isWord 9 = .ok (.aload_n 1, 1) := dk_43 (dk_at dksX6_isWord_0 9 rfl rfl)
theorem dX6_isWord_10 : decode cX6_isWord 10 = .ok (.invokevirtual 110, 3) := dk_182 0 110 (dk_at dksX6_isWord_0 10 rfl rfl)
theorem dX6_isWord_13 : decode cX6_isWord 13 = .ok (.if_icmp .eq 5, 3) := dk_159 0 5 (dk_at dksX6_isWord_0 13 rfl rfl)
theorem dX6_isWord_16 : decode cX6_isWord 16 = .ok (.iconst 0, 1) := dk_3 (dk_at dksX6_isWord_0 16 rfl rfl)
theorem dX6_isWord_17 : decode cX6_isWord 17 = .ok (.ireturn, 1) := dk_172 (dk_at dksX6_isWord_0 17 rfl rfl)
theorem dX6_isWord_18 : decode cX6_isWord 18 = .ok (.iconst 0, 1) := dk_3 (dk_at dksX6_isWord_0 18 rfl rfl)
theorem dX6_isWord_19 : decode cX6_isWord 19 = .ok (.istore_n 2, 1) := dk_61 (dk_at dksX6_isWord_0 19 rfl rfl)
theorem dX6_isWord_20 : decode cX6_isWord 20 = .ok (.iload_n 2, 1) := dk_28 (dk_at dksX6_isWord_0 20 rfl rfl)
theorem dX6_isWord_21 : decode cX6_isWord 21 = .ok (.aload_n 1, 1) := dk_43 (dk_at dksX6_isWord_0 21 rfl rfl)
theorem dX6_isWord_22 : decode cX6_isWord 22 = .ok (.invokevirtual 110, 3) := dk_182 0 110 (dk_at dksX6_isWord_1 0 rfl rfl)
theorem dX6_isWord_25 : decode cX6_isWord 25 = .ok (.if_icmp .ge 33, 3) := dk_162 0 33 (dk_at dksX6_isWord_1 3 rfl rfl)
theorem dX6_isWord_28 : decode cX6_isWord 28 = .ok (.aload_n 0, 1) := dk_42 (dk_at dksX6_isWord_1 6 rfl rfl)
theorem dX6_isWord_29 : decode cX6_isWord 29 = .ok (.getfield 3, 3) := dk_180 0 3 (dk_at dksX6_isWord_1 7 rfl rfl)
theorem dX6_isWord_32 : decode cX6_isWord 32 = .ok (.getfield 99, 3) := dk_180 0 99 (dk_at dksX6_isWord_1 10 rfl rfl)
theorem dX6_isWord_35 : decode cX6_isWord 35 = .ok (.aload_n 0, 1) := dk_42 (dk_at dksX6_isWord_1 13 rfl rfl)
theorem dX6_isWord_36 : decode cX6_isWord 36 = .ok (.getfield 82, 3) := dk_180 0 82 (dk_at dksX6_isWord_1 14 rfl rfl)
theorem dX6_isWord_39 : decode cX6_isWord 39 = .ok (.iload_n 2, 1) := dk_28 (dk_at dksX6_isWord_1 17 rfl rfl)
theorem dX6_isWord_40 : decode cX6_isWord 40 = .ok (.iadd, 1) := dk_96 (dk_at dksX6_isWord_1 18 rfl rfl)
theorem dX6_isWord_41 : decode cX6_isWord 41 = .ok (.baload, 1) := dk_51 (dk_at dksX6_isWord_1 19 rfl rfl)
theorem dX6_isWord_42 : decode cX6_isWord 42 = .ok (.aload_n 1, 1) := dk_43 (dk_at dksX6_isWord_1 20 rfl rfl)
theorem dX6_isWord_43 : decode cX6_isWord 43 = .ok (.iload_n 2, 1) := dk_28 (dk_at dksX6_isWord_1 21 rfl rfl)
theorem dX6_isWord_44 : decode cX6_isWord 44 = .ok (.invokevirtual 114, 3) := dk_182 0 114 (dk_at dksX6_isWord_2 0 rfl rfl)
theorem dX6_isWord_47 : decode cX6_isWord 47 = .ok (.if_icmp .eq 5, 3) := dk_159 0 5 (dk_at dksX6_isWord_2 3 rfl rfl)
theorem dX6_isWord_50 : decode cX6_isWord 50 = .ok (.iconst 0, 1) := dk_3 (dk_at dksX6_isWord_2 6 rfl rfl)
theorem dX6_isWord_51 : decode cX6_isWord 51 = .ok (.ireturn, 1) := dk_172 (dk_at dksX6_isWord_2 7 rfl rfl)
theorem dX6_isWord_52 : decode cX6_isWord 52 = .ok (.iinc 2 1, 3) := dk_132 2 1 (dk_at dksX6_isWord_2 8 rfl rfl)
theorem dX6_isWord_55 : decode cX6_isWord 55 = .ok (.goto (-35), 3) := dk_167 255 221 (dk_at dksX6_isWord_2 11 rfl rfl)
theorem dX6_isWord_58 : decode cX6_isWord 58 = .ok (.iconst 1, 1) := dk_4 (dk_at dksX6_isWord_2 14 rfl rfl)
theorem dX6_isWord_59 : decode cX6_isWord 59 = .ok (.ireturn, 1) := dk_172 (dk_at dksX6_isWord_2 15 rfl rfl)
abbrev cX6_sum : ByteArray := prog_18_method_18_code
def yX6_sum : MethodName := ⟨RX6, "sum", "()LExamSlips$Sum;"⟩
def dkwX6_sum_2 : List UInt8 := [182, 0, 194, 183, 0, 203, 76, 167, 255, 207, 43, 176]
abbrev dktX6_sum_2 : List UInt8 := dkwX6_sum_2 ++ []
def dkwX6_sum_1 : List UInt8 := [180, 0, 3, 180, 0, 99, 42, 180, 0, 82, 51, 61, 42, 182, 0, 65, 187, 0, 201, 89, 43, 28, 42]
abbrev dktX6_sum_1 : List UInt8 := dkwX6_sum_1 ++ dktX6_sum_2
def dkwX6_sum_0 : List UInt8 := [42, 182, 0, 194, 76, 42, 18, 197, 182, 0, 118, 154, 0, 12, 42, 18, 199, 182, 0, 118, 153, 0, 37, 42]
abbrev dktX6_sum_0 : List UInt8 := dkwX6_sum_0 ++ dktX6_sum_1
theorem dksX6_sum_0 : cX6_sum.data.toList.drop 0 = dktX6_sum_0 := by decide +kernel
theorem dksX6_sum_1 : cX6_sum.data.toList.drop 24 = dktX6_sum_1 := dk_seg dksX6_sum_0 24 rfl rfl
theorem dksX6_sum_2 : cX6_sum.data.toList.drop 47 = dktX6_sum_2 := dk_seg dksX6_sum_1 23 rfl rfl
theorem dX6_sum_0 : decode cX6_sum 0 = .ok (.aload_n 0, 1) := dk_42 (dk_at dksX6_sum_0 0 rfl rfl)
theorem dX6_sum_1 : decode cX6_sum 1 = .ok (.invokevirtual 194, 3) := dk_182 0 194 (dk_at dksX6_sum_0 1 rfl rfl)
theorem dX6_sum_4 : decode cX6_sum 4 = .ok (.astore_n 1, 1) := dk_76 (dk_at dksX6_sum_0 4 rfl rfl)
theorem dX6_sum_5 : decode cX6_sum 5 = .ok (.aload_n 0, 1) := dk_42 (dk_at dksX6_sum_0 5 rfl rfl)
theorem dX6_sum_6 : decode cX6_sum 6 = .ok (.ldc 197, 2) := dk_18 197 (dk_at dksX6_sum_0 6 rfl rfl)
theorem dX6_sum_8 : decode cX6_sum 8 = .ok (.invokevirtual 118, 3) := dk_182 0 118 (dk_at dksX6_sum_0 8 rfl rfl)
theorem dX6_sum_11 : decode cX6_sum 11 = .ok (.ifCond .ne 12, 3) := dk_154 0 12 (dk_at dksX6_sum_0 11 rfl rfl)
theorem dX6_sum_14 : decode cX6_sum 14 = .ok (.aload_n 0, 1) := dk_42 (dk_at dksX6_sum_0 14 rfl rfl)
theorem dX6_sum_15 : decode cX6_sum 15 = .ok (.ldc 199, 2) := dk_18 199 (dk_at dksX6_sum_0 15 rfl rfl)
theorem dX6_sum_17 : decode cX6_sum 17 = .ok (.invokevirtual 118, 3) := dk_182 0 118 (dk_at dksX6_sum_0 17 rfl rfl)
theorem dX6_sum_20 : decode cX6_sum 20 = .ok (.ifCond .eq 37, 3) := dk_153 0 37 (dk_at dksX6_sum_0 20 rfl rfl)
theorem dX6_sum_23 : decode cX6_sum 23 = .ok (.aload_n 0, 1) := dk_42 (dk_at dksX6_sum_0 23 rfl rfl)
theorem dX6_sum_24 : decode cX6_sum 24 = .ok (.getfield 3, 3) := dk_180 0 3 (dk_at dksX6_sum_1 0 rfl rfl)
theorem dX6_sum_27 : decode cX6_sum 27 = .ok (.getfield 99, 3) := dk_180 0 99 (dk_at dksX6_sum_1 3 rfl rfl)
theorem dX6_sum_30 : decode cX6_sum 30 = .ok (.aload_n 0, 1) := dk_42 (dk_at dksX6_sum_1 6 rfl rfl)
theorem dX6_sum_31 : decode cX6_sum 31 = .ok (.getfield 82, 3) := dk_180 0 82 (dk_at dksX6_sum_1 7 rfl rfl)
theorem dX6_sum_34 : decode cX6_sum 34 = .ok (.baload, 1) := dk_51 (dk_at dksX6_sum_1 10 rfl rfl)
theorem dX6_sum_35 : decode cX6_sum 35 = .ok (.istore_n 2, 1) := dk_61 (dk_at dksX6_sum_1 11 rfl rfl)
theorem dX6_sum_36 : decode cX6_sum 36 = .ok (.aload_n 0, 1) := dk_42 (dk_at dksX6_sum_1 12 rfl rfl)
theorem dX6_sum_37 : decode cX6_sum 37 = .ok (.invokevirtual 65, 3) := dk_182 0 65 (dk_at dksX6_sum_1 13 rfl rfl)
theorem dX6_sum_40 : decode cX6_sum 40 = .ok (.new 201, 3) := dk_187 0 201 (dk_at dksX6_sum_1 16 rfl rfl)
theorem dX6_sum_43 : decode cX6_sum 43 = .ok (.dup, 1) := dk_89 (dk_at dksX6_sum_1 19 rfl rfl)
theorem dX6_sum_44 : decode cX6_sum 44 = .ok (.aload_n 1, 1) := dk_43 (dk_at dksX6_sum_1 20 rfl rfl)
theorem dX6_sum_45 : decode cX6_sum 45 = .ok (.iload_n 2, 1) := dk_28 (dk_at dksX6_sum_1 21 rfl rfl)
theorem dX6_sum_46 : decode cX6_sum 46 = .ok (.aload_n 0, 1) := dk_42 (dk_at dksX6_sum_1 22 rfl rfl)
theorem dX6_sum_47 : decode cX6_sum 47 = .ok (.invokevirtual 194, 3) := dk_182 0 194 (dk_at dksX6_sum_2 0 rfl rfl)
theorem dX6_sum_50 : decode cX6_sum 50 = .ok (.invokespecial 203, 3) := dk_183 0 203 (dk_at dksX6_sum_2 3 rfl rfl)
theorem dX6_sum_53 : decode cX6_sum 53 = .ok (.astore_n 1, 1) := dk_76 (dk_at dksX6_sum_2 6 rfl rfl)
theorem dX6_sum_54 : decode cX6_sum 54 = .ok (.goto (-49), 3) := dk_167 255 207 (dk_at dksX6_sum_2 7 rfl rfl)
theorem dX6_sum_57 : decode cX6_sum 57 = .ok (.aload_n 1, 1) := dk_43 (dk_at dksX6_sum_2 10 rfl rfl)
theorem dX6_sum_58 : decode cX6_sum 58 = .ok (.areturn, 1) := dk_176 (dk_at dksX6_sum_2 11 rfl rfl)
abbrev cX6_term : ByteArray := prog_18_method_19_code
def yX6_term : MethodName := ⟨RX6, "term", "()LExamSlips$Sum;"⟩
def dkwX6_term_2 : List UInt8 := [182, 0, 204, 183, 0, 203, 76, 167, 255, 207, 43, 176]
abbrev dktX6_term_2 : List UInt8 := dkwX6_term_2 ++ []
def dkwX6_term_1 : List UInt8 := [180, 0, 3, 180, 0, 99, 42, 180, 0, 82, 51, 61, 42, 182, 0, 65, 187, 0, 201, 89, 43, 28, 42]
abbrev dktX6_term_1 : List UInt8 := dkwX6_term_1 ++ dktX6_term_2
def dkwX6_term_0 : List UInt8 := [42, 182, 0, 204, 76, 42, 18, 207, 182, 0, 118, 154, 0, 12, 42, 18, 209, 182, 0, 118, 153, 0, 37, 42]
abbrev dktX6_term_0 : List UInt8 := dkwX6_term_0 ++ dktX6_term_1
theorem dksX6_term_0 : cX6_term.data.toList.drop 0 = dktX6_term_0 := by decide +kernel
theorem dksX6_term_1 : cX6_term.data.toList.drop 24 = dktX6_term_1 := dk_seg dksX6_term_0 24 rfl rfl
theorem dksX6_term_2 : cX6_term.data.toList.drop 47 = dktX6_term_2 := dk_seg dksX6_term_1 23 rfl rfl
theorem dX6_term_0 : decode cX6_term 0 = .ok (.aload_n 0, 1) := dk_42 (dk_at dksX6_term_0 0 rfl rfl)
theorem dX6_term_1 : decode cX6_term 1 = .ok (.invokevirtual 204, 3) := dk_182 0 204 (dk_at dksX6_term_0 1 rfl rfl)
theorem dX6_term_4 : decode cX6_term 4 = .ok (.astore_n 1, 1) := dk_76 (dk_at dksX6_term_0 4 rfl rfl)
theorem dX6_term_5 : decode cX6_term 5 = .ok (.aload_n 0, 1) := dk_42 (dk_at dksX6_term_0 5 rfl rfl)
theorem dX6_term_6 : decode cX6_term 6 = .ok (.ldc 207, 2) := dk_18 207 (dk_at dksX6_term_0 6 rfl rfl)
theorem dX6_term_8 : decode cX6_term 8 = .ok (.invokevirtual 118, 3) := dk_182 0 118 (dk_at dksX6_term_0 8 rfl rfl)
theorem dX6_term_11 : decode cX6_term 11 = .ok (.ifCond .ne 12, 3) := dk_154 0 12 (dk_at dksX6_term_0 11 rfl rfl)
theorem dX6_term_14 : decode cX6_term 14 = .ok (.aload_n 0, 1) := dk_42 (dk_at dksX6_term_0 14 rfl rfl)
theorem dX6_term_15 : decode cX6_term 15 = .ok (.ldc 209, 2) := dk_18 209 (dk_at dksX6_term_0 15 rfl rfl)
theorem dX6_term_17 : decode cX6_term 17 = .ok (.invokevirtual 118, 3) := dk_182 0 118 (dk_at dksX6_term_0 17 rfl rfl)
theorem dX6_term_20 : decode cX6_term 20 = .ok (.ifCond .eq 37, 3) := dk_153 0 37 (dk_at dksX6_term_0 20 rfl rfl)
theorem dX6_term_23 : decode cX6_term 23 = .ok (.aload_n 0, 1) := dk_42 (dk_at dksX6_term_0 23 rfl rfl)
theorem dX6_term_24 : decode cX6_term 24 = .ok (.getfield 3, 3) := dk_180 0 3 (dk_at dksX6_term_1 0 rfl rfl)
theorem dX6_term_27 : decode cX6_term 27 = .ok (.getfield 99, 3) := dk_180 0 99 (dk_at dksX6_term_1 3 rfl rfl)
theorem dX6_term_30 : decode cX6_term 30 = .ok (.aload_n 0, 1) := dk_42 (dk_at dksX6_term_1 6 rfl rfl)
theorem dX6_term_31 : decode cX6_term 31 = .ok (.getfield 82, 3) := dk_180 0 82 (dk_at dksX6_term_1 7 rfl rfl)
theorem dX6_term_34 : decode cX6_term 34 = .ok (.baload, 1) := dk_51 (dk_at dksX6_term_1 10 rfl rfl)
theorem dX6_term_35 : decode cX6_term 35 = .ok (.istore_n 2, 1) := dk_61 (dk_at dksX6_term_1 11 rfl rfl)
theorem dX6_term_36 : decode cX6_term 36 = .ok (.aload_n 0, 1) := dk_42 (dk_at dksX6_term_1 12 rfl rfl)
theorem dX6_term_37 : decode cX6_term 37 = .ok (.invokevirtual 65, 3) := dk_182 0 65 (dk_at dksX6_term_1 13 rfl rfl)
theorem dX6_term_40 : decode cX6_term 40 = .ok (.new 201, 3) := dk_187 0 201 (dk_at dksX6_term_1 16 rfl rfl)
theorem dX6_term_43 : decode cX6_term 43 = .ok (.dup, 1) := dk_89 (dk_at dksX6_term_1 19 rfl rfl)
theorem dX6_term_44 : decode cX6_term 44 = .ok (.aload_n 1, 1) := dk_43 (dk_at dksX6_term_1 20 rfl rfl)
theorem dX6_term_45 : decode cX6_term 45 = .ok (.iload_n 2, 1) := dk_28 (dk_at dksX6_term_1 21 rfl rfl)
theorem dX6_term_46 : decode cX6_term 46 = .ok (.aload_n 0, 1) := dk_42 (dk_at dksX6_term_1 22 rfl rfl)
theorem dX6_term_47 : decode cX6_term 47 = .ok (.invokevirtual 204, 3) := dk_182 0 204 (dk_at dksX6_term_2 0 rfl rfl)
theorem dX6_term_50 : decode cX6_term 50 = .ok (.invokespecial 203, 3) := dk_183 0 203 (dk_at dksX6_term_2 3 rfl rfl)
theorem dX6_term_53 : decode cX6_term 53 = .ok (.astore_n 1, 1) := dk_76 (dk_at dksX6_term_2 6 rfl rfl)
theorem dX6_term_54 : decode cX6_term 54 = .ok (.goto (-49), 3) := dk_167 255 207 (dk_at dksX6_term_2 7 rfl rfl)
theorem dX6_term_57 : decode cX6_term 57 = .ok (.aload_n 1, 1) := dk_43 (dk_at dksX6_term_2 10 rfl rfl)
theorem dX6_term_58 : decode cX6_term 58 = .ok (.areturn, 1) := dk_176 (dk_at dksX6_term_2 11 rfl rfl)
abbrev cX6_part : ByteArray := prog_18_method_20_code
def yX6_part : MethodName := ⟨RX6, "part", "()LExamSlips$Sum;"⟩
def dkwX6_part_5 : List UInt8 := [183, 0, 227, 176]
abbrev dktX6_part_5 : List UInt8 := dkwX6_part_5 ++ []
def dkwX6_part_4 : List UInt8 := [42, 17, 3, 232, 182, 0, 220, 183, 0, 224, 176, 42, 182, 0, 215, 42, 182, 0, 65, 187, 0, 225, 89, 27]
abbrev dktX6_part_4 : List UInt8 := dkwX6_part_4 ++ dktX6_part_5
def dkwX6_part_3 : List UInt8 := [153, 0, 7, 4, 167, 0, 4, 3, 182, 0, 68, 27, 2, 160, 0, 22, 42, 182, 0, 215, 187, 0, 218, 89]
abbrev dktX6_part_3 : List UInt8 := dkwX6_part_3 ++ dktX6_part_4
def dkwX6_part_2 : List UInt8 := [180, 0, 3, 180, 0, 85, 162, 0, 25, 42, 180, 0, 3, 180, 0, 99, 42, 180, 0, 82, 51, 184, 0, 107]
abbrev dktX6_part_2 : List UInt8 := dkwX6_part_2 ++ dktX6_part_3
def dkwX6_part_1 : List UInt8 := [43, 176, 42, 42, 180, 0, 37, 182, 0, 126, 60, 42, 27, 2, 160, 0, 35, 42, 180, 0, 82, 42]
abbrev dktX6_part_1 : List UInt8 := dkwX6_part_1 ++ dktX6_part_2
def dkwX6_part_0 : List UInt8 := [42, 18, 211, 182, 0, 118, 153, 0, 20, 42, 182, 0, 170, 42, 182, 0, 130, 76, 42, 18, 213, 182, 0, 175]
abbrev dktX6_part_0 : List UInt8 := dkwX6_part_0 ++ dktX6_part_1
theorem dksX6_part_0 : cX6_part.data.toList.drop 0 = dktX6_part_0 := by decide +kernel
theorem dksX6_part_1 : cX6_part.data.toList.drop 24 = dktX6_part_1 := dk_seg dksX6_part_0 24 rfl rfl
theorem dksX6_part_2 : cX6_part.data.toList.drop 46 = dktX6_part_2 := dk_seg dksX6_part_1 22 rfl rfl
theorem dksX6_part_3 : cX6_part.data.toList.drop 70 = dktX6_part_3 := dk_seg dksX6_part_2 24 rfl rfl
theorem dksX6_part_4 : cX6_part.data.toList.drop 94 = dktX6_part_4 := dk_seg dksX6_part_3 24 rfl rfl
theorem dksX6_part_5 : cX6_part.data.toList.drop 118 = dktX6_part_5 := dk_seg dksX6_part_4 24 rfl rfl
theorem dX6_part_0 : decode cX6_part 0 = .ok (.aload_n 0, 1) := dk_42 (dk_at dksX6_part_0 0 rfl rfl)
theorem dX6_part_1 : decode cX6_part 1 = .ok (.ldc 211, 2) := dk_18 211 (dk_at dksX6_part_0 1 rfl rfl)
theorem dX6_part_3 : decode cX6_part 3 = .ok (.invokevirtual 118, 3) := dk_182 0 118 (dk_at dksX6_part_0 3 rfl rfl)
theorem dX6_part_6 : decode cX6_part 6 = .ok (.ifCond .eq 20, 3) := dk_153 0 20 (dk_at dksX6_part_0 6 rfl rfl)
theorem dX6_part_9 : decode cX6_part 9 = .ok (.aload_n 0, 1) := dk_42 (dk_at dksX6_part_0 9 rfl rfl)
theorem dX6_part_10 : decode cX6_part 10 = .ok (.invokevirtual 170, 3) := dk_182 0 170 (dk_at dksX6_part_0 10 rfl rfl)
theorem dX6_part_13 : decode cX6_part 13 = .ok (.aload_n 0, 1) := dk_42 (dk_at dksX6_part_0 13 rfl rfl)
theorem dX6_part_14 : decode cX6_part 14 = .ok (.invokevirtual 130, 3) := dk_182 0 130 (dk_at dksX6_part_0 14 rfl rfl)
theorem dX6_part_17 : decode cX6_part 17 = .ok (.astore_n 1, 1) := dk_76 (dk_at dksX6_part_0 17 rfl rfl)
theorem dX6_part_18 : decode cX6_part 18 = .ok (.aload_n 0, 1) := dk_42 (dk_at dksX6_part_0 18 rfl rfl)
theorem dX6_part_19 : decode cX6_part 19 = .ok (.ldc 213, 2) := dk_18 213 (dk_at dksX6_part_0 19 rfl rfl)
theorem dX6_part_21 : decode cX6_part 21 = .ok (.invokevirtual 175, 3) := dk_182 0 175 (dk_at dksX6_part_0 21 rfl rfl)
theorem dX6_part_24 : decode cX6_part 24 = .ok (.aload_n 1, 1) := dk_43 (dk_at dksX6_part_1 0 rfl rfl)
theorem dX6_part_25 : decode cX6_part 25 = .ok (.areturn, 1) := dk_176 (dk_at dksX6_part_1 1 rfl rfl)
theorem dX6_part_26 : decode cX6_part 26 = .ok (.aload_n 0, 1) := dk_42 (dk_at dksX6_part_1 2 rfl rfl)
theorem dX6_part_27 : decode cX6_part 27 = .ok (.aload_n 0, 1) := dk_42 (dk_at dksX6_part_1 3 rfl rfl)
theorem dX6_part_28 : decode cX6_part 28 = .ok (.getfield 37, 3) := dk_180 0 37 (dk_at dksX6_part_1 4 rfl rfl)
theorem dX6_part_31 : decode cX6_part 31 = .ok (.invokevirtual 126, 3) := dk_182 0 126 (dk_at dksX6_part_1 7 rfl rfl)
theorem dX6_part_34 : decode cX6_part 34 = .ok (.istore_n 1, 1) := dk_60 (dk_at dksX6_part_1 10 rfl rfl)
theorem dX6_part_35 : decode cX6_part 35 = .ok (.aload_n 0, 1) := dk_42 (dk_at dksX6_part_1 11 rfl rfl)
theorem dX6_part_36 : decode cX6_part 36 = .ok (.iload_n 1, 1) := dk_27 (dk_at dksX6_part_1 12 rfl rfl)
theorem dX6_part_37 : decode cX6_part 37 = .ok (.iconst (-1), 1) := dk_2 (dk_at dksX6_part_1 13 rfl rfl)
theorem dX6_part_38 : decode cX6_part 38 = .ok (.if_icmp .ne 35, 3) := dk_160 0 35 (dk_at dksX6_part_1 14 rfl rfl)
theorem dX6_part_41 : decode cX6_part 41 = .ok (.aload_n 0, 1) := dk_42 (dk_at dksX6_part_1 17 rfl rfl)
theorem dX6_part_42 : decode cX6_part 42 = .ok (.getfield 82, 3) := dk_180 0 82 (dk_at dksX6_part_1 18 rfl rfl)
theorem dX6_part_45 : decode cX6_part 45 = .ok (.aload_n 0, 1) := dk_42 (dk_at dksX6_part_1 21 rfl rfl)
theorem dX6_part_46 : decode cX6_part 46 = .ok (.getfield 3, 3) := dk_180 0 3 (dk_at dksX6_part_2 0 rfl rfl)
theorem dX6_part_49 : decode cX6_part 49 = .ok (.getfield 85, 3) := dk_180 0 85 (dk_at dksX6_part_2 3 rfl rfl)
theorem dX6_part_52 : decode cX6_part 52 = .ok (.if_icmp .ge 25, 3) := dk_162 0 25 (dk_at dksX6_part_2 6 rfl rfl)
theorem dX6_part_55 : decode cX6_part 55 = .ok (.aload_n 0, 1) := dk_42 (dk_at dksX6_part_2 9 rfl rfl)
theorem dX6_part_56 : decode cX6_part 56 = .ok (.getfield 3, 3) := dk_180 0 3 (dk_at dksX6_part_2 10 rfl rfl)
theorem dX6_part_59 : decode cX6_part 59 = .ok (.getfield 99, 3) := dk_180 0 99 (dk_at dksX6_part_2 13 rfl rfl)
theorem dX6_part_62 : decode cX6_part 62 = .ok (.aload_n 0, 1) := dk_42 (dk_at dksX6_part_2 16 rfl rfl)
theorem dX6_part_63 : decode cX6_part 63 = .ok (.getfield 82, 3) := dk_180 0 82 (dk_at dksX6_part_2 17 rfl rfl)
theorem dX6_part_66 : decode cX6_part 66 = .ok (.baload, 1) := dk_51 (dk_at dksX6_part_2 20 rfl rfl)
theorem dX6_part_67 : decode cX6_part 67 = .ok (.invokestatic 107, 3) := dk_184 0 107 (dk_at dksX6_part_2 21 rfl rfl)
theorem dX6_part_70 : decode cX6_part 70 = .ok (.ifCond .eq 7, 3) := dk_153 0 7 (dk_at dksX6_part_3 0 rfl rfl)
theorem dX6_part_73 : decode cX6_part 73 = .ok (.iconst 1, 1) := dk_4 (dk_at dksX6_part_3 3 rfl rfl)
theorem dX6_part_74 : decode cX6_part 74 = .ok (.goto 4, 3) := dk_167 0 4 (dk_at dksX6_part_3 4 rfl rfl)
theorem dX6_part_77 : decode cX6_part 77 = .ok (.iconst 0, 1) := dk_3 (dk_at dksX6_part_3 7 rfl rfl)
theorem dX6_part_78 : decode cX6_part 78 = .ok (.invokevirtual 68, 3) := dk_182 0 68 (dk_at dksX6_part_3 8 rfl rfl)
theorem dX6_part_81 : decode cX6_part 81 = .ok (.iload_n 1, 1) := dk_27 (dk_at dksX6_part_3 11 rfl rfl)
theorem dX6_part_82 : decode cX6_part 82 = .ok (.iconst (-1), 1) := dk_2 (dk_at dksX6_part_3 12 rfl rfl)
theorem dX6_part_83 : decode cX6_part 83 = .ok (.if_icmp .ne 22, 3) := dk_160 0 22 (dk_at dksX6_part_3 13 rfl rfl)
theorem dX6_part_86 : decode cX6_part 86 = .ok (.aload_n 0, 1) := dk_42 (dk_at dksX6_part_3 16 rfl rfl)
theorem dX6_part_87 : decode cX6_part 87 = .ok (.invokevirtual 215, 3) := dk_182 0 215 (dk_at dksX6_part_3 17 rfl rfl)
theorem dX6_part_90 : decode cX6_part 90 = .ok (.new 218, 3) := dk_187 0 218 (dk_at dksX6_part_3 20 rfl rfl)
theorem dX6_part_93 : decode cX6_part 93 = .ok (.dup, 1) := dk_89 (dk_at dksX6_part_3 23 rfl rfl)
theorem dX6_part_94 : decode cX6_part 94 = .ok (.aload_n 0, 1) := dk_42 (dk_at dksX6_part_4 0 rfl rfl)
theorem dX6_part_95 : decode cX6_part 95 = .ok (.sipush 1000, 3) := dk_17 3 232 (dk_at dksX6_part_4 1 rfl rfl)
theorem dX6_part_98 : decode cX6_part 98 = .ok (.invokevirtual 220, 3) := dk_182 0 220 (dk_at dksX6_part_4 4 rfl rfl)
theorem dX6_part_101 : decode cX6_part 101 = .ok (.invokespecial 224, 3) := dk_183 0 224 (dk_at dksX6_part_4 7 rfl rfl)
theorem dX6_part_104 : decode cX6_part 104 = .ok (.areturn, 1) := dk_176 (dk_at dksX6_part_4 10 rfl rfl)
theorem dX6_part_105 : decode cX6_part 105 = .ok (.aload_n 0, 1) := dk_42 (dk_at dksX6_part_4 11 rfl rfl)
theorem dX6_part_106 : decode cX6_part 106 = .ok (.invokevirtual 215, 3) := dk_182 0 215 (dk_at dksX6_part_4 12 rfl rfl)
theorem dX6_part_109 : decode cX6_part 109 = .ok (.aload_n 0, 1) := dk_42 (dk_at dksX6_part_4 15 rfl rfl)
theorem dX6_part_110 : decode cX6_part 110 = .ok (.invokevirtual 65, 3) := dk_182 0 65 (dk_at dksX6_part_4 16 rfl rfl)
theorem dX6_part_113 : decode cX6_part 113 = .ok (.new 225, 3) := dk_187 0 225 (dk_at dksX6_part_4 19 rfl rfl)
theorem dX6_part_116 : decode cX6_part 116 = .ok (.dup, 1) := dk_89 (dk_at dksX6_part_4 22 rfl rfl)
theorem dX6_part_117 : decode cX6_part 117 = .ok (.iload_n 1, 1) := dk_27 (dk_at dksX6_part_4 23 rfl rfl)
theorem dX6_part_118 : decode cX6_part 118 = .ok (.invokespecial 227, 3) := dk_183 0 227 (dk_at dksX6_part_5 0 rfl rfl)
theorem dX6_part_121 : decode cX6_part 121 = .ok (.areturn, 1) := dk_176 (dk_at dksX6_part_5 3 rfl rfl)
abbrev cX6_open : ByteArray := prog_18_method_14_code
def yX6_open : MethodName := ⟨RX6, "open", "()V"⟩
def dkwX6_open_1 : List UInt8 := [96, 181, 0, 59, 42, 182, 0, 65, 177]
abbrev dktX6_open_1 : List UInt8 := dkwX6_open_1 ++ []
def dkwX6_open_0 : List UInt8 := [42, 42, 180, 0, 59, 16, 8, 162, 0, 7, 4, 167, 0, 4, 3, 182, 0, 68, 42, 89, 180, 0, 59, 4]
abbrev dktX6_open_0 : List UInt8 := dkwX6_open_0 ++ dktX6_open_1
theorem dksX6_open_0 : cX6_open.data.toList.drop 0 = dktX6_open_0 := by decide +kernel
theorem dksX6_open_1 : cX6_open.data.toList.drop 24 = dktX6_open_1 := dk_seg dksX6_open_0 24 rfl rfl
theorem dX6_open_0 : decode cX6_open 0 = .ok (.aload_n 0, 1) := dk_42 (dk_at dksX6_open_0 0 rfl rfl)
theorem dX6_open_1 : decode cX6_open 1 = .ok (.aload_n 0, 1) := dk_42 (dk_at dksX6_open_0 1 rfl rfl)
theorem dX6_open_2 : decode cX6_open 2 = .ok (.getfield 59, 3) := dk_180 0 59 (dk_at dksX6_open_0 2 rfl rfl)
theorem dX6_open_5 : decode cX6_open 5 = .ok (.bipush 8, 2) := dk_16 8 (dk_at dksX6_open_0 5 rfl rfl)
theorem dX6_open_7 : decode cX6_open 7 = .ok (.if_icmp .ge 7, 3) := dk_162 0 7 (dk_at dksX6_open_0 7 rfl rfl)
theorem dX6_open_10 : decode cX6_open 10 = .ok (.iconst 1, 1) := dk_4 (dk_at dksX6_open_0 10 rfl rfl)
theorem dX6_open_11 : decode cX6_open 11 = .ok (.goto 4, 3) := dk_167 0 4 (dk_at dksX6_open_0 11 rfl rfl)
theorem dX6_open_14 : decode cX6_open 14 = .ok (.iconst 0, 1) := dk_3 (dk_at dksX6_open_0 14 rfl rfl)
theorem dX6_open_15 : decode cX6_open 15 = .ok (.invokevirtual 68, 3) := dk_182 0 68 (dk_at dksX6_open_0 15 rfl rfl)
theorem dX6_open_18 : decode cX6_open 18 = .ok (.aload_n 0, 1) := dk_42 (dk_at dksX6_open_0 18 rfl rfl)
theorem dX6_open_19 : decode cX6_open 19 = .ok (.dup, 1) := dk_89 (dk_at dksX6_open_0 19 rfl rfl)
theorem dX6_open_20 : decode cX6_open 20 = .ok (.getfield 59, 3) := dk_180 0 59 (dk_at dksX6_open_0 20 rfl rfl)
theorem dX6_open_23 : decode cX6_open 23 = .ok (.iconst 1, 1) := dk_4 (dk_at dksX6_open_0 23 rfl rfl)
theorem dX6_open_24 : decode cX6_open 24 = .ok (.iadd, 1) := dk_96 (dk_at dksX6_open_1 0 rfl rfl)
theorem dX6_open_25 : decode cX6_open 25 = .ok (.putfield 59, 3) := dk_181 0 59 (dk_at dksX6_open_1 1 rfl rfl)
theorem dX6_open_28 : decode cX6_open 28 = .ok (.aload_n 0, 1) := dk_42 (dk_at dksX6_open_1 4 rfl rfl)
theorem dX6_open_29 : decode cX6_open 29 = .ok (.invokevirtual 65, 3) := dk_182 0 65 (dk_at dksX6_open_1 5 rfl rfl)
theorem dX6_open_32 : decode cX6_open 32 = .ok (.return_, 1) := dk_177 (dk_at dksX6_open_1 8 rfl rfl)
abbrev cX6_close : ByteArray := prog_18_method_15_code
def yX6_close : MethodName := ⟨RX6, "close", "(Ljava/lang/String;)V"⟩
def dkwX6_close_0 : List UInt8 := [42, 42, 43, 182, 0, 78, 182, 0, 68, 42, 89, 180, 0, 59, 4, 100, 181, 0, 59, 177]
abbrev dktX6_close_0 : List UInt8 := dkwX6_close_0 ++ []
theorem dksX6_close_0 : cX6_close.data.toList.drop 0 = dktX6_close_0 := by decide +kernel
theorem dX6_close_0 : decode cX6_close 0 = .ok (.aload_n 0, 1) := dk_42 (dk_at dksX6_close_0 0 rfl rfl)
theorem dX6_close_1 : decode cX6_close 1 = .ok (.aload_n 0, 1) := dk_42 (dk_at dksX6_close_0 1 rfl rfl)
theorem dX6_close_2 : decode cX6_close 2 = .ok (.aload_n 1, 1) := dk_43 (dk_at dksX6_close_0 2 rfl rfl)
theorem dX6_close_3 : decode cX6_close 3 = .ok (.invokevirtual 78, 3) := dk_182 0 78 (dk_at dksX6_close_0 3 rfl rfl)
theorem dX6_close_6 : decode cX6_close 6 = .ok (.invokevirtual 68, 3) := dk_182 0 68 (dk_at dksX6_close_0 6 rfl rfl)
theorem dX6_close_9 : decode cX6_close 9 = .ok (.aload_n 0, 1) := dk_42 (dk_at dksX6_close_0 9 rfl rfl)
theorem dX6_close_10 : decode cX6_close 10 = .ok (.dup, 1) := dk_89 (dk_at dksX6_close_0 10 rfl rfl)
theorem dX6_close_11 : decode cX6_close 11 = .ok (.getfield 59, 3) := dk_180 0 59 (dk_at dksX6_close_0 11 rfl rfl)
theorem dX6_close_14 : decode cX6_close 14 = .ok (.iconst 1, 1) := dk_4 (dk_at dksX6_close_0 14 rfl rfl)
theorem dX6_close_15 : decode cX6_close 15 = .ok (.isub, 1) := dk_100 (dk_at dksX6_close_0 15 rfl rfl)
theorem dX6_close_16 : decode cX6_close 16 = .ok (.putfield 59, 3) := dk_181 0 59 (dk_at dksX6_close_0 16 rfl rfl)
theorem dX6_close_19 : decode cX6_close 19 = .ok (.return_, 1) := dk_177 (dk_at dksX6_close_0 19 rfl rfl)
abbrev cX6_accept : ByteArray := prog_18_method_6_code
def yX6_accept : MethodName := ⟨RX6, "accept", "(Ljava/lang/String;)Z"⟩
def dkwX6_accept_0 : List UInt8 := [42, 43, 182, 0, 118, 61, 28, 153, 0, 7, 42, 182, 0, 65, 28, 172]
abbrev dktX6_accept_0 : List UInt8 := dkwX6_accept_0 ++ []
theorem dksX6_accept_0 : cX6_accept.data.toList.drop 0 = dktX6_accept_0 := by decide +kernel
theorem dX6_accept_0 : decode cX6_accept 0 = .ok (.aload_n 0, 1) := dk_42 (dk_at dksX6_accept_0 0 rfl rfl)
theorem dX6_accept_1 : decode cX6_accept 1 = .ok (.aload_n 1, 1) := dk_43 (dk_at dksX6_accept_0 1 rfl rfl)
theorem dX6_accept_2 : decode cX6_accept 2 = .ok (.invokevirtual 118, 3) := dk_182 0 118 (dk_at dksX6_accept_0 2 rfl rfl)
theorem dX6_accept_5 : decode cX6_accept 5 = .ok (.istore_n 2, 1) := dk_61 (dk_at dksX6_accept_0 5 rfl rfl)
theorem dX6_accept_6 : decode cX6_accept 6 = .ok (.iload_n 2, 1) := dk_28 (dk_at dksX6_accept_0 6 rfl rfl)
theorem dX6_accept_7 : decode cX6_accept 7 = .ok (.ifCond .eq 7, 3) := dk_153 0 7 (dk_at dksX6_accept_0 7 rfl rfl)
theorem dX6_accept_10 : decode cX6_accept 10 = .ok (.aload_n 0, 1) := dk_42 (dk_at dksX6_accept_0 10 rfl rfl)
theorem dX6_accept_11 : decode cX6_accept 11 = .ok (.invokevirtual 65, 3) := dk_182 0 65 (dk_at dksX6_accept_0 11 rfl rfl)
theorem dX6_accept_14 : decode cX6_accept 14 = .ok (.iload_n 2, 1) := dk_28 (dk_at dksX6_accept_0 14 rfl rfl)
theorem dX6_accept_15 : decode cX6_accept 15 = .ok (.ireturn, 1) := dk_172 (dk_at dksX6_accept_0 15 rfl rfl)
abbrev cX6_leaf : ByteArray := prog_18_method_16_code
def yX6_leaf : MethodName := ⟨RX6, "leaf", "()V"⟩
def dkwX6_leaf_1 : List UInt8 := [96, 181, 0, 56, 177]
abbrev dktX6_leaf_1 : List UInt8 := dkwX6_leaf_1 ++ []
def dkwX6_leaf_0 : List UInt8 := [42, 42, 180, 0, 56, 16, 50, 162, 0, 7, 4, 167, 0, 4, 3, 182, 0, 68, 42, 89, 180, 0, 56, 4]
abbrev dktX6_leaf_0 : List UInt8 := dkwX6_leaf_0 ++ dktX6_leaf_1
theorem dksX6_leaf_0 : cX6_leaf.data.toList.drop 0 = dktX6_leaf_0 := by decide +kernel
theorem dksX6_leaf_1 : cX6_leaf.data.toList.drop 24 = dktX6_leaf_1 := dk_seg dksX6_leaf_0 24 rfl rfl
theorem dX6_leaf_0 : decode cX6_leaf 0 = .ok (.aload_n 0, 1) := dk_42 (dk_at dksX6_leaf_0 0 rfl rfl)
theorem dX6_leaf_1 : decode cX6_leaf 1 = .ok (.aload_n 0, 1) := dk_42 (dk_at dksX6_leaf_0 1 rfl rfl)
theorem dX6_leaf_2 : decode cX6_leaf 2 = .ok (.getfield 56, 3) := dk_180 0 56 (dk_at dksX6_leaf_0 2 rfl rfl)
theorem dX6_leaf_5 : decode cX6_leaf 5 = .ok (.bipush 50, 2) := dk_16 50 (dk_at dksX6_leaf_0 5 rfl rfl)
theorem dX6_leaf_7 : decode cX6_leaf 7 = .ok (.if_icmp .ge 7, 3) := dk_162 0 7 (dk_at dksX6_leaf_0 7 rfl rfl)
theorem dX6_leaf_10 : decode cX6_leaf 10 = .ok (.iconst 1, 1) := dk_4 (dk_at dksX6_leaf_0 10 rfl rfl)
theorem dX6_leaf_11 : decode cX6_leaf 11 = .ok (.goto 4, 3) := dk_167 0 4 (dk_at dksX6_leaf_0 11 rfl rfl)
theorem dX6_leaf_14 : decode cX6_leaf 14 = .ok (.iconst 0, 1) := dk_3 (dk_at dksX6_leaf_0 14 rfl rfl)
theorem dX6_leaf_15 : decode cX6_leaf 15 = .ok (.invokevirtual 68, 3) := dk_182 0 68 (dk_at dksX6_leaf_0 15 rfl rfl)
theorem dX6_leaf_18 : decode cX6_leaf 18 = .ok (.aload_n 0, 1) := dk_42 (dk_at dksX6_leaf_0 18 rfl rfl)
theorem dX6_leaf_19 : decode cX6_leaf 19 = .ok (.dup, 1) := dk_89 (dk_at dksX6_leaf_0 19 rfl rfl)
theorem dX6_leaf_20 : decode cX6_leaf 20 = .ok (.getfield 56, 3) := dk_180 0 56 (dk_at dksX6_leaf_0 20 rfl rfl)
theorem dX6_leaf_23 : decode cX6_leaf 23 = .ok (.iconst 1, 1) := dk_4 (dk_at dksX6_leaf_0 23 rfl rfl)
theorem dX6_leaf_24 : decode cX6_leaf 24 = .ok (.iadd, 1) := dk_96 (dk_at dksX6_leaf_1 0 rfl rfl)
theorem dX6_leaf_25 : decode cX6_leaf 25 = .ok (.putfield 56, 3) := dk_181 0 56 (dk_at dksX6_leaf_1 1 rfl rfl)
theorem dX6_leaf_28 : decode cX6_leaf 28 = .ok (.return_, 1) := dk_177 (dk_at dksX6_leaf_1 4 rfl rfl)
abbrev cX6_number : ByteArray := prog_18_method_8_code
def yX6_number : MethodName := ⟨RX6, "number", "(I)I"⟩
def dkwX6_number_4 : List UInt8 := [167, 0, 4, 3, 182, 0, 68, 42, 182, 0, 65, 28, 172]
abbrev dktX6_number_4 : List UInt8 := dkwX6_number_4 ++ []
def dkwX6_number_3 : List UInt8 := [180, 0, 99, 29, 51, 96, 16, 48, 100, 61, 132, 3, 1, 167, 255, 222, 42, 28, 27, 163, 0, 7, 4]
abbrev dktX6_number_3 : List UInt8 := dkwX6_number_3 ++ dktX6_number_4
def dkwX6_number_2 : List UInt8 := [62, 29, 42, 180, 0, 52, 162, 0, 32, 28, 27, 163, 0, 27, 16, 10, 28, 104, 42, 180, 0, 3]
abbrev dktX6_number_2 : List UInt8 := dkwX6_number_2 ++ dktX6_number_3
def dkwX6_number_1 : List UInt8 := [180, 0, 82, 51, 184, 0, 107, 153, 0, 7, 4, 167, 0, 4, 3, 182, 0, 68, 3, 61, 42, 180, 0, 82]
abbrev dktX6_number_1 : List UInt8 := dkwX6_number_1 ++ dktX6_number_2
def dkwX6_number_0 : List UInt8 := [42, 42, 180, 0, 82, 42, 180, 0, 3, 180, 0, 85, 162, 0, 25, 42, 180, 0, 3, 180, 0, 99, 42]
abbrev dktX6_number_0 : List UInt8 := dkwX6_number_0 ++ dktX6_number_1
theorem dksX6_number_0 : cX6_number.data.toList.drop 0 = dktX6_number_0 := by decide +kernel
theorem dksX6_number_1 : cX6_number.data.toList.drop 23 = dktX6_number_1 := dk_seg dksX6_number_0 23 rfl rfl
theorem dksX6_number_2 : cX6_number.data.toList.drop 47 = dktX6_number_2 := dk_seg dksX6_number_1 24 rfl rfl
theorem dksX6_number_3 : cX6_number.data.toList.drop 69 = dktX6_number_3 := dk_seg dksX6_number_2 22 rfl rfl
theorem dksX6_number_4 : cX6_number.data.toList.drop 92 = dktX6_number_4 := dk_seg dksX6_number_3 23 rfl rfl
theorem dX6_number_0 : decode cX6_number 0 = .ok (.aload_n 0, 1) := dk_42 (dk_at dksX6_number_0 0 rfl rfl)
theorem dX6_number_1 : decode cX6_number 1 = .ok (.aload_n 0, 1) := dk_42 (dk_at dksX6_number_0 1 rfl rfl)
theorem dX6_number_2 : decode cX6_number 2 = .ok (.getfield 82, 3) := dk_180 0 82 (dk_at dksX6_number_0 2 rfl rfl)
theorem dX6_number_5 : decode cX6_number 5 = .ok (.aload_n 0, 1) := dk_42 (dk_at dksX6_number_0 5 rfl rfl)
theorem dX6_number_6 : decode cX6_number 6 = .ok (.getfield 3, 3) := dk_180 0 3 (dk_at dksX6_number_0 6 rfl rfl)
theorem dX6_number_9 : decode cX6_number 9 = .ok (.getfield 85, 3) := dk_180 0 85 (dk_at dksX6_number_0 9 rfl rfl)
theorem dX6_number_12 : decode cX6_number 12 = .ok (.if_icmp .ge 25, 3) := dk_162 0 25 (dk_at dksX6_number_0 12 rfl rfl)
theorem dX6_number_15 : decode cX6_number 15 = .ok (.aload_n 0, 1) := dk_42 (dk_at dksX6_number_0 15 rfl rfl)
theorem dX6_number_16 : decode cX6_number 16 = .ok (.getfield 3, 3) := dk_180 0 3 (dk_at dksX6_number_0 16 rfl rfl)
theorem dX6_number_19 : decode cX6_number 19 = .ok (.getfield 99, 3) := dk_180 0 99 (dk_at dksX6_number_0 19 rfl rfl)
theorem dX6_number_22 : decode cX6_number 22 = .ok (.aload_n 0, 1) := dk_42 (dk_at dksX6_number_0 22 rfl rfl)
theorem dX6_number_23 : decode cX6_number 23 = .ok (.getfield 82, 3) := dk_180 0 82 (dk_at dksX6_number_1 0 rfl rfl)
theorem dX6_number_26 : decode cX6_number 26 = .ok (.baload, 1) := dk_51 (dk_at dksX6_number_1 3 rfl rfl)
theorem dX6_number_27 : decode cX6_number 27 = .ok (.invokestatic 107, 3) := dk_184 0 107 (dk_at dksX6_number_1 4 rfl rfl)
theorem dX6_number_30 : decode cX6_number 30 = .ok (.ifCond .eq 7, 3) := dk_153 0 7 (dk_at dksX6_number_1 7 rfl rfl)
theorem dX6_number_33 : decode cX6_number 33 = .ok (.iconst 1, 1) := dk_4 (dk_at dksX6_number_1 10 rfl rfl)
theorem dX6_number_34 : decode cX6_number 34 = .ok (.goto 4, 3) := dk_167 0 4 (dk_at dksX6_number_1 11 rfl rfl)
theorem dX6_number_37 : decode cX6_number 37 = .ok (.iconst 0, 1) := dk_3 (dk_at dksX6_number_1 14 rfl rfl)
theorem dX6_number_38 : decode cX6_number 38 = .ok (.invokevirtual 68, 3) := dk_182 0 68 (dk_at dksX6_number_1 15 rfl rfl)
theorem dX6_number_41 : decode cX6_number 41 = .ok (.iconst 0, 1) := dk_3 (dk_at dksX6_number_1 18 rfl rfl)
theorem dX6_number_42 : decode cX6_number 42 = .ok (.istore_n 2, 1) := dk_61 (dk_at dksX6_number_1 19 rfl rfl)
theorem dX6_number_43 : decode cX6_number 43 = .ok (.aload_n 0, 1) := dk_42 (dk_at dksX6_number_1 20 rfl rfl)
theorem dX6_number_44 : decode cX6_number 44 = .ok (.getfield 82, 3) := dk_180 0 82 (dk_at dksX6_number_1 21 rfl rfl)
theorem dX6_number_47 : decode cX6_number 47 = .ok (.istore_n 3, 1) := dk_62 (dk_at dksX6_number_2 0 rfl rfl)
theorem dX6_number_48 : decode cX6_number 48 = .ok (.iload_n 3, 1) := dk_29 (dk_at dksX6_number_2 1 rfl rfl)
theorem dX6_number_49 : decode cX6_number 49 = .ok (.aload_n 0, 1) := dk_42 (dk_at dksX6_number_2 2 rfl rfl)
theorem dX6_number_50 : decode cX6_number 50 = .ok (.getfield 52, 3) := dk_180 0 52 (dk_at dksX6_number_2 3 rfl rfl)
theorem dX6_number_53 : decode cX6_number 53 = .ok (.if_icmp .ge 32, 3) := dk_162 0 32 (dk_at dksX6_number_2 6 rfl rfl)
theorem dX6_number_56 : decode cX6_number 56 = .ok (.iload_n 2, 1) := dk_28 (dk_at dksX6_number_2 9 rfl rfl)
theorem dX6_number_57 : decode cX6_number 57 = .ok (.iload_n 1, 1) := dk_27 (dk_at dksX6_number_2 10 rfl rfl)
theorem dX6_number_58 : decode cX6_number 58 = .ok (.if_icmp .gt 27, 3) := dk_163 0 27 (dk_at dksX6_number_2 11 rfl rfl)
theorem dX6_number_61 : decode cX6_number 61 = .ok (.bipush 10, 2) := dk_16 10 (dk_at dksX6_number_2 14 rfl rfl)
theorem dX6_number_63 : decode cX6_number 63 = .ok (.iload_n 2, 1) := dk_28 (dk_at dksX6_number_2 16 rfl rfl)
theorem dX6_number_64 : decode cX6_number 64 = .ok (.imul, 1) := dk_104 (dk_at dksX6_number_2 17 rfl rfl)
theorem dX6_number_65 : decode cX6_number 65 = .ok (.aload_n 0, 1) := dk_42 (dk_at dksX6_number_2 18 rfl rfl)
theorem dX6_number_66 : decode cX6_number 66 = .ok (.getfield 3, 3) := dk_180 0 3 (dk_at dksX6_number_2 19 rfl rfl)
theorem dX6_number_69 : decode cX6_number 69 = .ok (.getfield 99, 3) := dk_180 0 99 (dk_at dksX6_number_3 0 rfl rfl)
theorem dX6_number_72 : decode cX6_number 72 = .ok (.iload_n 3, 1) := dk_29 (dk_at dksX6_number_3 3 rfl rfl)
theorem dX6_number_73 : decode cX6_number 73 = .ok (.baload, 1) := dk_51 (dk_at dksX6_number_3 4 rfl rfl)
theorem dX6_number_74 : decode cX6_number 74 = .ok (.iadd, 1) := dk_96 (dk_at dksX6_number_3 5 rfl rfl)
theorem dX6_number_75 : decode cX6_number 75 = .ok (.bipush 48, 2) := dk_16 48 (dk_at dksX6_number_3 6 rfl rfl)
theorem dX6_number_77 : decode cX6_number 77 = .ok (.isub, 1) := dk_100 (dk_at dksX6_number_3 8 rfl rfl)
theorem dX6_number_78 : decode cX6_number 78 = .ok (.istore_n 2, 1) := dk_61 (dk_at dksX6_number_3 9 rfl rfl)
theorem dX6_number_79 : decode cX6_number 79 = .ok (.iinc 3 1, 3) := dk_132 3 1 (dk_at dksX6_number_3 10 rfl rfl)
theorem dX6_number_82 : decode cX6_number 82 = .ok (.goto (-34), 3) := dk_167 255 222 (dk_at dksX6_number_3 13 rfl rfl)
theorem dX6_number_85 : decode cX6_number 85 = .ok (.aload_n 0, 1) := dk_42 (dk_at dksX6_number_3 16 rfl rfl)
theorem dX6_number_86 : decode cX6_number 86 = .ok (.iload_n 2, 1) := dk_28 (dk_at dksX6_number_3 17 rfl rfl)
theorem dX6_number_87 : decode cX6_number 87 = .ok (.iload_n 1, 1) := dk_27 (dk_at dksX6_number_3 18 rfl rfl)
theorem dX6_number_88 : decode cX6_number 88 = .ok (.if_icmp .gt 7, 3) := dk_163 0 7 (dk_at dksX6_number_3 19 rfl rfl)
theorem dX6_number_91 : decode cX6_number 91 = .ok (.iconst 1, 1) := dk_4 (dk_at dksX6_number_3 22 rfl rfl)
theorem dX6_number_92 : decode cX6_number 92 = .ok (.goto 4, 3) := dk_167 0 4 (dk_at dksX6_number_4 0 rfl rfl)
theorem dX6_number_95 : decode cX6_number 95 = .ok (.iconst 0, 1) := dk_3 (dk_at dksX6_number_4 3 rfl rfl)
theorem dX6_number_96 : decode cX6_number 96 = .ok (.invokevirtual 68, 3) := dk_182 0 68 (dk_at dksX6_number_4 4 rfl rfl)
theorem dX6_number_99 : decode cX6_number 99 = .ok (.aload_n 0, 1) := dk_42 (dk_at dksX6_number_4 7 rfl rfl)
theorem dX6_number_100 : decode cX6_number 100 = .ok (.invokevirtual 65, 3) := dk_182 0 65 (dk_at dksX6_number_4 8 rfl rfl)
theorem dX6_number_103 : decode cX6_number 103 = .ok (.iload_n 2, 1) := dk_28 (dk_at dksX6_number_4 11 rfl rfl)
theorem dX6_number_104 : decode cX6_number 104 = .ok (.ireturn, 1) := dk_172 (dk_at dksX6_number_4 12 rfl rfl)
abbrev cX6_test : ByteArray := prog_18_method_10_code
def yX6_test : MethodName := ⟨RX6, "test", "()LExamSlips$Test;"⟩
def dkwX6_test_1 : List UInt8 := [182, 0, 143, 182, 0, 146, 167, 255, 239, 42, 3, 27, 182, 0, 152, 176]
abbrev dktX6_test_1 : List UInt8 := dkwX6_test_1 ++ []
def dkwX6_test_0 : List UInt8 := [42, 180, 0, 62, 60, 42, 42, 182, 0, 143, 182, 0, 146, 42, 18, 150, 182, 0, 78, 153, 0, 14, 42, 42]
abbrev dktX6_test_0 : List UInt8 := dkwX6_test_0 ++ dktX6_test_1
theorem dksX6_test_0 : cX6_test.data.toList.drop 0 = dktX6_test_0 := by decide +kernel
theorem dksX6_test_1 : cX6_test.data.toList.drop 24 = dktX6_test_1 := dk_seg dksX6_test_0 24 rfl rfl
theorem dX6_test_0 : decode cX6_test 0 = .ok (.aload_n 0, 1) := dk_42 (dk_at dksX6_test_0 0 rfl rfl)
theorem dX6_test_1 : decode cX6_test 1 = .ok (.getfield 62, 3) := dk_180 0 62 (dk_at dksX6_test_0 1 rfl rfl)
theorem dX6_test_4 : decode cX6_test 4 = .ok (.istore_n 1, 1) := dk_60 (dk_at dksX6_test_0 4 rfl rfl)
theorem dX6_test_5 : decode cX6_test 5 = .ok (.aload_n 0, 1) := dk_42 (dk_at dksX6_test_0 5 rfl rfl)
theorem dX6_test_6 : decode cX6_test 6 = .ok (.aload_n 0, 1) := dk_42 (dk_at dksX6_test_0 6 rfl rfl)
theorem dX6_test_7 : decode cX6_test 7 = .ok (.invokevirtual 143, 3) := dk_182 0 143 (dk_at dksX6_test_0 7 rfl rfl)
theorem dX6_test_10 : decode cX6_test 10 = .ok (.invokevirtual 146, 3) := dk_182 0 146 (dk_at dksX6_test_0 10 rfl rfl)
theorem dX6_test_13 : decode cX6_test 13 = .ok (.aload_n 0, 1) := dk_42 (dk_at dksX6_test_0 13 rfl rfl)
theorem dX6_test_14 : decode cX6_test 14 = .ok (.ldc 150, 2) := dk_18 150 (dk_at dksX6_test_0 14 rfl rfl)
theorem dX6_test_16 : decode cX6_test 16 = .ok (.invokevirtual 78, 3) := dk_182 0 78 (dk_at dksX6_test_0 16 rfl rfl)
theorem dX6_test_19 : decode cX6_test 19 = .ok (.ifCond .eq 14, 3) := dk_153 0 14 (dk_at dksX6_test_0 19 rfl rfl)
theorem dX6_test_22 : decode cX6_test 22 = .ok (.aload_n 0, 1) := dk_42 (dk_at dksX6_test_0 22 rfl rfl)
theorem dX6_test_23 : decode cX6_test 23 = .ok (.aload_n 0, 1) := dk_42 (dk_at dksX6_test_0 23 rfl rfl)
theorem dX6_test_24 : decode cX6_test 24 = .ok (.invokevirtual 143, 3) := dk_182 0 143 (dk_at dksX6_test_1 0 rfl rfl)
theorem dX6_test_27 : decode cX6_test 27 = .ok (.invokevirtual 146, 3) := dk_182 0 146 (dk_at dksX6_test_1 3 rfl rfl)
theorem dX6_test_30 : decode cX6_test 30 = .ok (.goto (-17), 3) := dk_167 255 239 (dk_at dksX6_test_1 6 rfl rfl)
theorem dX6_test_33 : decode cX6_test 33 = .ok (.aload_n 0, 1) := dk_42 (dk_at dksX6_test_1 9 rfl rfl)
theorem dX6_test_34 : decode cX6_test 34 = .ok (.iconst 0, 1) := dk_3 (dk_at dksX6_test_1 10 rfl rfl)
theorem dX6_test_35 : decode cX6_test 35 = .ok (.iload_n 1, 1) := dk_27 (dk_at dksX6_test_1 11 rfl rfl)
theorem dX6_test_36 : decode cX6_test 36 = .ok (.invokevirtual 152, 3) := dk_182 0 152 (dk_at dksX6_test_1 12 rfl rfl)
theorem dX6_test_39 : decode cX6_test 39 = .ok (.areturn, 1) := dk_176 (dk_at dksX6_test_1 15 rfl rfl)
abbrev cX6_both : ByteArray := prog_18_method_11_code
def yX6_both : MethodName := ⟨RX6, "both", "()LExamSlips$Test;"⟩
def dkwX6_both_1 : List UInt8 := [182, 0, 156, 182, 0, 146, 167, 255, 239, 42, 4, 27, 182, 0, 152, 176]
abbrev dktX6_both_1 : List UInt8 := dkwX6_both_1 ++ []
def dkwX6_both_0 : List UInt8 := [42, 180, 0, 62, 60, 42, 42, 182, 0, 156, 182, 0, 146, 42, 18, 159, 182, 0, 78, 153, 0, 14, 42, 42]
abbrev dktX6_both_0 : List UInt8 := dkwX6_both_0 ++ dktX6_both_1
theorem dksX6_both_0 : cX6_both.data.toList.drop 0 = dktX6_both_0 := by decide +kernel
theorem dksX6_both_1 : cX6_both.data.toList.drop 24 = dktX6_both_1 := dk_seg dksX6_both_0 24 rfl rfl
theorem dX6_both_0 : decode cX6_both 0 = .ok (.aload_n 0, 1) := dk_42 (dk_at dksX6_both_0 0 rfl rfl)
theorem dX6_both_1 : decode cX6_both 1 = .ok (.getfield 62, 3) := dk_180 0 62 (dk_at dksX6_both_0 1 rfl rfl)
theorem dX6_both_4 : decode cX6_both 4 = .ok (.istore_n 1, 1) := dk_60 (dk_at dksX6_both_0 4 rfl rfl)
theorem dX6_both_5 : decode cX6_both 5 = .ok (.aload_n 0, 1) := dk_42 (dk_at dksX6_both_0 5 rfl rfl)
theorem dX6_both_6 : decode cX6_both 6 = .ok (.aload_n 0, 1) := dk_42 (dk_at dksX6_both_0 6 rfl rfl)
theorem dX6_both_7 : decode cX6_both 7 = .ok (.invokevirtual 156, 3) := dk_182 0 156 (dk_at dksX6_both_0 7 rfl rfl)
theorem dX6_both_10 : decode cX6_both 10 = .ok (.invokevirtual 146, 3) := dk_182 0 146 (dk_at dksX6_both_0 10 rfl rfl)
theorem dX6_both_13 : decode cX6_both 13 = .ok (.aload_n 0, 1) := dk_42 (dk_at dksX6_both_0 13 rfl rfl)
theorem dX6_both_14 : decode cX6_both 14 = .ok (.ldc 159, 2) := dk_18 159 (dk_at dksX6_both_0 14 rfl rfl)
theorem dX6_both_16 : decode cX6_both 16 = .ok (.invokevirtual 78, 3) := dk_182 0 78 (dk_at dksX6_both_0 16 rfl rfl)
theorem dX6_both_19 : decode cX6_both 19 = .ok (.ifCond .eq 14, 3) := dk_153 0 14 (dk_at dksX6_both_0 19 rfl rfl)
theorem dX6_both_22 : decode cX6_both 22 = .ok (.aload_n 0, 1) := dk_42 (dk_at dksX6_both_0 22 rfl rfl)
theorem dX6_both_23 : decode cX6_both 23 = .ok (.aload_n 0, 1) := dk_42 (dk_at dksX6_both_0 23 rfl rfl)
theorem dX6_both_24 : decode cX6_both 24 = .ok (.invokevirtual 156, 3) := dk_182 0 156 (dk_at dksX6_both_1 0 rfl rfl)
theorem dX6_both_27 : decode cX6_both 27 = .ok (.invokevirtual 146, 3) := dk_182 0 146 (dk_at dksX6_both_1 3 rfl rfl)
theorem dX6_both_30 : decode cX6_both 30 = .ok (.goto (-17), 3) := dk_167 255 239 (dk_at dksX6_both_1 6 rfl rfl)
theorem dX6_both_33 : decode cX6_both 33 = .ok (.aload_n 0, 1) := dk_42 (dk_at dksX6_both_1 9 rfl rfl)
theorem dX6_both_34 : decode cX6_both 34 = .ok (.iconst 1, 1) := dk_4 (dk_at dksX6_both_1 10 rfl rfl)
theorem dX6_both_35 : decode cX6_both 35 = .ok (.iload_n 1, 1) := dk_27 (dk_at dksX6_both_1 11 rfl rfl)
theorem dX6_both_36 : decode cX6_both 36 = .ok (.invokevirtual 152, 3) := dk_182 0 152 (dk_at dksX6_both_1 12 rfl rfl)
theorem dX6_both_39 : decode cX6_both 39 = .ok (.areturn, 1) := dk_176 (dk_at dksX6_both_1 15 rfl rfl)
abbrev cX6_plain : ByteArray := prog_18_method_17_code
def yX6_plain : MethodName := ⟨RX6, "plain", "()LExamSlips$Test;"⟩
def dkwX6_plain_5 : List UInt8 := [182, 0, 130, 183, 0, 187, 77, 27, 153, 0, 14, 187, 0, 190, 89, 44, 183, 0, 192, 167, 0, 4, 44, 176]
abbrev dktX6_plain_5 : List UInt8 := dkwX6_plain_5 ++ []
def dkwX6_plain_4 : List UInt8 := [180, 0, 99, 42, 180, 0, 82, 51, 54, 4, 42, 182, 0, 65, 187, 0, 185, 89, 45, 21, 4, 42]
abbrev dktX6_plain_4 : List UInt8 := dkwX6_plain_4 ++ dktX6_plain_5
def dkwX6_plain_3 : List UInt8 := [154, 0, 12, 42, 18, 183, 182, 0, 118, 153, 0, 7, 4, 167, 0, 4, 3, 182, 0, 68, 42, 180, 0, 3]
abbrev dktX6_plain_3 : List UInt8 := dkwX6_plain_3 ++ dktX6_plain_4
def dkwX6_plain_2 : List UInt8 := [167, 0, 77, 42, 182, 0, 130, 78, 42, 42, 18, 179, 182, 0, 118, 154, 0, 21, 42, 18, 181, 182, 0, 118]
abbrev dktX6_plain_2 : List UInt8 := dkwX6_plain_2 ++ dktX6_plain_3
def dkwX6_plain_1 : List UInt8 := [42, 18, 168, 182, 0, 118, 153, 0, 21, 42, 182, 0, 170, 42, 182, 0, 136, 77, 42, 18, 173, 182, 0, 175]
abbrev dktX6_plain_1 : List UInt8 := dkwX6_plain_1 ++ dktX6_plain_2
def dkwX6_plain_0 : List UInt8 := [3, 60, 42, 18, 166, 182, 0, 78, 153, 0, 16, 27, 154, 0, 7, 4, 167, 0, 4, 3, 60, 167, 255, 237]
abbrev dktX6_plain_0 : List UInt8 := dkwX6_plain_0 ++ dktX6_plain_1
theorem dksX6_plain_0 : cX6_plain.data.toList.drop 0 = dktX6_plain_0 := by decide +kernel
theorem dksX6_plain_1 : cX6_plain.data.toList.drop 24 = dktX6_plain_1 := dk_seg dksX6_plain_0 24 rfl rfl
theorem dksX6_plain_2 : cX6_plain.data.toList.drop 48 = dktX6_plain_2 := dk_seg dksX6_plain_1 24 rfl rfl
theorem dksX6_plain_3 : cX6_plain.data.toList.drop 72 = dktX6_plain_3 := dk_seg dksX6_plain_2 24 rfl rfl
theorem dksX6_plain_4 : cX6_plain.data.toList.drop 96 = dktX6_plain_4 := dk_seg dksX6_plain_3 24 rfl rfl
theorem dksX6_plain_5 : cX6_plain.data.toList.drop 118 = dktX6_plain_5 := dk_seg dksX6_plain_4 22 rfl rfl
theorem dX6_plain_0 : decode cX6_plain 0 = .ok (.iconst 0, 1) := dk_3 (dk_at dksX6_plain_0 0 rfl rfl)
theorem dX6_plain_1 : decode cX6_plain 1 = .ok (.istore_n 1, 1) := dk_60 (dk_at dksX6_plain_0 1 rfl rfl)
theorem dX6_plain_2 : decode cX6_plain 2 = .ok (.aload_n 0, 1) := dk_42 (dk_at dksX6_plain_0 2 rfl rfl)
theorem dX6_plain_3 : decode cX6_plain 3 = .ok (.ldc 166, 2) := dk_18 166 (dk_at dksX6_plain_0 3 rfl rfl)
theorem dX6_plain_5 : decode cX6_plain 5 = .ok (.invokevirtual 78, 3) := dk_182 0 78 (dk_at dksX6_plain_0 5 rfl rfl)
theorem dX6_plain_8 : decode cX6_plain 8 = .ok (.ifCond .eq 16, 3) := dk_153 0 16 (dk_at dksX6_plain_0 8 rfl rfl)
theorem dX6_plain_11 : decode cX6_plain 11 = .ok (.iload_n 1, 1) := dk_27 (dk_at dksX6_plain_0 11 rfl rfl)
theorem dX6_plain_12 : decode cX6_plain 12 = .ok (.ifCond .ne 7, 3) := dk_154 0 7 (dk_at dksX6_plain_0 12 rfl rfl)
theorem dX6_plain_15 : decode cX6_plain 15 = .ok (.iconst 1, 1) := dk_4 (dk_at dksX6_plain_0 15 rfl rfl)
theorem dX6_plain_16 : decode cX6_plain 16 = .ok (.goto 4, 3) := dk_167 0 4 (dk_at dksX6_plain_0 16 rfl rfl)
theorem dX6_plain_19 : decode cX6_plain 19 = .ok (.iconst 0, 1) := dk_3 (dk_at dksX6_plain_0 19 rfl rfl)
theorem dX6_plain_20 : decode cX6_plain 20 = .ok (.istore_n 1, 1) := dk_60 (dk_at dksX6_plain_0 20 rfl rfl)
theorem dX6_plain_21 : decode cX6_plain 21 = .ok (.goto (-19), 3) := dk_167 255 237 (dk_at dksX6_plain_0 21 rfl rfl)
theorem dX6_plain_24 : decode cX6_plain 24 = .ok (.aload_n 0, 1) := dk_42 (dk_at dksX6_plain_1 0 rfl rfl)
theorem dX6_plain_25 : decode cX6_plain 25 = .ok (.ldc 168, 2) := dk_18 168 (dk_at dksX6_plain_1 1 rfl rfl)
theorem dX6_plain_27 : decode cX6_plain 27 = .ok (.invokevirtual 118, 3) := dk_182 0 118 (dk_at dksX6_plain_1 3 rfl rfl)
theorem dX6_plain_30 : decode cX6_plain 30 = .ok (.ifCond .eq 21, 3) := dk_153 0 21 (dk_at dksX6_plain_1 6 rfl rfl)
theorem dX6_plain_33 : decode cX6_plain 33 = .ok (.aload_n 0, 1) := dk_42 (dk_at dksX6_plain_1 9 rfl rfl)
theorem dX6_plain_34 : decode cX6_plain 34 = .ok (.invokevirtual 170, 3) := dk_182 0 170 (dk_at dksX6_plain_1 10 rfl rfl)
theorem dX6_plain_37 : decode cX6_plain 37 = .ok (.aload_n 0, 1) := dk_42 (dk_at dksX6_plain_1 13 rfl rfl)
theorem dX6_plain_38 : decode cX6_plain 38 = .ok (.invokevirtual 136, 3) := dk_182 0 136 (dk_at dksX6_plain_1 14 rfl rfl)
theorem dX6_plain_41 : decode cX6_plain 41 = .ok (.astore_n 2, 1) := dk_77 (dk_at dksX6_plain_1 17 rfl rfl)
theorem dX6_plain_42 : decode cX6_plain 42 = .ok (.aload_n 0, 1) := dk_42 (dk_at dksX6_plain_1 18 rfl rfl)
theorem dX6_plain_43 : decode cX6_plain 43 = .ok (.ldc 173, 2) := dk_18 173 (dk_at dksX6_plain_1 19 rfl rfl)
theorem dX6_plain_45 : decode cX6_plain 45 = .ok (.invokevirtual 175, 3) := dk_182 0 175 (dk_at dksX6_plain_1 21 rfl rfl)
theorem dX6_plain_48 : decode cX6_plain 48 = .ok (.goto 77, 3) := dk_167 0 77 (dk_at dksX6_plain_2 0 rfl rfl)
theorem dX6_plain_51 : decode cX6_plain 51 = .ok (.aload_n 0, 1) := dk_42 (dk_at dksX6_plain_2 3 rfl rfl)
theorem dX6_plain_52 : decode cX6_plain 52 = .ok (.invokevirtual 130, 3) := dk_182 0 130 (dk_at dksX6_plain_2 4 rfl rfl)
theorem dX6_plain_55 : decode cX6_plain 55 = .ok (.astore_n 3, 1) := dk_78 (dk_at dksX6_plain_2 7 rfl rfl)
theorem dX6_plain_56 : decode cX6_plain 56 = .ok (.aload_n 0, 1) := dk_42 (dk_at dksX6_plain_2 8 rfl rfl)
theorem dX6_plain_57 : decode cX6_plain 57 = .ok (.aload_n 0, 1) := dk_42 (dk_at dksX6_plain_2 9 rfl rfl)
theorem dX6_plain_58 : decode cX6_plain 58 = .ok (.ldc 179, 2) := dk_18 179 (dk_at dksX6_plain_2 10 rfl rfl)
theorem dX6_plain_60 : decode cX6_plain 60 = .ok (.invokevirtual 118, 3) := dk_182 0 118 (dk_at dksX6_plain_2 12 rfl rfl)
theorem dX6_plain_63 : decode cX6_plain 63 = .ok (.ifCond .ne 21, 3) := dk_154 0 21 (dk_at dksX6_plain_2 15 rfl rfl)
theorem dX6_plain_66 : decode cX6_plain 66 = .ok (.aload_n 0, 1) := dk_42 (dk_at dksX6_plain_2 18 rfl rfl)
theorem dX6_plain_67 : decode cX6_plain 67 = .ok (.ldc 181, 2) := dk_18 181 (dk_at dksX6_plain_2 19 rfl rfl)
theorem dX6_plain_69 : decode cX6_plain 69 = .ok (.invokevirtual 118, 3) := dk_182 0 118 (dk_at dksX6_plain_2 21 rfl rfl)
theorem dX6_plain_72 : decode cX6_plain 72 = .ok (.ifCond .ne 12, 3) := dk_154 0 12 (dk_at dksX6_plain_3 0 rfl rfl)
theorem dX6_plain_75 : decode cX6_plain 75 = .ok (.aload_n 0, 1) := dk_42 (dk_at dksX6_plain_3 3 rfl rfl)
theorem dX6_plain_76 : decode cX6_plain 76 = .ok (.ldc 183, 2) := dk_18 183 (dk_at dksX6_plain_3 4 rfl rfl)
theorem dX6_plain_78 : decode cX6_plain 78 = .ok (.invokevirtual 118, 3) := dk_182 0 118 (dk_at dksX6_plain_3 6 rfl rfl)
theorem dX6_plain_81 : decode cX6_plain 81 = .ok (.ifCond .eq 7, 3) := dk_153 0 7 (dk_at dksX6_plain_3 9 rfl rfl)
theorem dX6_plain_84 : decode cX6_plain 84 = .ok (.iconst 1, 1) := dk_4 (dk_at dksX6_plain_3 12 rfl rfl)
theorem dX6_plain_85 : decode cX6_plain 85 = .ok (.goto 4, 3) := dk_167 0 4 (dk_at dksX6_plain_3 13 rfl rfl)
theorem dX6_plain_88 : decode cX6_plain 88 = .ok (.iconst 0, 1) := dk_3 (dk_at dksX6_plain_3 16 rfl rfl)
theorem dX6_plain_89 : decode cX6_plain 89 = .ok (.invokevirtual 68, 3) := dk_182 0 68 (dk_at dksX6_plain_3 17 rfl rfl)
theorem dX6_plain_92 : decode cX6_plain 92 = .ok (.aload_n 0, 1) := dk_42 (dk_at dksX6_plain_3 20 rfl rfl)
theorem dX6_plain_93 : decode cX6_plain 93 = .ok (.getfield 3, 3) := dk_180 0 3 (dk_at dksX6_plain_3 21 rfl rfl)
theorem dX6_plain_96 : decode cX6_plain 96 = .ok (.getfield 99, 3) := dk_180 0 99 (dk_at dksX6_plain_4 0 rfl rfl)
theorem dX6_plain_99 : decode cX6_plain 99 = .ok (.aload_n 0, 1) := dk_42 (dk_at dksX6_plain_4 3 rfl rfl)
theorem dX6_plain_100 : decode cX6_plain 100 = .ok (.getfield 82, 3) := dk_180 0 82 (dk_at dksX6_plain_4 4 rfl rfl)
theorem dX6_plain_103 : decode cX6_plain 103 = .ok (.baload, 1) := dk_51 (dk_at dksX6_plain_4 7 rfl rfl)
theorem dX6_plain_104 : decode cX6_plain 104 = .ok (.istore 4, 2) := dk_54 4 (dk_at dksX6_plain_4 8 rfl rfl)
theorem dX6_plain_106 : decode cX6_plain 106 = .ok (.aload_n 0, 1) := dk_42 (dk_at dksX6_plain_4 10 rfl rfl)
theorem dX6_plain_107 : decode cX6_plain 107 = .ok (.invokevirtual 65, 3) := dk_182 0 65 (dk_at dksX6_plain_4 11 rfl rfl)
theorem dX6_plain_110 : decode cX6_plain 110 = .ok (.new 185, 3) := dk_187 0 185 (dk_at dksX6_plain_4 14 rfl rfl)
theorem dX6_plain_113 : decode cX6_plain 113 = .ok (.dup, 1) := dk_89 (dk_at dksX6_plain_4 17 rfl rfl)
theorem dX6_plain_114 : decode cX6_plain 114 = .ok (.aload_n 3, 1) := dk_45 (dk_at dksX6_plain_4 18 rfl rfl)
theorem dX6_plain_115 : decode cX6_plain 115 = .ok (.iload 4, 2) := dk_21 4 (dk_at dksX6_plain_4 19 rfl rfl)
theorem dX6_plain_117 : decode cX6_plain 117 = .ok (.aload_n 0, 1) := dk_42 (dk_at dksX6_plain_4 21 rfl rfl)
theorem dX6_plain_118 : decode cX6_plain 118 = .ok (.invokevirtual 130, 3) := dk_182 0 130 (dk_at dksX6_plain_5 0 rfl rfl)
theorem dX6_plain_121 : decode cX6_plain 121 = .ok (.invokespecial 187, 3) := dk_183 0 187 (dk_at dksX6_plain_5 3 rfl rfl)
theorem dX6_plain_124 : decode cX6_plain 124 = .ok (.astore_n 2, 1) := dk_77 (dk_at dksX6_plain_5 6 rfl rfl)
theorem dX6_plain_125 : decode cX6_plain 125 = .ok (.iload_n 1, 1) := dk_27 (dk_at dksX6_plain_5 7 rfl rfl)
theorem dX6_plain_126 : decode cX6_plain 126 = .ok (.ifCond .eq 14, 3) := dk_153 0 14 (dk_at dksX6_plain_5 8 rfl rfl)
theorem dX6_plain_129 : decode cX6_plain 129 = .ok (.new 190, 3) := dk_187 0 190 (dk_at dksX6_plain_5 11 rfl rfl)
theorem dX6_plain_132 : decode cX6_plain 132 = .ok (.dup, 1) := dk_89 (dk_at dksX6_plain_5 14 rfl rfl)
theorem dX6_plain_133 : decode cX6_plain 133 = .ok (.aload_n 2, 1) := dk_44 (dk_at dksX6_plain_5 15 rfl rfl)
theorem dX6_plain_134 : decode cX6_plain 134 = .ok (.invokespecial 192, 3) := dk_183 0 192 (dk_at dksX6_plain_5 16 rfl rfl)
theorem dX6_plain_137 : decode cX6_plain 137 = .ok (.goto 4, 3) := dk_167 0 4 (dk_at dksX6_plain_5 19 rfl rfl)
theorem dX6_plain_140 : decode cX6_plain 140 = .ok (.aload_n 2, 1) := dk_44 (dk_at dksX6_plain_5 22 rfl rfl)
theorem dX6_plain_141 : decode cX6_plain 141 = .ok (.areturn, 1) := dk_176 (dk_at dksX6_plain_5 23 rfl rfl)
abbrev cX6_add : ByteArray := prog_18_method_12_code
def yX6_add : MethodName := ⟨RX6, "add", "(LExamSlips$Test;)V"⟩
def dkwX6_add_0 : List UInt8 := [42, 180, 0, 17, 42, 180, 0, 62, 43, 83, 42, 89, 180, 0, 62, 4, 96, 181, 0, 62, 177]
abbrev dktX6_add_0 : List UInt8 := dkwX6_add_0 ++ []
theorem dksX6_add_0 : cX6_add.data.toList.drop 0 = dktX6_add_0 := by decide +kernel
theorem dX6_add_0 : decode cX6_add 0 = .ok (.aload_n 0, 1) := dk_42 (dk_at dksX6_add_0 0 rfl rfl)
theorem dX6_add_1 : decode cX6_add 1 = .ok (.getfield 17, 3) := dk_180 0 17 (dk_at dksX6_add_0 1 rfl rfl)
theorem dX6_add_4 : decode cX6_add 4 = .ok (.aload_n 0, 1) := dk_42 (dk_at dksX6_add_0 4 rfl rfl)
theorem dX6_add_5 : decode cX6_add 5 = .ok (.getfield 62, 3) := dk_180 0 62 (dk_at dksX6_add_0 5 rfl rfl)
theorem dX6_add_8 : decode cX6_add 8 = .ok (.aload_n 1, 1) := dk_43 (dk_at dksX6_add_0 8 rfl rfl)
theorem dX6_add_9 : decode cX6_add 9 = .ok (.aastore, 1) := dk_83 (dk_at dksX6_add_0 9 rfl rfl)
theorem dX6_add_10 : decode cX6_add 10 = .ok (.aload_n 0, 1) := dk_42 (dk_at dksX6_add_0 10 rfl rfl)
theorem dX6_add_11 : decode cX6_add 11 = .ok (.dup, 1) := dk_89 (dk_at dksX6_add_0 11 rfl rfl)
theorem dX6_add_12 : decode cX6_add 12 = .ok (.getfield 62, 3) := dk_180 0 62 (dk_at dksX6_add_0 12 rfl rfl)
theorem dX6_add_15 : decode cX6_add 15 = .ok (.iconst 1, 1) := dk_4 (dk_at dksX6_add_0 15 rfl rfl)
theorem dX6_add_16 : decode cX6_add 16 = .ok (.iadd, 1) := dk_96 (dk_at dksX6_add_0 16 rfl rfl)
theorem dX6_add_17 : decode cX6_add 17 = .ok (.putfield 62, 3) := dk_181 0 62 (dk_at dksX6_add_0 17 rfl rfl)
theorem dX6_add_20 : decode cX6_add 20 = .ok (.return_, 1) := dk_177 (dk_at dksX6_add_0 20 rfl rfl)
abbrev cX6_row : ByteArray := prog_18_method_13_code
def yX6_row : MethodName := ⟨RX6, "row", "(ZI)LExamSlips$Test;"⟩
def dkwX6_row_2 : List UInt8 := [25, 4, 183, 0, 163, 78, 42, 28, 181, 0, 62, 45, 176]
abbrev dktX6_row_2 : List UInt8 := dkwX6_row_2 ++ []
def dkwX6_row_1 : List UInt8 := [189, 0, 15, 58, 4, 42, 180, 0, 17, 28, 25, 4, 3, 25, 4, 190, 184, 0, 88, 187, 0, 161, 89, 27]
abbrev dktX6_row_1 : List UInt8 := dkwX6_row_1 ++ dktX6_row_2
def dkwX6_row_0 : List UInt8 := [42, 180, 0, 17, 28, 50, 78, 42, 180, 0, 62, 28, 100, 4, 164, 0, 39, 42, 180, 0, 62, 28, 100]
abbrev dktX6_row_0 : List UInt8 := dkwX6_row_0 ++ dktX6_row_1
theorem dksX6_row_0 : cX6_row.data.toList.drop 0 = dktX6_row_0 := by decide +kernel
theorem dksX6_row_1 : cX6_row.data.toList.drop 23 = dktX6_row_1 := dk_seg dksX6_row_0 23 rfl rfl
theorem dksX6_row_2 : cX6_row.data.toList.drop 47 = dktX6_row_2 := dk_seg dksX6_row_1 24 rfl rfl
theorem dX6_row_0 : decode cX6_row 0 = .ok (.aload_n 0, 1) := dk_42 (dk_at dksX6_row_0 0 rfl rfl)
theorem dX6_row_1 : decode cX6_row 1 = .ok (.getfield 17, 3) := dk_180 0 17 (dk_at dksX6_row_0 1 rfl rfl)
theorem dX6_row_4 : decode cX6_row 4 = .ok (.iload_n 2, 1) := dk_28 (dk_at dksX6_row_0 4 rfl rfl)
theorem dX6_row_5 : decode cX6_row 5 = .ok (.aaload, 1) := dk_50 (dk_at dksX6_row_0 5 rfl rfl)
theorem dX6_row_6 : decode cX6_row 6 = .ok (.astore_n 3, 1) := dk_78 (dk_at dksX6_row_0 6 rfl rfl)
theorem dX6_row_7 : decode cX6_row 7 = .ok (.aload_n 0, 1) := dk_42 (dk_at dksX6_row_0 7 rfl rfl)
theorem dX6_row_8 : decode cX6_row 8 = .ok (.getfield 62, 3) := dk_180 0 62 (dk_at dksX6_row_0 8 rfl rfl)
theorem dX6_row_11 : decode cX6_row 11 = .ok (.iload_n 2, 1) := dk_28 (dk_at dksX6_row_0 11 rfl rfl)
theorem dX6_row_12 : decode cX6_row 12 = .ok (.isub, 1) := dk_100 (dk_at dksX6_row_0 12 rfl rfl)
theorem dX6_row_13 : decode cX6_row 13 = .ok (.iconst 1, 1) := dk_4 (dk_at dksX6_row_0 13 rfl rfl)
theorem dX6_row_14 : decode cX6_row 14 = .ok (.if_icmp .le 39, 3) := dk_164 0 39 (dk_at dksX6_row_0 14 rfl rfl)
theorem dX6_row_17 : decode cX6_row 17 = .ok (.aload_n 0, 1) := dk_42 (dk_at dksX6_row_0 17 rfl rfl)
theorem dX6_row_18 : decode cX6_row 18 = .ok (.getfield 62, 3) := dk_180 0 62 (dk_at dksX6_row_0 18 rfl rfl)
theorem dX6_row_21 : decode cX6_row 21 = .ok (.iload_n 2, 1) := dk_28 (dk_at dksX6_row_0 21 rfl rfl)
theorem dX6_row_22 : decode cX6_row 22 = .ok (.isub, 1) := dk_100 (dk_at dksX6_row_0 22 rfl rfl)
theorem dX6_row_23 : decode cX6_row 23 = .ok (.anewarray 15, 3) := dk_189 0 15 (dk_at dksX6_row_1 0 rfl rfl)
theorem dX6_row_26 : decode cX6_row 26 = .ok (.astore 4, 2) := dk_58 4 (dk_at dksX6_row_1 3 rfl rfl)
theorem dX6_row_28 : decode cX6_row 28 = .ok (.aload_n 0, 1) := dk_42 (dk_at dksX6_row_1 5 rfl rfl)
theorem dX6_row_29 : decode cX6_row 29 = .ok (.getfield 17, 3) := dk_180 0 17 (dk_at dksX6_row_1 6 rfl rfl)
theorem dX6_row_32 : decode cX6_row 32 = .ok (.iload_n 2, 1) := dk_28 (dk_at dksX6_row_1 9 rfl rfl)
theorem dX6_row_33 : decode cX6_row 33 = .ok (.aload 4, 2) := dk_25 4 (dk_at dksX6_row_1 10 rfl rfl)
theorem dX6_row_35 : decode cX6_row 35 = .ok (.iconst 0, 1) := dk_3 (dk_at dksX6_row_1 12 rfl rfl)
theorem dX6_row_36 : decode cX6_row 36 = .ok (.aload 4, 2) := dk_25 4 (dk_at dksX6_row_1 13 rfl rfl)
theorem dX6_row_38 : decode cX6_row 38 = .ok (.arraylength, 1) := dk_190 (dk_at dksX6_row_1 15 rfl rfl)
theorem dX6_row_39 : decode cX6_row 39 = .ok (.invokestatic 88, 3) := dk_184 0 88 (dk_at dksX6_row_1 16 rfl rfl)
theorem dX6_row_42 : decode cX6_row 42 = .ok (.new 161, 3) := dk_187 0 161 (dk_at dksX6_row_1 19 rfl rfl)
theorem dX6_row_45 : decode cX6_row 45 = .ok (.dup, 1) := dk_89 (dk_at dksX6_row_1 22 rfl rfl)
theorem dX6_row_46 : decode cX6_row 46 = .ok (.iload_n 1, 1) := dk_27 (dk_at dksX6_row_1 23 rfl rfl)
theorem dX6_row_47 : decode cX6_row 47 = .ok (.aload 4, 2) := dk_25 4 (dk_at dksX6_row_2 0 rfl rfl)
theorem dX6_row_49 : decode cX6_row 49 = .ok (.invokespecial 163, 3) := dk_183 0 163 (dk_at dksX6_row_2 2 rfl rfl)
theorem dX6_row_52 : decode cX6_row 52 = .ok (.astore_n 3, 1) := dk_78 (dk_at dksX6_row_2 5 rfl rfl)
theorem dX6_row_53 : decode cX6_row 53 = .ok (.aload_n 0, 1) := dk_42 (dk_at dksX6_row_2 6 rfl rfl)
theorem dX6_row_54 : decode cX6_row 54 = .ok (.iload_n 2, 1) := dk_28 (dk_at dksX6_row_2 7 rfl rfl)
theorem dX6_row_55 : decode cX6_row 55 = .ok (.putfield 62, 3) := dk_181 0 62 (dk_at dksX6_row_2 8 rfl rfl)
theorem dX6_row_58 : decode cX6_row 58 = .ok (.aload_n 3, 1) := dk_45 (dk_at dksX6_row_2 11 rfl rfl)
theorem dX6_row_59 : decode cX6_row 59 = .ok (.areturn, 1) := dk_176 (dk_at dksX6_row_2 12 rfl rfl)
theorem q139 : (Jvm.Cond.initialized "ExamSlips$Reader") ∈ lw_all := lw_g (lw_at lw_m1 16 rfl) rfl
theorem q306 : (Jvm.Cond.fieldLinkNest "ExamSlips$Reader" (99 : Nat) "ExamSlips" "tape" "[B" "ExamSlips") ∈ lw_tbl := lw_at lw_m1 183 rfl
theorem q308 : (Jvm.Cond.fieldLinkNest "ExamSlips$Reader" (85 : Nat) "ExamSlips" "taped" "I" "ExamSlips") ∈ lw_tbl := lw_at lw_m1 185 rfl
theorem q459 : (Jvm.Cond.selects "ExamSlips$Reader" ({ cls := "java/lang/Object", name := "getClass", desc := "()Ljava/lang/Class;" } : Jvm.MethodName) ({ cls := "java/lang/Object", name := "getClass", desc := "()Ljava/lang/Class;" } : Jvm.MethodName)) ∈ lw_all := lw_g (lw_at lw_m2 96 rfl) rfl
theorem q533 : (Jvm.Cond.instantiable "ExamSlips$Reader" (9 : Nat)) ∈ lw_all := lw_g (lw_at lw_m2 170 rfl) rfl
theorem q535 : (Jvm.Cond.instanceMethod ({ cls := "ExamSlips$Reader", name := "<init>", desc := "(LExamSlips;)V" } : Jvm.MethodName)) ∈ lw_all := lw_g (lw_at lw_m2 172 rfl) rfl
theorem q536 : (Jvm.Cond.code ({ cls := "ExamSlips$Reader", name := "<init>", desc := "(LExamSlips;)V" } : Jvm.MethodName) prog_18_method_1_code (2 : Nat) (Option.none : Option Jvm.ClassFile.FieldType)) ∈ lw_all := lw_g (lw_at lw_m2 173 rfl) rfl
theorem q537 : (Jvm.Cond.methodLink "ExamSlips$Reader" (9 : Nat) ({ cls := "java/lang/Object", name := "<init>", desc := "()V" } : Jvm.MethodName)) ∈ lw_all := lw_g (lw_at lw_m2 174 rfl) rfl
theorem q538 : (Jvm.Cond.classLink "ExamSlips$Reader" (15 : Nat) "ExamSlips$Test") ∈ lw_all := lw_g (lw_at lw_m2 175 rfl) rfl
theorem q540 : (Jvm.Cond.classLink "ExamSlips$Reader" (21 : Nat) "java/lang/String") ∈ lw_all := lw_g (lw_at lw_m2 177 rfl) rfl
theorem q542 : (Jvm.Cond.stringRef "ExamSlips$Reader" (23 : Nat) "king") ∈ lw_tbl := lw_at lw_m2 179 rfl
theorem q543 : (Jvm.Cond.stringRef "ExamSlips$Reader" (25 : Nat) "pages") ∈ lw_tbl := lw_at lw_m2 180 rfl
theorem q544 : (Jvm.Cond.stringRef "ExamSlips$Reader" (27 : Nat) "level") ∈ lw_tbl := lw_at lw_m2 181 rfl
theorem q545 : (Jvm.Cond.stringRef "ExamSlips$Reader" (29 : Nat) "helped") ∈ lw_tbl := lw_at lw_m2 182 rfl
theorem q546 : (Jvm.Cond.stringRef "ExamSlips$Reader" (31 : Nat) "liked") ∈ lw_tbl := lw_at lw_m2 183 rfl
theorem q547 : (Jvm.Cond.stringRef "ExamSlips$Reader" (33 : Nat) "day") ∈ lw_tbl := lw_at lw_m2 184 rfl
theorem q548 : (Jvm.Cond.stringRef "ExamSlips$Reader" (35 : Nat) "question") ∈ lw_tbl := lw_at lw_m2 185 rfl
theorem q549 : (Jvm.Cond.stringRef "ExamSlips$Reader" (41 : Nat) "hours") ∈ lw_tbl := lw_at lw_m2 186 rfl
theorem q550 : (Jvm.Cond.stringRef "ExamSlips$Reader" (43 : Nat) "keeps") ∈ lw_tbl := lw_at lw_m2 187 rfl
theorem q551 : (Jvm.Cond.stringRef "ExamSlips$Reader" (45 : Nat) "chance") ∈ lw_tbl := lw_at lw_m2 188 rfl
theorem q552 : (Jvm.Cond.fieldLink "ExamSlips$Reader" (82 : Nat) "ExamSlips$Reader" "from" "I") ∈ lw_all := lw_g (lw_at lw_m2 189 rfl) rfl
theorem q553 : (Jvm.Cond.fieldLink "ExamSlips$Reader" (52 : Nat) "ExamSlips$Reader" "to" "I") ∈ lw_all := lw_g (lw_at lw_m2 190 rfl) rfl
theorem q554 : (Jvm.Cond.fieldLink "ExamSlips$Reader" (56 : Nat) "ExamSlips$Reader" "leaves" "I") ∈ lw_all := lw_g (lw_at lw_m2 191 rfl) rfl
theorem q555 : (Jvm.Cond.fieldLink "ExamSlips$Reader" (59 : Nat) "ExamSlips$Reader" "deep" "I") ∈ lw_all := lw_g (lw_at lw_m2 192 rfl) rfl
theorem q556 : (Jvm.Cond.fieldLink "ExamSlips$Reader" (62 : Nat) "ExamSlips$Reader" "piled" "I") ∈ lw_all := lw_g (lw_at lw_m2 193 rfl) rfl
theorem q557 : (Jvm.Cond.fieldLink "ExamSlips$Reader" (17 : Nat) "ExamSlips$Reader" "pile" "[LExamSlips$Test;") ∈ lw_all := lw_g (lw_at lw_m2 194 rfl) rfl
theorem q558 : (Jvm.Cond.fieldLink "ExamSlips$Reader" (37 : Nat) "ExamSlips$Reader" "words" "[Ljava/lang/String;") ∈ lw_all := lw_g (lw_at lw_m2 195 rfl) rfl
theorem q559 : (Jvm.Cond.fieldLink "ExamSlips$Reader" (47 : Nat) "ExamSlips$Reader" "heads" "[Ljava/lang/String;") ∈ lw_all := lw_g (lw_at lw_m2 196 rfl) rfl
theorem q560 : (Jvm.Cond.fieldLink "ExamSlips$Reader" (3 : Nat) "ExamSlips$Reader" "this$0" "LExamSlips;") ∈ lw_all := lw_g (lw_at lw_m2 197 rfl) rfl
theorem q561 : (Jvm.Cond.lays "ExamSlips$Reader" "ExamSlips$Reader" "from" "I") ∈ lw_all := lw_g (lw_at lw_m2 198 rfl) rfl
theorem q562 : (Jvm.Cond.soleField "ExamSlips$Reader" "from") ∈ lw_all := lw_g (lw_at lw_m2 199 rfl) rfl
theorem q563 : (Jvm.Cond.lays "ExamSlips$Reader" "ExamSlips$Reader" "to" "I") ∈ lw_all := lw_g (lw_at lw_m2 200 rfl) rfl
theorem q564 : (Jvm.Cond.soleField "ExamSlips$Reader" "to") ∈ lw_all := lw_g (lw_at lw_m2 201 rfl) rfl
theorem q565 : (Jvm.Cond.lays "ExamSlips$Reader" "ExamSlips$Reader" "leaves" "I") ∈ lw_all := lw_g (lw_at lw_m2 202 rfl) rfl
theorem q566 : (Jvm.Cond.soleField "ExamSlips$Reader" "leaves") ∈ lw_all := lw_g (lw_at lw_m2 203 rfl) rfl
theorem q567 : (Jvm.Cond.lays "ExamSlips$Reader" "ExamSlips$Reader" "deep" "I") ∈ lw_all := lw_g (lw_at lw_m2 204 rfl) rfl
theorem q568 : (Jvm.Cond.soleField "ExamSlips$Reader" "deep") ∈ lw_all := lw_g (lw_at lw_m2 205 rfl) rfl
theorem q569 : (Jvm.Cond.lays "ExamSlips$Reader" "ExamSlips$Reader" "piled" "I") ∈ lw_all := lw_g (lw_at lw_m2 206 rfl) rfl
theorem q570 : (Jvm.Cond.soleField "ExamSlips$Reader" "piled") ∈ lw_all := lw_g (lw_at lw_m2 207 rfl) rfl
theorem q571 : (Jvm.Cond.laysFinal "ExamSlips$Reader" "ExamSlips$Reader" "pile" "[LExamSlips$Test;") ∈ lw_all := lw_g (lw_at lw_m2 208 rfl) rfl
theorem q572 : (Jvm.Cond.soleField "ExamSlips$Reader" "pile") ∈ lw_all := lw_g (lw_at lw_m2 209 rfl) rfl
theorem q573 : (Jvm.Cond.laysFinal "ExamSlips$Reader" "ExamSlips$Reader" "words" "[Ljava/lang/String;") ∈ lw_all := lw_g (lw_at lw_m2 210 rfl) rfl
theorem q574 : (Jvm.Cond.soleField "ExamSlips$Reader" "words") ∈ lw_all := lw_g (lw_at lw_m2 211 rfl) rfl
theorem q575 : (Jvm.Cond.laysFinal "ExamSlips$Reader" "ExamSlips$Reader" "heads" "[Ljava/lang/String;") ∈ lw_all := lw_g (lw_at lw_m2 212 rfl) rfl
theorem q576 : (Jvm.Cond.soleField "ExamSlips$Reader" "heads") ∈ lw_all := lw_g (lw_at lw_m2 213 rfl) rfl
theorem q577 : (Jvm.Cond.laysFinal "ExamSlips$Reader" "ExamSlips$Reader" "this$0" "LExamSlips;") ∈ lw_all := lw_g (lw_at lw_m2 214 rfl) rfl
theorem q578 : (Jvm.Cond.soleField "ExamSlips$Reader" "this$0") ∈ lw_all := lw_g (lw_at lw_m2 215 rfl) rfl
theorem q579 : (Jvm.Cond.superclass "ExamSlips$Reader" "java/lang/Object") ∈ lw_all := lw_g (lw_at lw_m2 216 rfl) rfl
theorem q581 : (Jvm.Cond.instanceMethod ({ cls := "ExamSlips$Reader", name := "read", desc := "()LExamSlips$Text;" } : Jvm.MethodName)) ∈ lw_all := lw_g (lw_at lw_m2 218 rfl) rfl
theorem q582 : (Jvm.Cond.selects "ExamSlips$Reader" ({ cls := "ExamSlips$Reader", name := "read", desc := "()LExamSlips$Text;" } : Jvm.MethodName) ({ cls := "ExamSlips$Reader", name := "read", desc := "()LExamSlips$Text;" } : Jvm.MethodName)) ∈ lw_all := lw_g (lw_at lw_m2 219 rfl) rfl
theorem q583 : (Jvm.Cond.code ({ cls := "ExamSlips$Reader", name := "read", desc := "()LExamSlips$Text;" } : Jvm.MethodName) prog_18_method_2_code (4 : Nat) (Option.some (Jvm.ClassFile.FieldType.object "ExamSlips$Text"))) ∈ lw_all := lw_g (lw_at lw_m2 220 rfl) rfl
theorem q584 : (Jvm.Cond.classLink "ExamSlips$Reader" (50 : Nat) "ExamSlips$Clause") ∈ lw_all := lw_g (lw_at lw_m2 221 rfl) rfl
theorem q585 : (Jvm.Cond.methodLink "ExamSlips$Reader" (65 : Nat) ({ cls := "ExamSlips$Reader", name := "next", desc := "()V" } : Jvm.MethodName)) ∈ lw_all := lw_g (lw_at lw_m2 222 rfl) rfl
theorem q586 : (Jvm.Cond.privateMethod ({ cls := "ExamSlips$Reader", name := "next", desc := "()V" } : Jvm.MethodName)) ∈ lw_tbl := lw_at lw_m2 223 rfl
theorem q587 : (Jvm.Cond.instanceMethod ({ cls := "ExamSlips$Reader", name := "next", desc := "()V" } : Jvm.MethodName)) ∈ lw_all := lw_g (lw_at lw_m2 224 rfl) rfl
theorem q588 : (Jvm.Cond.code ({ cls := "ExamSlips$Reader", name := "next", desc := "()V" } : Jvm.MethodName) prog_18_method_3_code (3 : Nat) (Option.none : Option Jvm.ClassFile.FieldType)) ∈ lw_all := lw_g (lw_at lw_m2 225 rfl) rfl
theorem q589 : (Jvm.Cond.methodLinkNest "ExamSlips$Reader" (103 : Nat) ({ cls := "ExamSlips", name := "isLetter", desc := "(I)Z" } : Jvm.MethodName) "ExamSlips") ∈ lw_tbl := lw_at lw_m2 226 rfl
theorem q592 : (Jvm.Cond.methodLinkNest "ExamSlips$Reader" (107 : Nat) ({ cls := "ExamSlips", name := "isDigit", desc := "(I)Z" } : Jvm.MethodName) "ExamSlips") ∈ lw_tbl := lw_at lw_m2 229 rfl
theorem q595 : (Jvm.Cond.methodLink "ExamSlips$Reader" (68 : Nat) ({ cls := "ExamSlips$Reader", name := "must", desc := "(Z)V" } : Jvm.MethodName)) ∈ lw_all := lw_g (lw_at lw_m2 232 rfl) rfl
theorem q596 : (Jvm.Cond.privateMethod ({ cls := "ExamSlips$Reader", name := "must", desc := "(Z)V" } : Jvm.MethodName)) ∈ lw_tbl := lw_at lw_m2 233 rfl
theorem q597 : (Jvm.Cond.instanceMethod ({ cls := "ExamSlips$Reader", name := "must", desc := "(Z)V" } : Jvm.MethodName)) ∈ lw_all := lw_g (lw_at lw_m2 234 rfl) rfl
theorem q598 : (Jvm.Cond.code ({ cls := "ExamSlips$Reader", name := "must", desc := "(Z)V" } : Jvm.MethodName) prog_18_method_7_code (2 : Nat) (Option.none : Option Jvm.ClassFile.FieldType)) ∈ lw_all := lw_g (lw_at lw_m2 235 rfl) rfl
theorem q599 : (Jvm.Cond.classLink "ExamSlips$Reader" (121 : Nat) "ExamSlips$Wrong") ∈ lw_all := lw_g (lw_at lw_m2 236 rfl) rfl
theorem q637 : (Jvm.Cond.methodLink "ExamSlips$Reader" (123 : Nat) ({ cls := "ExamSlips$Wrong", name := "<init>", desc := "(I)V" } : Jvm.MethodName)) ∈ lw_all := lw_g (lw_at lw_m3 34 rfl) rfl
theorem q663 : (Jvm.Cond.methodLink "ExamSlips$Reader" (72 : Nat) ({ cls := "ExamSlips$Reader", name := "clause", desc := "()LExamSlips$Clause;" } : Jvm.MethodName)) ∈ lw_all := lw_g (lw_at lw_m3 60 rfl) rfl
theorem q664 : (Jvm.Cond.privateMethod ({ cls := "ExamSlips$Reader", name := "clause", desc := "()LExamSlips$Clause;" } : Jvm.MethodName)) ∈ lw_tbl := lw_at lw_m3 61 rfl
theorem q665 : (Jvm.Cond.instanceMethod ({ cls := "ExamSlips$Reader", name := "clause", desc := "()LExamSlips$Clause;" } : Jvm.MethodName)) ∈ lw_all := lw_g (lw_at lw_m3 62 rfl) rfl
theorem q666 : (Jvm.Cond.code ({ cls := "ExamSlips$Reader", name := "clause", desc := "()LExamSlips$Clause;" } : Jvm.MethodName) prog_18_method_9_code (4 : Nat) (Option.some (Jvm.ClassFile.FieldType.object "ExamSlips$Clause"))) ∈ lw_all := lw_g (lw_at lw_m3 63 rfl) rfl
theorem q667 : (Jvm.Cond.methodLink "ExamSlips$Reader" (126 : Nat) ({ cls := "ExamSlips$Reader", name := "which", desc := "([Ljava/lang/String;)I" } : Jvm.MethodName)) ∈ lw_all := lw_g (lw_at lw_m3 64 rfl) rfl
theorem q668 : (Jvm.Cond.privateMethod ({ cls := "ExamSlips$Reader", name := "which", desc := "([Ljava/lang/String;)I" } : Jvm.MethodName)) ∈ lw_tbl := lw_at lw_m3 65 rfl
theorem q669 : (Jvm.Cond.instanceMethod ({ cls := "ExamSlips$Reader", name := "which", desc := "([Ljava/lang/String;)I" } : Jvm.MethodName)) ∈ lw_all := lw_g (lw_at lw_m3 66 rfl) rfl
theorem q670 : (Jvm.Cond.code ({ cls := "ExamSlips$Reader", name := "which", desc := "([Ljava/lang/String;)I" } : Jvm.MethodName) prog_18_method_5_code (3 : Nat) (Option.some Jvm.ClassFile.FieldType.int)) ∈ lw_all := lw_g (lw_at lw_m3 67 rfl) rfl
theorem q671 : (Jvm.Cond.methodLink "ExamSlips$Reader" (118 : Nat) ({ cls := "ExamSlips$Reader", name := "isWord", desc := "(Ljava/lang/String;)Z" } : Jvm.MethodName)) ∈ lw_all := lw_g (lw_at lw_m3 68 rfl) rfl
theorem q672 : (Jvm.Cond.privateMethod ({ cls := "ExamSlips$Reader", name := "isWord", desc := "(Ljava/lang/String;)Z" } : Jvm.MethodName)) ∈ lw_tbl := lw_at lw_m3 69 rfl
theorem q673 : (Jvm.Cond.instanceMethod ({ cls := "ExamSlips$Reader", name := "isWord", desc := "(Ljava/lang/String;)Z" } : Jvm.MethodName)) ∈ lw_all := lw_g (lw_at lw_m3 70 rfl) rfl
theorem q674 : (Jvm.Cond.code ({ cls := "ExamSlips$Reader", name := "isWord", desc := "(Ljava/lang/String;)Z" } : Jvm.MethodName) prog_18_method_4_code (3 : Nat) (Option.some Jvm.ClassFile.FieldType.boolean)) ∈ lw_all := lw_g (lw_at lw_m3 71 rfl) rfl
theorem q675 : (Jvm.Cond.methodLink "ExamSlips$Reader" (110 : Nat) ({ cls := "java/lang/String", name := "length", desc := "()I" } : Jvm.MethodName)) ∈ lw_all := lw_g (lw_at lw_m3 72 rfl) rfl
theorem q685 : (Jvm.Cond.methodLink "ExamSlips$Reader" (114 : Nat) ({ cls := "java/lang/String", name := "charAt", desc := "(I)C" } : Jvm.MethodName)) ∈ lw_all := lw_g (lw_at lw_m3 82 rfl) rfl
theorem q721 : (Jvm.Cond.methodLink "ExamSlips$Reader" (130 : Nat) ({ cls := "ExamSlips$Reader", name := "sum", desc := "()LExamSlips$Sum;" } : Jvm.MethodName)) ∈ lw_all := lw_g (lw_at lw_m3 118 rfl) rfl
theorem q722 : (Jvm.Cond.privateMethod ({ cls := "ExamSlips$Reader", name := "sum", desc := "()LExamSlips$Sum;" } : Jvm.MethodName)) ∈ lw_tbl := lw_at lw_m3 119 rfl
theorem q723 : (Jvm.Cond.instanceMethod ({ cls := "ExamSlips$Reader", name := "sum", desc := "()LExamSlips$Sum;" } : Jvm.MethodName)) ∈ lw_all := lw_g (lw_at lw_m3 120 rfl) rfl
theorem q724 : (Jvm.Cond.code ({ cls := "ExamSlips$Reader", name := "sum", desc := "()LExamSlips$Sum;" } : Jvm.MethodName) prog_18_method_18_code (3 : Nat) (Option.some (Jvm.ClassFile.FieldType.object "ExamSlips$Sum"))) ∈ lw_all := lw_g (lw_at lw_m3 121 rfl) rfl
theorem q725 : (Jvm.Cond.methodLink "ExamSlips$Reader" (194 : Nat) ({ cls := "ExamSlips$Reader", name := "term", desc := "()LExamSlips$Sum;" } : Jvm.MethodName)) ∈ lw_all := lw_g (lw_at lw_m3 122 rfl) rfl
theorem q726 : (Jvm.Cond.privateMethod ({ cls := "ExamSlips$Reader", name := "term", desc := "()LExamSlips$Sum;" } : Jvm.MethodName)) ∈ lw_tbl := lw_at lw_m3 123 rfl
theorem q727 : (Jvm.Cond.instanceMethod ({ cls := "ExamSlips$Reader", name := "term", desc := "()LExamSlips$Sum;" } : Jvm.MethodName)) ∈ lw_all := lw_g (lw_at lw_m3 124 rfl) rfl
theorem q728 : (Jvm.Cond.code ({ cls := "ExamSlips$Reader", name := "term", desc := "()LExamSlips$Sum;" } : Jvm.MethodName) prog_18_method_19_code (3 : Nat) (Option.some (Jvm.ClassFile.FieldType.object "ExamSlips$Sum"))) ∈ lw_all := lw_g (lw_at lw_m3 125 rfl) rfl
theorem q729 : (Jvm.Cond.methodLink "ExamSlips$Reader" (204 : Nat) ({ cls := "ExamSlips$Reader", name := "part", desc := "()LExamSlips$Sum;" } : Jvm.MethodName)) ∈ lw_all := lw_g (lw_at lw_m3 126 rfl) rfl
theorem q730 : (Jvm.Cond.privateMethod ({ cls := "ExamSlips$Reader", name := "part", desc := "()LExamSlips$Sum;" } : Jvm.MethodName)) ∈ lw_tbl := lw_at lw_m3 127 rfl
theorem q731 : (Jvm.Cond.instanceMethod ({ cls := "ExamSlips$Reader", name := "part", desc := "()LExamSlips$Sum;" } : Jvm.MethodName)) ∈ lw_all := lw_g (lw_at lw_m3 128 rfl) rfl
theorem q732 : (Jvm.Cond.code ({ cls := "ExamSlips$Reader", name := "part", desc := "()LExamSlips$Sum;" } : Jvm.MethodName) prog_18_method_20_code (2 : Nat) (Option.some (Jvm.ClassFile.FieldType.object "ExamSlips$Sum"))) ∈ lw_all := lw_g (lw_at lw_m3 129 rfl) rfl
theorem q733 : (Jvm.Cond.stringRef "ExamSlips$Reader" (211 : Nat) "[") ∈ lw_tbl := lw_at lw_m3 130 rfl
theorem q734 : (Jvm.Cond.methodLink "ExamSlips$Reader" (170 : Nat) ({ cls := "ExamSlips$Reader", name := "open", desc := "()V" } : Jvm.MethodName)) ∈ lw_all := lw_g (lw_at lw_m3 131 rfl) rfl
theorem q735 : (Jvm.Cond.privateMethod ({ cls := "ExamSlips$Reader", name := "open", desc := "()V" } : Jvm.MethodName)) ∈ lw_tbl := lw_at lw_m3 132 rfl
theorem q736 : (Jvm.Cond.instanceMethod ({ cls := "ExamSlips$Reader", name := "open", desc := "()V" } : Jvm.MethodName)) ∈ lw_all := lw_g (lw_at lw_m3 133 rfl) rfl
theorem q737 : (Jvm.Cond.code ({ cls := "ExamSlips$Reader", name := "open", desc := "()V" } : Jvm.MethodName) prog_18_method_14_code (1 : Nat) (Option.none : Option Jvm.ClassFile.FieldType)) ∈ lw_all := lw_g (lw_at lw_m3 134 rfl) rfl
theorem q738 : (Jvm.Cond.stringRef "ExamSlips$Reader" (213 : Nat) "]") ∈ lw_tbl := lw_at lw_m3 135 rfl
theorem q739 : (Jvm.Cond.methodLink "ExamSlips$Reader" (175 : Nat) ({ cls := "ExamSlips$Reader", name := "close", desc := "(Ljava/lang/String;)V" } : Jvm.MethodName)) ∈ lw_all := lw_g (lw_at lw_m3 136 rfl) rfl
theorem q740 : (Jvm.Cond.privateMethod ({ cls := "ExamSlips$Reader", name := "close", desc := "(Ljava/lang/String;)V" } : Jvm.MethodName)) ∈ lw_tbl := lw_at lw_m3 137 rfl
theorem q741 : (Jvm.Cond.instanceMethod ({ cls := "ExamSlips$Reader", name := "close", desc := "(Ljava/lang/String;)V" } : Jvm.MethodName)) ∈ lw_all := lw_g (lw_at lw_m3 138 rfl) rfl
theorem q742 : (Jvm.Cond.code ({ cls := "ExamSlips$Reader", name := "close", desc := "(Ljava/lang/String;)V" } : Jvm.MethodName) prog_18_method_15_code (2 : Nat) (Option.none : Option Jvm.ClassFile.FieldType)) ∈ lw_all := lw_g (lw_at lw_m3 139 rfl) rfl
theorem q743 : (Jvm.Cond.methodLink "ExamSlips$Reader" (78 : Nat) ({ cls := "ExamSlips$Reader", name := "accept", desc := "(Ljava/lang/String;)Z" } : Jvm.MethodName)) ∈ lw_all := lw_g (lw_at lw_m3 140 rfl) rfl
theorem q744 : (Jvm.Cond.privateMethod ({ cls := "ExamSlips$Reader", name := "accept", desc := "(Ljava/lang/String;)Z" } : Jvm.MethodName)) ∈ lw_tbl := lw_at lw_m3 141 rfl
theorem q745 : (Jvm.Cond.instanceMethod ({ cls := "ExamSlips$Reader", name := "accept", desc := "(Ljava/lang/String;)Z" } : Jvm.MethodName)) ∈ lw_all := lw_g (lw_at lw_m3 142 rfl) rfl
theorem q746 : (Jvm.Cond.code ({ cls := "ExamSlips$Reader", name := "accept", desc := "(Ljava/lang/String;)Z" } : Jvm.MethodName) prog_18_method_6_code (3 : Nat) (Option.some Jvm.ClassFile.FieldType.boolean)) ∈ lw_all := lw_g (lw_at lw_m3 143 rfl) rfl
theorem q747 : (Jvm.Cond.methodLink "ExamSlips$Reader" (215 : Nat) ({ cls := "ExamSlips$Reader", name := "leaf", desc := "()V" } : Jvm.MethodName)) ∈ lw_all := lw_g (lw_at lw_m3 144 rfl) rfl
theorem q748 : (Jvm.Cond.privateMethod ({ cls := "ExamSlips$Reader", name := "leaf", desc := "()V" } : Jvm.MethodName)) ∈ lw_tbl := lw_at lw_m3 145 rfl
theorem q749 : (Jvm.Cond.instanceMethod ({ cls := "ExamSlips$Reader", name := "leaf", desc := "()V" } : Jvm.MethodName)) ∈ lw_all := lw_g (lw_at lw_m3 146 rfl) rfl
theorem q750 : (Jvm.Cond.code ({ cls := "ExamSlips$Reader", name := "leaf", desc := "()V" } : Jvm.MethodName) prog_18_method_16_code (1 : Nat) (Option.none : Option Jvm.ClassFile.FieldType)) ∈ lw_all := lw_g (lw_at lw_m3 147 rfl) rfl
theorem q751 : (Jvm.Cond.classLink "ExamSlips$Reader" (218 : Nat) "ExamSlips$Amount") ∈ lw_all := lw_g (lw_at lw_m3 148 rfl) rfl
theorem q753 : (Jvm.Cond.methodLink "ExamSlips$Reader" (220 : Nat) ({ cls := "ExamSlips$Reader", name := "number", desc := "(I)I" } : Jvm.MethodName)) ∈ lw_all := lw_g (lw_at lw_m3 150 rfl) rfl
theorem q754 : (Jvm.Cond.privateMethod ({ cls := "ExamSlips$Reader", name := "number", desc := "(I)I" } : Jvm.MethodName)) ∈ lw_tbl := lw_at lw_m3 151 rfl
theorem q755 : (Jvm.Cond.instanceMethod ({ cls := "ExamSlips$Reader", name := "number", desc := "(I)I" } : Jvm.MethodName)) ∈ lw_all := lw_g (lw_at lw_m3 152 rfl) rfl
theorem q756 : (Jvm.Cond.code ({ cls := "ExamSlips$Reader", name := "number", desc := "(I)I" } : Jvm.MethodName) prog_18_method_8_code (4 : Nat) (Option.some Jvm.ClassFile.FieldType.int)) ∈ lw_all := lw_g (lw_at lw_m3 153 rfl) rfl
theorem q757 : (Jvm.Cond.methodLink "ExamSlips$Reader" (224 : Nat) ({ cls := "ExamSlips$Amount", name := "<init>", desc := "(I)V" } : Jvm.MethodName)) ∈ lw_all := lw_g (lw_at lw_m3 154 rfl) rfl
theorem q768 : (Jvm.Cond.classLink "ExamSlips$Reader" (225 : Nat) "ExamSlips$Part") ∈ lw_all := lw_g (lw_at lw_m3 165 rfl) rfl
theorem q770 : (Jvm.Cond.methodLink "ExamSlips$Reader" (227 : Nat) ({ cls := "ExamSlips$Part", name := "<init>", desc := "(I)V" } : Jvm.MethodName)) ∈ lw_all := lw_g (lw_at lw_m3 167 rfl) rfl
theorem q778 : (Jvm.Cond.stringRef "ExamSlips$Reader" (207 : Nat) "*") ∈ lw_tbl := lw_at lw_m3 175 rfl
theorem q779 : (Jvm.Cond.stringRef "ExamSlips$Reader" (209 : Nat) "/") ∈ lw_tbl := lw_at lw_m3 176 rfl
theorem q780 : (Jvm.Cond.classLink "ExamSlips$Reader" (201 : Nat) "ExamSlips$Joined") ∈ lw_all := lw_g (lw_at lw_m3 177 rfl) rfl
theorem q782 : (Jvm.Cond.methodLink "ExamSlips$Reader" (203 : Nat) ({ cls := "ExamSlips$Joined", name := "<init>", desc := "(LExamSlips$Sum;ILExamSlips$Sum;)V" } : Jvm.MethodName)) ∈ lw_all := lw_g (lw_at lw_m3 179 rfl) rfl
theorem q796 : (Jvm.Cond.stringRef "ExamSlips$Reader" (197 : Nat) "+") ∈ lw_tbl := lw_at lw_m3 193 rfl
theorem q797 : (Jvm.Cond.stringRef "ExamSlips$Reader" (199 : Nat) "-") ∈ lw_tbl := lw_at lw_m3 194 rfl
theorem q798 : (Jvm.Cond.stringRef "ExamSlips$Reader" (134 : Nat) "if") ∈ lw_tbl := lw_at lw_m3 195 rfl
theorem q799 : (Jvm.Cond.methodLink "ExamSlips$Reader" (136 : Nat) ({ cls := "ExamSlips$Reader", name := "test", desc := "()LExamSlips$Test;" } : Jvm.MethodName)) ∈ lw_all := lw_g (lw_at lw_m3 196 rfl) rfl
theorem q800 : (Jvm.Cond.privateMethod ({ cls := "ExamSlips$Reader", name := "test", desc := "()LExamSlips$Test;" } : Jvm.MethodName)) ∈ lw_tbl := lw_at lw_m3 197 rfl
theorem q801 : (Jvm.Cond.instanceMethod ({ cls := "ExamSlips$Reader", name := "test", desc := "()LExamSlips$Test;" } : Jvm.MethodName)) ∈ lw_all := lw_g (lw_at lw_m3 198 rfl) rfl
theorem q802 : (Jvm.Cond.code ({ cls := "ExamSlips$Reader", name := "test", desc := "()LExamSlips$Test;" } : Jvm.MethodName) prog_18_method_10_code (2 : Nat) (Option.some (Jvm.ClassFile.FieldType.object "ExamSlips$Test"))) ∈ lw_all := lw_g (lw_at lw_m3 199 rfl) rfl
theorem q803 : (Jvm.Cond.methodLink "ExamSlips$Reader" (143 : Nat) ({ cls := "ExamSlips$Reader", name := "both", desc := "()LExamSlips$Test;" } : Jvm.MethodName)) ∈ lw_all := lw_g (lw_at lw_m3 200 rfl) rfl
theorem q804 : (Jvm.Cond.privateMethod ({ cls := "ExamSlips$Reader", name := "both", desc := "()LExamSlips$Test;" } : Jvm.MethodName)) ∈ lw_tbl := lw_at lw_m3 201 rfl
theorem q805 : (Jvm.Cond.instanceMethod ({ cls := "ExamSlips$Reader", name := "both", desc := "()LExamSlips$Test;" } : Jvm.MethodName)) ∈ lw_all := lw_g (lw_at lw_m3 202 rfl) rfl
theorem q806 : (Jvm.Cond.code ({ cls := "ExamSlips$Reader", name := "both", desc := "()LExamSlips$Test;" } : Jvm.MethodName) prog_18_method_11_code (2 : Nat) (Option.some (Jvm.ClassFile.FieldType.object "ExamSlips$Test"))) ∈ lw_all := lw_g (lw_at lw_m3 203 rfl) rfl
theorem q807 : (Jvm.Cond.methodLink "ExamSlips$Reader" (156 : Nat) ({ cls := "ExamSlips$Reader", name := "plain", desc := "()LExamSlips$Test;" } : Jvm.MethodName)) ∈ lw_all := lw_g (lw_at lw_m3 204 rfl) rfl
theorem q808 : (Jvm.Cond.privateMethod ({ cls := "ExamSlips$Reader", name := "plain", desc := "()LExamSlips$Test;" } : Jvm.MethodName)) ∈ lw_tbl := lw_at lw_m3 205 rfl
theorem q809 : (Jvm.Cond.instanceMethod ({ cls := "ExamSlips$Reader", name := "plain", desc := "()LExamSlips$Test;" } : Jvm.MethodName)) ∈ lw_all := lw_g (lw_at lw_m3 206 rfl) rfl
theorem q810 : (Jvm.Cond.code ({ cls := "ExamSlips$Reader", name := "plain", desc := "()LExamSlips$Test;" } : Jvm.MethodName) prog_18_method_17_code (5 : Nat) (Option.some (Jvm.ClassFile.FieldType.object "ExamSlips$Test"))) ∈ lw_all := lw_g (lw_at lw_m3 207 rfl) rfl
theorem q811 : (Jvm.Cond.stringRef "ExamSlips$Reader" (166 : Nat) "not") ∈ lw_tbl := lw_at lw_m3 208 rfl
theorem q812 : (Jvm.Cond.stringRef "ExamSlips$Reader" (168 : Nat) "(") ∈ lw_tbl := lw_at lw_m3 209 rfl
theorem q813 : (Jvm.Cond.stringRef "ExamSlips$Reader" (173 : Nat) ")") ∈ lw_tbl := lw_at lw_m3 210 rfl
theorem q814 : (Jvm.Cond.stringRef "ExamSlips$Reader" (179 : Nat) "<") ∈ lw_tbl := lw_at lw_m3 211 rfl
theorem q815 : (Jvm.Cond.stringRef "ExamSlips$Reader" (181 : Nat) ">") ∈ lw_tbl := lw_at lw_m3 212 rfl
theorem q816 : (Jvm.Cond.stringRef "ExamSlips$Reader" (183 : Nat) "=") ∈ lw_tbl := lw_at lw_m3 213 rfl
theorem q817 : (Jvm.Cond.classLink "ExamSlips$Reader" (185 : Nat) "ExamSlips$Compared") ∈ lw_all := lw_g (lw_at lw_m3 214 rfl) rfl
theorem q819 : (Jvm.Cond.methodLink "ExamSlips$Reader" (187 : Nat) ({ cls := "ExamSlips$Compared", name := "<init>", desc := "(LExamSlips$Sum;ILExamSlips$Sum;)V" } : Jvm.MethodName)) ∈ lw_all := lw_g (lw_at lw_m3 216 rfl) rfl
theorem q836 : (Jvm.Cond.classLink "ExamSlips$Reader" (190 : Nat) "ExamSlips$Not") ∈ lw_all := lw_g (lw_at lw_m3 233 rfl) rfl
theorem q838 : (Jvm.Cond.methodLink "ExamSlips$Reader" (192 : Nat) ({ cls := "ExamSlips$Not", name := "<init>", desc := "(LExamSlips$Test;)V" } : Jvm.MethodName)) ∈ lw_all := lw_g (lw_at lw_m3 235 rfl) rfl
theorem q846 : (Jvm.Cond.methodLink "ExamSlips$Reader" (146 : Nat) ({ cls := "ExamSlips$Reader", name := "add", desc := "(LExamSlips$Test;)V" } : Jvm.MethodName)) ∈ lw_all := lw_g (lw_at lw_m4 3 rfl) rfl
theorem q847 : (Jvm.Cond.privateMethod ({ cls := "ExamSlips$Reader", name := "add", desc := "(LExamSlips$Test;)V" } : Jvm.MethodName)) ∈ lw_tbl := lw_at lw_m4 4 rfl
theorem q848 : (Jvm.Cond.instanceMethod ({ cls := "ExamSlips$Reader", name := "add", desc := "(LExamSlips$Test;)V" } : Jvm.MethodName)) ∈ lw_all := lw_g (lw_at lw_m4 5 rfl) rfl
theorem q849 : (Jvm.Cond.code ({ cls := "ExamSlips$Reader", name := "add", desc := "(LExamSlips$Test;)V" } : Jvm.MethodName) prog_18_method_12_code (2 : Nat) (Option.none : Option Jvm.ClassFile.FieldType)) ∈ lw_all := lw_g (lw_at lw_m4 6 rfl) rfl
theorem q850 : (Jvm.Cond.stringRef "ExamSlips$Reader" (159 : Nat) "and") ∈ lw_tbl := lw_at lw_m4 7 rfl
theorem q851 : (Jvm.Cond.methodLink "ExamSlips$Reader" (152 : Nat) ({ cls := "ExamSlips$Reader", name := "row", desc := "(ZI)LExamSlips$Test;" } : Jvm.MethodName)) ∈ lw_all := lw_g (lw_at lw_m4 8 rfl) rfl
theorem q852 : (Jvm.Cond.privateMethod ({ cls := "ExamSlips$Reader", name := "row", desc := "(ZI)LExamSlips$Test;" } : Jvm.MethodName)) ∈ lw_tbl := lw_at lw_m4 9 rfl
theorem q853 : (Jvm.Cond.instanceMethod ({ cls := "ExamSlips$Reader", name := "row", desc := "(ZI)LExamSlips$Test;" } : Jvm.MethodName)) ∈ lw_all := lw_g (lw_at lw_m4 10 rfl) rfl
theorem q854 : (Jvm.Cond.code ({ cls := "ExamSlips$Reader", name := "row", desc := "(ZI)LExamSlips$Test;" } : Jvm.MethodName) prog_18_method_13_code (5 : Nat) (Option.some (Jvm.ClassFile.FieldType.object "ExamSlips$Test"))) ∈ lw_all := lw_g (lw_at lw_m4 11 rfl) rfl
theorem q855 : (Jvm.Cond.methodLink "ExamSlips$Reader" (88 : Nat) ({ cls := "java/lang/System", name := "arraycopy", desc := "(Ljava/lang/Object;ILjava/lang/Object;II)V" } : Jvm.MethodName)) ∈ lw_all := lw_g (lw_at lw_m4 12 rfl) rfl
theorem q856 : (Jvm.Cond.classLink "ExamSlips$Reader" (161 : Nat) "ExamSlips$Row") ∈ lw_all := lw_g (lw_at lw_m4 13 rfl) rfl
theorem q858 : (Jvm.Cond.methodLink "ExamSlips$Reader" (163 : Nat) ({ cls := "ExamSlips$Row", name := "<init>", desc := "(Z[LExamSlips$Test;)V" } : Jvm.MethodName)) ∈ lw_all := lw_g (lw_at lw_m4 15 rfl) rfl
theorem q869 : (Jvm.Cond.stringRef "ExamSlips$Reader" (150 : Nat) "or") ∈ lw_tbl := lw_at lw_m4 26 rfl
theorem q871 : (Jvm.Cond.methodLink "ExamSlips$Reader" (140 : Nat) ({ cls := "ExamSlips$Clause", name := "<init>", desc := "(ILExamSlips$Sum;LExamSlips$Test;)V" } : Jvm.MethodName)) ∈ lw_all := lw_g (lw_at lw_m4 28 rfl) rfl
theorem q890 : (Jvm.Cond.stringRef "ExamSlips$Reader" (76 : Nat) ";") ∈ lw_tbl := lw_at lw_m4 47 rfl
theorem q891 : (Jvm.Cond.classLink "ExamSlips$Reader" (94 : Nat) "ExamSlips$Text") ∈ lw_all := lw_g (lw_at lw_m4 48 rfl) rfl
theorem q892 : (Jvm.Cond.methodLink "ExamSlips$Reader" (96 : Nat) ({ cls := "ExamSlips$Text", name := "<init>", desc := "([LExamSlips$Clause;)V" } : Jvm.MethodName)) ∈ lw_all := lw_g (lw_at lw_m4 49 rfl) rfl
theorem q2383 : (Jvm.Cond.castable "ExamSlips$Reader" "java/lang/Object") ∈ lw_tbl := lw_at lw_m10 100 rfl
theorem in_X6 : ∀ w ∈ wsX60, w ∈ lw_all := lw_in wsX60 [561, 563, 565, 567, 569, 571, 573, 575, 577] (by decide +kernel) (by decide +kernel)

/-! ExamSlips$Wrong -/
set_option maxRecDepth 100000
def RX7 : String := "ExamSlips$Wrong"
def TX7 : u_T := fun k => match k with
  | 0 => ("java/lang/Throwable", "cause", "Ljava/lang/Throwable;", false)
  | 1 => ("java/lang/Throwable", "stackTrace", "[Ljava/lang/StackTraceElement;", false)
  | 2 => ("java/lang/Throwable", "suppressedExceptions", "Ljava/util/List;", false)
  | 3 => ("java/lang/Throwable", "detailMessage", "Ljava/lang/String;", false)
  | 4 => ("java/lang/Throwable", "backtrace", "Ljava/lang/Object;", false)
  | 5 => ("java/lang/Throwable", "depth", "I", false)
  | _ => ("ExamSlips$Wrong", "place", "I", true)
def tyX7 : Nat → FieldType := fun k => match k with
  | 0 => .object "java/lang/Throwable"
  | 1 => .array (.object "java/lang/StackTraceElement")
  | 2 => .object "java/util/List"
  | 3 => .object "java/lang/String"
  | 4 => .object "java/lang/Object"
  | 5 => .int
  | _ => .int
abbrev wsX70 : List Cond := u_ws RX7 TX7 7
theorem nmX7 : ∀ a, a < 7 → ∀ b, b < 7 → a ≠ b → (TX7 a).2.1 ≠ (TX7 b).2.1 := by decide +kernel
theorem tyX7_ok : ∀ k, k < 7 → parseFieldDescriptor (TX7 k).2.2.1 = some (tyX7 k) := by decide +kernel
abbrev cX7_init : ByteArray := prog_27_method_1_code
def yX7_init : MethodName := ⟨RX7, "<init>", "(I)V"⟩
def dkwX7_init_0 : List UInt8 := [42, 1, 1, 3, 3, 183, 0, 1, 42, 27, 181, 0, 7, 177]
abbrev dktX7_init_0 : List UInt8 := dkwX7_init_0 ++ []
theorem dksX7_init_0 : cX7_init.data.toList.drop 0 = dktX7_init_0 := by decide +kernel
theorem dX7_init_0 : decode cX7_init 0 = .ok (.aload_n 0, 1) := dk_42 (dk_at dksX7_init_0 0 rfl rfl)
theorem dX7_init_1 : decode cX7_init 1 = .ok (.aconst_null, 1) := dk_1 (dk_at dksX7_init_0 1 rfl rfl)
theorem dX7_init_2 : decode cX7_init 2 = .ok (.aconst_null, 1) := dk_1 (dk_at dksX7_init_0 2 rfl rfl)
theorem dX7_init_3 : decode cX7_init 3 = .ok (.iconst 0, 1) := dk_3 (dk_at dksX7_init_0 3 rfl rfl)
theorem dX7_init_4 : decode cX7_init 4 = .ok (.iconst 0, 1) := dk_3 (dk_at dksX7_init_0 4 rfl rfl)
theorem dX7_init_5 : decode cX7_init 5 = .ok (.invokespecial 1, 3) := dk_183 0 1 (dk_at dksX7_init_0 5 rfl rfl)
theorem dX7_init_8 : decode cX7_init 8 = .ok (.aload_n 0, 1) := dk_42 (dk_at dksX7_init_0 8 rfl rfl)
theorem dX7_init_9 : decode cX7_init 9 = .ok (.iload_n 1, 1) := dk_27 (dk_at dksX7_init_0 9 rfl rfl)
theorem dX7_init_10 : decode cX7_init 10 = .ok (.putfield 7, 3) := dk_181 0 7 (dk_at dksX7_init_0 10 rfl rfl)
theorem dX7_init_13 : decode cX7_init 13 = .ok (.return_, 1) := dk_177 (dk_at dksX7_init_0 13 rfl rfl)
theorem q142 : (Jvm.Cond.initialized "ExamSlips$Wrong") ∈ lw_all := lw_g (lw_at lw_m1 19 rfl) rfl
theorem q466 : (Jvm.Cond.selects "ExamSlips$Wrong" ({ cls := "java/lang/Object", name := "getClass", desc := "()Ljava/lang/Class;" } : Jvm.MethodName) ({ cls := "java/lang/Object", name := "getClass", desc := "()Ljava/lang/Class;" } : Jvm.MethodName)) ∈ lw_all := lw_g (lw_at lw_m2 103 rfl) rfl
theorem q600 : (Jvm.Cond.instantiable "ExamSlips$Wrong" (7 : Nat)) ∈ lw_all := lw_g (lw_at lw_m2 237 rfl) rfl
theorem q601 : (Jvm.Cond.castable "ExamSlips$Wrong" "ExamSlips$Wrong") ∈ lw_tbl := lw_at lw_m2 238 rfl
theorem q606 : (Jvm.Cond.selects "ExamSlips$Wrong" ({ cls := "java/lang/Throwable", name := "fillInStackTrace", desc := "(I)Ljava/lang/Throwable;" } : Jvm.MethodName) ({ cls := "java/lang/Throwable", name := "fillInStackTrace", desc := "(I)Ljava/lang/Throwable;" } : Jvm.MethodName)) ∈ lw_all := lw_g (lw_at lw_m3 3 rfl) rfl
theorem q607 : (Jvm.Cond.selects "ExamSlips$Wrong" ({ cls := "java/lang/Throwable", name := "fillInStackTrace", desc := "()Ljava/lang/Throwable;" } : Jvm.MethodName) ({ cls := "java/lang/Throwable", name := "fillInStackTrace", desc := "()Ljava/lang/Throwable;" } : Jvm.MethodName)) ∈ lw_all := lw_g (lw_at lw_m3 4 rfl) rfl
theorem q608 : (Jvm.Cond.lays "ExamSlips$Wrong" "java/lang/Throwable" "cause" "Ljava/lang/Throwable;") ∈ lw_all := lw_g (lw_at lw_m3 5 rfl) rfl
theorem q610 : (Jvm.Cond.lays "ExamSlips$Wrong" "java/lang/Throwable" "stackTrace" "[Ljava/lang/StackTraceElement;") ∈ lw_all := lw_g (lw_at lw_m3 7 rfl) rfl
theorem q612 : (Jvm.Cond.lays "ExamSlips$Wrong" "java/lang/Throwable" "suppressedExceptions" "Ljava/util/List;") ∈ lw_all := lw_g (lw_at lw_m3 9 rfl) rfl
theorem q614 : (Jvm.Cond.lays "ExamSlips$Wrong" "java/lang/Throwable" "detailMessage" "Ljava/lang/String;") ∈ lw_all := lw_g (lw_at lw_m3 11 rfl) rfl
theorem q616 : (Jvm.Cond.lays "ExamSlips$Wrong" "java/lang/Throwable" "backtrace" "Ljava/lang/Object;") ∈ lw_all := lw_g (lw_at lw_m3 13 rfl) rfl
theorem q638 : (Jvm.Cond.instanceMethod ({ cls := "ExamSlips$Wrong", name := "<init>", desc := "(I)V" } : Jvm.MethodName)) ∈ lw_all := lw_g (lw_at lw_m3 35 rfl) rfl
theorem q639 : (Jvm.Cond.code ({ cls := "ExamSlips$Wrong", name := "<init>", desc := "(I)V" } : Jvm.MethodName) prog_27_method_1_code (2 : Nat) (Option.none : Option Jvm.ClassFile.FieldType)) ∈ lw_all := lw_g (lw_at lw_m3 36 rfl) rfl
theorem q640 : (Jvm.Cond.methodLink "ExamSlips$Wrong" (1 : Nat) ({ cls := "java/lang/Exception", name := "<init>", desc := "(Ljava/lang/String;Ljava/lang/Throwable;ZZ)V" } : Jvm.MethodName)) ∈ lw_all := lw_g (lw_at lw_m3 37 rfl) rfl
theorem q646 : (Jvm.Cond.fieldLink "ExamSlips$Wrong" (7 : Nat) "ExamSlips$Wrong" "place" "I") ∈ lw_all := lw_g (lw_at lw_m3 43 rfl) rfl
theorem q653 : (Jvm.Cond.laysFinal "ExamSlips$Wrong" "ExamSlips$Wrong" "place" "I") ∈ lw_all := lw_g (lw_at lw_m3 50 rfl) rfl
theorem q654 : (Jvm.Cond.soleField "ExamSlips$Wrong" "place") ∈ lw_all := lw_g (lw_at lw_m3 51 rfl) rfl
theorem q659 : (Jvm.Cond.lays "ExamSlips$Wrong" "java/lang/Throwable" "depth" "I") ∈ lw_all := lw_g (lw_at lw_m3 56 rfl) rfl
theorem q662 : (Jvm.Cond.superclass "ExamSlips$Wrong" "java/lang/Exception") ∈ lw_all := lw_g (lw_at lw_m3 59 rfl) rfl
theorem q2384 : (Jvm.Cond.castable "ExamSlips$Wrong" "java/lang/Object") ∈ lw_tbl := lw_at lw_m10 101 rfl
theorem in_X7 : ∀ w ∈ wsX70, w ∈ lw_all := lw_in wsX70 [608, 610, 612, 614, 616, 659, 653] (by decide +kernel) (by decide +kernel)

/-! ExamSlips$Sum -/
set_option maxRecDepth 100000
def RX8 : String := "ExamSlips$Sum"
abbrev cX8_init : ByteArray := prog_23_method_1_code
def yX8_init : MethodName := ⟨RX8, "<init>", "()V"⟩
theorem dX8_init_0 : decode cX8_init 0 = .ok (.aload_n 0, 1) := by decide +kernel
theorem dX8_init_1 : decode cX8_init 1 = .ok (.invokespecial 1, 3) := by decide +kernel
theorem dX8_init_4 : decode cX8_init 4 = .ok (.return_, 1) := by decide +kernel
theorem q146 : (Jvm.Cond.initialized "ExamSlips$Sum") ∈ lw_all := lw_g (lw_at lw_m1 23 rfl) rfl
theorem q761 : (Jvm.Cond.instanceMethod ({ cls := "ExamSlips$Sum", name := "<init>", desc := "()V" } : Jvm.MethodName)) ∈ lw_all := lw_g (lw_at lw_m3 158 rfl) rfl
theorem q762 : (Jvm.Cond.code ({ cls := "ExamSlips$Sum", name := "<init>", desc := "()V" } : Jvm.MethodName) prog_23_method_1_code (1 : Nat) (Option.none : Option Jvm.ClassFile.FieldType)) ∈ lw_all := lw_g (lw_at lw_m3 159 rfl) rfl
theorem q763 : (Jvm.Cond.methodLink "ExamSlips$Sum" (1 : Nat) ({ cls := "java/lang/Object", name := "<init>", desc := "()V" } : Jvm.MethodName)) ∈ lw_all := lw_g (lw_at lw_m3 160 rfl) rfl
theorem q940 : (Jvm.Cond.declares ({ cls := "ExamSlips$Sum", name := "of", desc := "(LExamSlips$Asked;)J" } : Jvm.MethodName)) ∈ lw_tbl := lw_at lw_m4 97 rfl
theorem q941 : (Jvm.Cond.sameMethod "ExamSlips$Sum" "ExamSlips$Sum" "of" "(LExamSlips$Asked;)J") ∈ lw_all := lw_g (lw_at lw_m4 98 rfl) rfl

/-! ExamSlips$Amount -/
set_option maxRecDepth 100000
def RX9 : String := "ExamSlips$Amount"
def TX9 : u_T := fun k => match k with
  | _ => ("ExamSlips$Amount", "number", "I", true)
def tyX9 : Nat → FieldType := fun k => match k with
  | _ => .int
abbrev wsX90 : List Cond := u_ws RX9 TX9 1
theorem nmX9 : ∀ a, a < 1 → ∀ b, b < 1 → a ≠ b → (TX9 a).2.1 ≠ (TX9 b).2.1 := by decide +kernel
theorem tyX9_ok : ∀ k, k < 1 → parseFieldDescriptor (TX9 k).2.2.1 = some (tyX9 k) := by decide +kernel
abbrev cX9_init : ByteArray := prog_2_method_1_code
def yX9_init : MethodName := ⟨RX9, "<init>", "(I)V"⟩
def dkwX9_init_0 : List UInt8 := [42, 183, 0, 1, 42, 27, 181, 0, 7, 177]
abbrev dktX9_init_0 : List UInt8 := dkwX9_init_0 ++ []
theorem dksX9_init_0 : cX9_init.data.toList.drop 0 = dktX9_init_0 := by decide +kernel
theorem dX9_init_0 : decode cX9_init 0 = .ok (.aload_n 0, 1) := dk_42 (dk_at dksX9_init_0 0 rfl rfl)
theorem dX9_init_1 : decode cX9_init 1 = .ok (.invokespecial 1, 3) := dk_183 0 1 (dk_at dksX9_init_0 1 rfl rfl)
theorem dX9_init_4 : decode cX9_init 4 = .ok (.aload_n 0, 1) := dk_42 (dk_at dksX9_init_0 4 rfl rfl)
theorem dX9_init_5 : decode cX9_init 5 = .ok (.iload_n 1, 1) := dk_27 (dk_at dksX9_init_0 5 rfl rfl)
theorem dX9_init_6 : decode cX9_init 6 = .ok (.putfield 7, 3) := dk_181 0 7 (dk_at dksX9_init_0 6 rfl rfl)
theorem dX9_init_9 : decode cX9_init 9 = .ok (.return_, 1) := dk_177 (dk_at dksX9_init_0 9 rfl rfl)
abbrev cX9_of : ByteArray := prog_2_method_2_code
def yX9_of : MethodName := ⟨RX9, "of", "(LExamSlips$Asked;)J"⟩
def dkwX9_of_0 : List UInt8 := [42, 180, 0, 7, 133, 173]
abbrev dktX9_of_0 : List UInt8 := dkwX9_of_0 ++ []
theorem dksX9_of_0 : cX9_of.data.toList.drop 0 = dktX9_of_0 := by decide +kernel
theorem dX9_of_0 : decode cX9_of 0 = .ok (.aload_n 0, 1) := dk_42 (dk_at dksX9_of_0 0 rfl rfl)
theorem dX9_of_1 : decode cX9_of 1 = .ok (.getfield 7, 3) := dk_180 0 7 (dk_at dksX9_of_0 1 rfl rfl)
theorem dX9_of_4 : decode cX9_of 4 = .ok (.i2l, 1) := dk_133 (dk_at dksX9_of_0 4 rfl rfl)
theorem dX9_of_5 : decode cX9_of 5 = .ok (.lreturn, 1) := dk_173 (dk_at dksX9_of_0 5 rfl rfl)
theorem q147 : (Jvm.Cond.initialized "ExamSlips$Amount") ∈ lw_all := lw_g (lw_at lw_m1 24 rfl) rfl
theorem q443 : (Jvm.Cond.selects "ExamSlips$Amount" ({ cls := "java/lang/Object", name := "getClass", desc := "()Ljava/lang/Class;" } : Jvm.MethodName) ({ cls := "java/lang/Object", name := "getClass", desc := "()Ljava/lang/Class;" } : Jvm.MethodName)) ∈ lw_all := lw_g (lw_at lw_m2 80 rfl) rfl
theorem q752 : (Jvm.Cond.instantiable "ExamSlips$Amount" (1 : Nat)) ∈ lw_all := lw_g (lw_at lw_m3 149 rfl) rfl
theorem q758 : (Jvm.Cond.instanceMethod ({ cls := "ExamSlips$Amount", name := "<init>", desc := "(I)V" } : Jvm.MethodName)) ∈ lw_all := lw_g (lw_at lw_m3 155 rfl) rfl
theorem q759 : (Jvm.Cond.code ({ cls := "ExamSlips$Amount", name := "<init>", desc := "(I)V" } : Jvm.MethodName) prog_2_method_1_code (2 : Nat) (Option.none : Option Jvm.ClassFile.FieldType)) ∈ lw_all := lw_g (lw_at lw_m3 156 rfl) rfl
theorem q760 : (Jvm.Cond.methodLinkNest "ExamSlips$Amount" (1 : Nat) ({ cls := "ExamSlips$Sum", name := "<init>", desc := "()V" } : Jvm.MethodName) "ExamSlips") ∈ lw_tbl := lw_at lw_m3 157 rfl
theorem q764 : (Jvm.Cond.fieldLink "ExamSlips$Amount" (7 : Nat) "ExamSlips$Amount" "number" "I") ∈ lw_all := lw_g (lw_at lw_m3 161 rfl) rfl
theorem q765 : (Jvm.Cond.laysFinal "ExamSlips$Amount" "ExamSlips$Amount" "number" "I") ∈ lw_all := lw_g (lw_at lw_m3 162 rfl) rfl
theorem q766 : (Jvm.Cond.soleField "ExamSlips$Amount" "number") ∈ lw_all := lw_g (lw_at lw_m3 163 rfl) rfl
theorem q767 : (Jvm.Cond.superclass "ExamSlips$Amount" "ExamSlips$Sum") ∈ lw_all := lw_g (lw_at lw_m3 164 rfl) rfl
theorem q942 : (Jvm.Cond.selects "ExamSlips$Amount" ({ cls := "ExamSlips$Sum", name := "of", desc := "(LExamSlips$Asked;)J" } : Jvm.MethodName) ({ cls := "ExamSlips$Amount", name := "of", desc := "(LExamSlips$Asked;)J" } : Jvm.MethodName)) ∈ lw_all := lw_g (lw_at lw_m4 99 rfl) rfl
theorem q943 : (Jvm.Cond.instanceMethod ({ cls := "ExamSlips$Amount", name := "of", desc := "(LExamSlips$Asked;)J" } : Jvm.MethodName)) ∈ lw_all := lw_g (lw_at lw_m4 100 rfl) rfl
theorem q944 : (Jvm.Cond.code ({ cls := "ExamSlips$Amount", name := "of", desc := "(LExamSlips$Asked;)J" } : Jvm.MethodName) prog_2_method_2_code (2 : Nat) (Option.some Jvm.ClassFile.FieldType.long)) ∈ lw_all := lw_g (lw_at lw_m4 101 rfl) rfl
theorem q2385 : (Jvm.Cond.castable "ExamSlips$Amount" "java/lang/Object") ∈ lw_tbl := lw_at lw_m10 102 rfl
theorem in_X9 : ∀ w ∈ wsX90, w ∈ lw_all := lw_in wsX90 [765] (by decide +kernel) (by decide +kernel)

/-! ExamSlips$Part -/
set_option maxRecDepth 100000
def RX10 : String := "ExamSlips$Part"
def TX10 : u_T := fun k => match k with
  | _ => ("ExamSlips$Part", "what", "I", true)
def tyX10 : Nat → FieldType := fun k => match k with
  | _ => .int
abbrev wsX100 : List Cond := u_ws RX10 TX10 1
theorem nmX10 : ∀ a, a < 1 → ∀ b, b < 1 → a ≠ b → (TX10 a).2.1 ≠ (TX10 b).2.1 := by decide +kernel
theorem tyX10_ok : ∀ k, k < 1 → parseFieldDescriptor (TX10 k).2.2.1 = some (tyX10 k) := by decide +kernel
abbrev cX10_init : ByteArray := prog_16_method_1_code
def yX10_init : MethodName := ⟨RX10, "<init>", "(I)V"⟩
def dkwX10_init_0 : List UInt8 := [42, 183, 0, 1, 42, 27, 181, 0, 7, 177]
abbrev dktX10_init_0 : List UInt8 := dkwX10_init_0 ++ []
theorem dksX10_init_0 : cX10_init.data.toList.drop 0 = dktX10_init_0 := by decide +kernel
theorem dX10_init_0 : decode cX10_init 0 = .ok (.aload_n 0, 1) := dk_42 (dk_at dksX10_init_0 0 rfl rfl)
theorem dX10_init_1 : decode cX10_init 1 = .ok (.invokespecial 1, 3) := dk_183 0 1 (dk_at dksX10_init_0 1 rfl rfl)
theorem dX10_init_4 : decode cX10_init 4 = .ok (.aload_n 0, 1) := dk_42 (dk_at dksX10_init_0 4 rfl rfl)
theorem dX10_init_5 : decode cX10_init 5 = .ok (.iload_n 1, 1) := dk_27 (dk_at dksX10_init_0 5 rfl rfl)
theorem dX10_init_6 : decode cX10_init 6 = .ok (.putfield 7, 3) := dk_181 0 7 (dk_at dksX10_init_0 6 rfl rfl)
theorem dX10_init_9 : decode cX10_init 9 = .ok (.return_, 1) := dk_177 (dk_at dksX10_init_0 9 rfl rfl)
abbrev cX10_of : ByteArray := prog_16_method_2_code
def yX10_of : MethodName := ⟨RX10, "of", "(LExamSlips$Asked;)J"⟩
def dkwX10_of_0 : List UInt8 := [43, 180, 0, 13, 42, 180, 0, 7, 47, 173]
abbrev dktX10_of_0 : List UInt8 := dkwX10_of_0 ++ []
theorem dksX10_of_0 : cX10_of.data.toList.drop 0 = dktX10_of_0 := by decide +kernel
theorem dX10_of_0 : decode cX10_of 0 = .ok (.aload_n 1, 1) := dk_43 (dk_at dksX10_of_0 0 rfl rfl)
theorem dX10_of_1 : decode cX10_of 1 = .ok (.getfield 13, 3) := dk_180 0 13 (dk_at dksX10_of_0 1 rfl rfl)
theorem dX10_of_4 : decode cX10_of 4 = .ok (.aload_n 0, 1) := dk_42 (dk_at dksX10_of_0 4 rfl rfl)
theorem dX10_of_5 : decode cX10_of 5 = .ok (.getfield 7, 3) := dk_180 0 7 (dk_at dksX10_of_0 5 rfl rfl)
theorem dX10_of_8 : decode cX10_of 8 = .ok (.laload, 1) := dk_47 (dk_at dksX10_of_0 8 rfl rfl)
theorem dX10_of_9 : decode cX10_of 9 = .ok (.lreturn, 1) := dk_173 (dk_at dksX10_of_0 9 rfl rfl)
theorem q148 : (Jvm.Cond.initialized "ExamSlips$Part") ∈ lw_all := lw_g (lw_at lw_m1 25 rfl) rfl
theorem q261 : (Jvm.Cond.fieldLinkNest "ExamSlips$Part" (13 : Nat) "ExamSlips$Asked" "numbers" "[J" "ExamSlips") ∈ lw_tbl := lw_at lw_m1 138 rfl
theorem q457 : (Jvm.Cond.selects "ExamSlips$Part" ({ cls := "java/lang/Object", name := "getClass", desc := "()Ljava/lang/Class;" } : Jvm.MethodName) ({ cls := "java/lang/Object", name := "getClass", desc := "()Ljava/lang/Class;" } : Jvm.MethodName)) ∈ lw_all := lw_g (lw_at lw_m2 94 rfl) rfl
theorem q769 : (Jvm.Cond.instantiable "ExamSlips$Part" (1 : Nat)) ∈ lw_all := lw_g (lw_at lw_m3 166 rfl) rfl
theorem q771 : (Jvm.Cond.instanceMethod ({ cls := "ExamSlips$Part", name := "<init>", desc := "(I)V" } : Jvm.MethodName)) ∈ lw_all := lw_g (lw_at lw_m3 168 rfl) rfl
theorem q772 : (Jvm.Cond.code ({ cls := "ExamSlips$Part", name := "<init>", desc := "(I)V" } : Jvm.MethodName) prog_16_method_1_code (2 : Nat) (Option.none : Option Jvm.ClassFile.FieldType)) ∈ lw_all := lw_g (lw_at lw_m3 169 rfl) rfl
theorem q773 : (Jvm.Cond.methodLinkNest "ExamSlips$Part" (1 : Nat) ({ cls := "ExamSlips$Sum", name := "<init>", desc := "()V" } : Jvm.MethodName) "ExamSlips") ∈ lw_tbl := lw_at lw_m3 170 rfl
theorem q774 : (Jvm.Cond.fieldLink "ExamSlips$Part" (7 : Nat) "ExamSlips$Part" "what" "I") ∈ lw_all := lw_g (lw_at lw_m3 171 rfl) rfl
theorem q775 : (Jvm.Cond.laysFinal "ExamSlips$Part" "ExamSlips$Part" "what" "I") ∈ lw_all := lw_g (lw_at lw_m3 172 rfl) rfl
theorem q776 : (Jvm.Cond.soleField "ExamSlips$Part" "what") ∈ lw_all := lw_g (lw_at lw_m3 173 rfl) rfl
theorem q777 : (Jvm.Cond.superclass "ExamSlips$Part" "ExamSlips$Sum") ∈ lw_all := lw_g (lw_at lw_m3 174 rfl) rfl
theorem q949 : (Jvm.Cond.instanceMethod ({ cls := "ExamSlips$Part", name := "of", desc := "(LExamSlips$Asked;)J" } : Jvm.MethodName)) ∈ lw_all := lw_g (lw_at lw_m4 106 rfl) rfl
theorem q950 : (Jvm.Cond.code ({ cls := "ExamSlips$Part", name := "of", desc := "(LExamSlips$Asked;)J" } : Jvm.MethodName) prog_16_method_2_code (2 : Nat) (Option.some Jvm.ClassFile.FieldType.long)) ∈ lw_all := lw_g (lw_at lw_m4 107 rfl) rfl
theorem q957 : (Jvm.Cond.selects "ExamSlips$Part" ({ cls := "ExamSlips$Sum", name := "of", desc := "(LExamSlips$Asked;)J" } : Jvm.MethodName) ({ cls := "ExamSlips$Part", name := "of", desc := "(LExamSlips$Asked;)J" } : Jvm.MethodName)) ∈ lw_all := lw_g (lw_at lw_m4 114 rfl) rfl
theorem q2386 : (Jvm.Cond.castable "ExamSlips$Part" "java/lang/Object") ∈ lw_tbl := lw_at lw_m10 103 rfl
theorem in_X10 : ∀ w ∈ wsX100, w ∈ lw_all := lw_in wsX100 [775] (by decide +kernel) (by decide +kernel)

/-! ExamSlips$Joined -/
set_option maxRecDepth 100000
def RX11 : String := "ExamSlips$Joined"
def TX11 : u_T := fun k => match k with
  | 0 => ("ExamSlips$Joined", "one", "LExamSlips$Sum;", true)
  | 1 => ("ExamSlips$Joined", "other", "LExamSlips$Sum;", true)
  | _ => ("ExamSlips$Joined", "sign", "I", true)
def tyX11 : Nat → FieldType := fun k => match k with
  | 0 => .object "ExamSlips$Sum"
  | 1 => .object "ExamSlips$Sum"
  | _ => .int
abbrev wsX110 : List Cond := u_ws RX11 TX11 3
theorem nmX11 : ∀ a, a < 3 → ∀ b, b < 3 → a ≠ b → (TX11 a).2.1 ≠ (TX11 b).2.1 := by decide +kernel
theorem tyX11_ok : ∀ k, k < 3 → parseFieldDescriptor (TX11 k).2.2.1 = some (tyX11 k) := by decide +kernel
abbrev cX11_init : ByteArray := prog_12_method_1_code
def yX11_init : MethodName := ⟨RX11, "<init>", "(LExamSlips$Sum;ILExamSlips$Sum;)V"⟩
def dkwX11_init_0 : List UInt8 := [42, 183, 0, 1, 42, 43, 181, 0, 7, 42, 28, 181, 0, 13, 42, 45, 181, 0, 17, 177]
abbrev dktX11_init_0 : List UInt8 := dkwX11_init_0 ++ []
theorem dksX11_init_0 : cX11_init.data.toList.drop 0 = dktX11_init_0 := by decide +kernel
theorem dX11_init_0 : decode cX11_init 0 = .ok (.aload_n 0, 1) := dk_42 (dk_at dksX11_init_0 0 rfl rfl)
theorem dX11_init_1 : decode cX11_init 1 = .ok (.invokespecial 1, 3) := dk_183 0 1 (dk_at dksX11_init_0 1 rfl rfl)
theorem dX11_init_4 : decode cX11_init 4 = .ok (.aload_n 0, 1) := dk_42 (dk_at dksX11_init_0 4 rfl rfl)
theorem dX11_init_5 : decode cX11_init 5 = .ok (.aload_n 1, 1) := dk_43 (dk_at dksX11_init_0 5 rfl rfl)
theorem dX11_init_6 : decode cX11_init 6 = .ok (.putfield 7, 3) := dk_181 0 7 (dk_at dksX11_init_0 6 rfl rfl)
theorem dX11_init_9 : decode cX11_init 9 = .ok (.aload_n 0, 1) := dk_42 (dk_at dksX11_init_0 9 rfl rfl)
theorem dX11_init_10 : decode cX11_init 10 = .ok (.iload_n 2, 1) := dk_28 (dk_at dksX11_init_0 10 rfl rfl)
theorem dX11_init_11 : decode cX11_init 11 = .ok (.putfield 13, 3) := dk_181 0 13 (dk_at dksX11_init_0 11 rfl rfl)
theorem dX11_init_14 : decode cX11_init 14 = .ok (.aload_n 0, 1) := dk_42 (dk_at dksX11_init_0 14 rfl rfl)
theorem dX11_init_15 : decode cX11_init 15 = .ok (.aload_n 3, 1) := dk_45 (dk_at dksX11_init_0 15 rfl rfl)
theorem dX11_init_16 : decode cX11_init 16 = .ok (.putfield 17, 3) := dk_181 0 17 (dk_at dksX11_init_0 16 rfl rfl)
theorem dX11_init_19 : decode cX11_init 19 = .ok (.return_, 1) := dk_177 (dk_at dksX11_init_0 19 rfl rfl)
abbrev cX11_of : ByteArray := prog_12_method_2_code
def yX11_of : MethodName := ⟨RX11, "of", "(LExamSlips$Asked;)J"⟩
def dkwX11_of_5 : List UInt8 := [182, 0, 30, 173]
abbrev dktX11_of_5 : List UInt8 := dkwX11_of_5 ++ []
def dkwX11_of_4 : List UInt8 := [167, 0, 23, 42, 180, 0, 13, 16, 45, 160, 0, 10, 32, 22, 4, 101, 167, 0, 7, 32, 22, 4, 105]
abbrev dktX11_of_4 : List UInt8 := dkwX11_of_4 ++ dktX11_of_5
def dkwX11_of_3 : List UInt8 := [167, 0, 7, 32, 22, 4, 109, 173, 43, 42, 180, 0, 13, 16, 43, 160, 0, 10, 32, 22, 4, 97]
abbrev dktX11_of_3 : List UInt8 := dkwX11_of_3 ++ dktX11_of_4
def dkwX11_of_2 : List UInt8 := [43, 22, 4, 9, 148, 154, 0, 7, 4, 167, 0, 4, 3, 181, 0, 24, 22, 4, 9, 148, 154, 0, 7, 9]
abbrev dktX11_of_2 : List UInt8 := dkwX11_of_2 ++ dktX11_of_3
def dkwX11_of_1 : List UInt8 := [43, 182, 0, 20, 55, 4, 43, 180, 0, 24, 153, 0, 5, 9, 173, 42, 180, 0, 13, 16, 47, 160, 0, 35]
abbrev dktX11_of_1 : List UInt8 := dkwX11_of_1 ++ dktX11_of_2
def dkwX11_of_0 : List UInt8 := [42, 180, 0, 7, 43, 182, 0, 20, 65, 43, 180, 0, 24, 153, 0, 7, 9, 167, 0, 11, 42, 180, 0, 17]
abbrev dktX11_of_0 : List UInt8 := dkwX11_of_0 ++ dktX11_of_1
theorem dksX11_of_0 : cX11_of.data.toList.drop 0 = dktX11_of_0 := by decide +kernel
theorem dksX11_of_1 : cX11_of.data.toList.drop 24 = dktX11_of_1 := dk_seg dksX11_of_0 24 rfl rfl
theorem dksX11_of_2 : cX11_of.data.toList.drop 48 = dktX11_of_2 := dk_seg dksX11_of_1 24 rfl rfl
theorem dksX11_of_3 : cX11_of.data.toList.drop 72 = dktX11_of_3 := dk_seg dksX11_of_2 24 rfl rfl
theorem dksX11_of_4 : cX11_of.data.toList.drop 94 = dktX11_of_4 := dk_seg dksX11_of_3 22 rfl rfl
theorem dksX11_of_5 : cX11_of.data.toList.drop 117 = dktX11_of_5 := dk_seg dksX11_of_4 23 rfl rfl
theorem dX11_of_0 : decode cX11_of 0 = .ok (.aload_n 0, 1) := dk_42 (dk_at dksX11_of_0 0 rfl rfl)
theorem dX11_of_1 : decode cX11_of 1 = .ok (.getfield 7, 3) := dk_180 0 7 (dk_at dksX11_of_0 1 rfl rfl)
theorem dX11_of_4 : decode cX11_of 4 = .ok (.aload_n 1, 1) := dk_43 (dk_at dksX11_of_0 4 rfl rfl)
theorem dX11_of_5 : decode cX11_of 5 = .ok (.invokevirtual 20, 3) := dk_182 0 20 (dk_at dksX11_of_0 5 rfl rfl)
theorem dX11_of_8 : decode cX11_of 8 = .ok (.lstore_n 2, 1) := dk_65 (dk_at dksX11_of_0 8 rfl rfl)
theorem dX11_of_9 : decode cX11_of 9 = .ok (.aload_n 1, 1) := dk_43 (dk_at dksX11_of_0 9 rfl rfl)
theorem dX11_of_10 : decode cX11_of 10 = .ok (.getfield 24, 3) := dk_180 0 24 (dk_at dksX11_of_0 10 rfl rfl)
theorem dX11_of_13 : decode cX11_of 13 = .ok (.ifCond .eq 7, 3) := dk_153 0 7 (dk_at dksX11_of_0 13 rfl rfl)
theorem dX11_of_16 : decode cX11_of 16 = .ok (.lconst 0, 1) := dk_9 (dk_at dksX11_of_0 16 rfl rfl)
theorem dX11_of_17 : decode cX11_of 17 = .ok (.goto 11, 3) := dk_167 0 11 (dk_at dksX11_of_0 17 rfl rfl)
theorem dX11_of_20 : decode cX11_of 20 = .ok (.aload_n 0, 1) := dk_42 (dk_at dksX11_of_0 20 rfl rfl)
theorem dX11_of_21 : decode cX11_of 21 = .ok (.getfield 17, 3) := dk_180 0 17 (dk_at dksX11_of_0 21 rfl rfl)
theorem dX11_of_24 : decode cX11_of 24 = .ok (.aload_n 1, 1) := dk_43 (dk_at dksX11_of_1 0 rfl rfl)
theorem dX11_of_25 : decode cX11_of 25 = .ok (.invokevirtual 20, 3) := dk_182 0 20 (dk_at dksX11_of_1 1 rfl rfl)
theorem dX11_of_28 : decode cX11_of 28 = .ok (.lstore 4, 2) := dk_55 4 (dk_at dksX11_of_1 4 rfl rfl)
theorem dX11_of_30 : decode cX11_of 30 = .ok (.aload_n 1, 1) := dk_43 (dk_at dksX11_of_1 6 rfl rfl)
theorem dX11_of_31 : decode cX11_of 31 = .ok (.getfield 24, 3) := dk_180 0 24 (dk_at dksX11_of_1 7 rfl rfl)
theorem dX11_of_34 : decode cX11_of 34 = .ok (.ifCond .eq 5, 3) := dk_153 0 5 (dk_at dksX11_of_1 10 rfl rfl)
theorem dX11_of_37 : decode cX11_of 37 = .ok (.lconst 0, 1) := dk_9 (dk_at dksX11_of_1 13 rfl rfl)
theorem dX11_of_38 : decode cX11_of 38 = .ok (.lreturn, 1) := dk_173 (dk_at dksX11_of_1 14 rfl rfl)
theorem dX11_of_39 : decode cX11_of 39 = .ok (.aload_n 0, 1) := dk_42 (dk_at dksX11_of_1 15 rfl rfl)
theorem dX11_of_40 : decode cX11_of 40 = .ok (.getfield 13, 3) := dk_180 0 13 (dk_at dksX11_of_1 16 rfl rfl)
theorem dX11_of_43 : decode cX11_of 43 = .ok (.bipush 47, 2) := dk_16 47 (dk_at dksX11_of_1 19 rfl rfl)
theorem dX11_of_45 : decode cX11_of 45 = .ok (.if_icmp .ne 35, 3) := dk_160 0 35 (dk_at dksX11_of_1 21 rfl rfl)
theorem dX11_of_48 : decode cX11_of 48 = .ok (.aload_n 1, 1) := dk_43 (dk_at dksX11_of_2 0 rfl rfl)
theorem dX11_of_49 : decode cX11_of 49 = .ok (.lload 4, 2) := dk_22 4 (dk_at dksX11_of_2 1 rfl rfl)
theorem dX11_of_51 : decode cX11_of 51 = .ok (.lconst 0, 1) := dk_9 (dk_at dksX11_of_2 3 rfl rfl)
theorem dX11_of_52 : decode cX11_of 52 = .ok (.lcmp, 1) := dk_148 (dk_at dksX11_of_2 4 rfl rfl)
theorem dX11_of_53 : decode cX11_of 53 = .ok (.ifCond .ne 7, 3) := dk_154 0 7 (dk_at dksX11_of_2 5 rfl rfl)
theorem dX11_of_56 : decode cX11_of 56 = .ok (.iconst 1, 1) := dk_4 (dk_at dksX11_of_2 8 rfl rfl)
theorem dX11_of_57 : decode cX11_of 57 = .ok (.goto 4, 3) := dk_167 0 4 (dk_at dksX11_of_2 9 rfl rfl)
theorem dX11_of_60 : decode cX11_of 60 = .ok (.iconst 0, 1) := dk_3 (dk_at dksX11_of_2 12 rfl rfl)
theorem dX11_of_61 : decode cX11_of 61 = .ok (.putfield 24, 3) := dk_181 0 24 (dk_at dksX11_of_2 13 rfl rfl)
theorem dX11_of_64 : decode cX11_of 64 = .ok (.lload 4, 2) := dk_22 4 (dk_at dksX11_of_2 16 rfl rfl)
theorem dX11_of_66 : decode cX11_of 66 = .ok (.lconst 0, 1) := dk_9 (dk_at dksX11_of_2 18 rfl rfl)
theorem dX11_of_67 : decode cX11_of 67 = .ok (.lcmp, 1) := dk_148 (dk_at dksX11_of_2 19 rfl rfl)
theorem dX11_of_68 : decode cX11_of 68 = .ok (.ifCond .ne 7, 3) := dk_154 0 7 (dk_at dksX11_of_2 20 rfl rfl)
theorem dX11_of_71 : decode cX11_of 71 = .ok (.lconst 0, 1) := dk_9 (dk_at dksX11_of_2 23 rfl rfl)
theorem dX11_of_72 : decode cX11_of 72 = .ok (.goto 7, 3) := dk_167 0 7 (dk_at dksX11_of_3 0 rfl rfl)
theorem dX11_of_75 : decode cX11_of 75 = .ok (.lload_n 2, 1) := dk_32 (dk_at dksX11_of_3 3 rfl rfl)
theorem dX11_of_76 : decode cX11_of 76 = .ok (.lload 4, 2) := dk_22 4 (dk_at dksX11_of_3 4 rfl rfl)
theorem dX11_of_78 : decode cX11_of 78 = .ok (.ldiv, 1) := dk_109 (dk_at dksX11_of_3 6 rfl rfl)
theorem dX11_of_79 : decode cX11_of 79 = .ok (.lreturn, 1) := dk_173 (dk_at dksX11_of_3 7 rfl rfl)
theorem dX11_of_80 : decode cX11_of 80 = .ok (.aload_n 1, 1) := dk_43 (dk_at dksX11_of_3 8 rfl rfl)
theorem dX11_of_81 : decode cX11_of 81 = .ok (.aload_n 0, 1) := dk_42 (dk_at dksX11_of_3 9 rfl rfl)
theorem dX11_of_82 : decode cX11_of 82 = .ok (.getfield 13, 3) := dk_180 0 13 (dk_at dksX11_of_3 10 rfl rfl)
theorem dX11_of_85 : decode cX11_of 85 = .ok (.bipush 43, 2) := dk_16 43 (dk_at dksX11_of_3 13 rfl rfl)
theorem dX11_of_87 : decode cX11_of 87 = .ok (.if_icmp .ne 10, 3) := dk_160 0 10 (dk_at dksX11_of_3 15 rfl rfl)
theorem dX11_of_90 : decode cX11_of 90 = .ok (.lload_n 2, 1) := dk_32 (dk_at dksX11_of_3 18 rfl rfl)
theorem dX11_of_91 : decode cX11_of 91 = .ok (.lload 4, 2) := dk_22 4 (dk_at dksX11_of_3 19 rfl rfl)
theorem dX11_of_93 : decode cX11_of 93 = .ok (.ladd, 1) := dk_97 (dk_at dksX11_of_3 21 rfl rfl)
theorem dX11_of_94 : decode cX11_of 94 = .ok (.goto 23, 3) := dk_167 0 23 (dk_at dksX11_of_4 0 rfl rfl)
theorem dX11_of_97 : decode cX11_of 97 = .ok (.aload_n 0, 1) := dk_42 (dk_at dksX11_of_4 3 rfl rfl)
theorem dX11_of_98 : decode cX11_of 98 = .ok (.getfield 13, 3) := dk_180 0 13 (dk_at dksX11_of_4 4 rfl rfl)
theorem dX11_of_101 : decode cX11_of 101 = .ok (.bipush 45, 2) := dk_16 45 (dk_at dksX11_of_4 7 rfl rfl)
theorem dX11_of_103 : decode cX11_of 103 = .ok (.if_icmp .ne 10, 3) := dk_160 0 10 (dk_at dksX11_of_4 9 rfl rfl)
theorem dX11_of_106 : decode cX11_of 106 = .ok (.lload_n 2, 1) := dk_32 (dk_at dksX11_of_4 12 rfl rfl)
theorem dX11_of_107 : decode cX11_of 107 = .ok (.lload 4, 2) := dk_22 4 (dk_at dksX11_of_4 13 rfl rfl)
theorem dX11_of_109 : decode cX11_of 109 = .ok (.lsub, 1) := dk_101 (dk_at dksX11_of_4 15 rfl rfl)
theorem dX11_of_110 : decode cX11_of 110 = .ok (.goto 7, 3) := dk_167 0 7 (dk_at dksX11_of_4 16 rfl rfl)
theorem dX11_of_113 : decode cX11_of 113 = .ok (.lload_n 2, 1) := dk_32 (dk_at dksX11_of_4 19 rfl rfl)
theorem dX11_of_114 : decode cX11_of 114 = .ok (.lload 4, 2) := dk_22 4 (dk_at dksX11_of_4 20 rfl rfl)
theorem dX11_of_116 : decode cX11_of 116 = .ok (.lmul, 1) := dk_105 (dk_at dksX11_of_4 22 rfl rfl)
theorem dX11_of_117 : decode cX11_of 117 = .ok (.invokevirtual 30, 3) := dk_182 0 30 (dk_at dksX11_of_5 0 rfl rfl)
theorem dX11_of_120 : decode cX11_of 120 = .ok (.lreturn, 1) := dk_173 (dk_at dksX11_of_5 3 rfl rfl)
theorem q149 : (Jvm.Cond.initialized "ExamSlips$Joined") ∈ lw_all := lw_g (lw_at lw_m1 26 rfl) rfl
theorem q265 : (Jvm.Cond.fieldLinkNest "ExamSlips$Joined" (24 : Nat) "ExamSlips$Asked" "isBroken" "Z" "ExamSlips") ∈ lw_tbl := lw_at lw_m1 142 rfl
theorem q453 : (Jvm.Cond.selects "ExamSlips$Joined" ({ cls := "java/lang/Object", name := "getClass", desc := "()Ljava/lang/Class;" } : Jvm.MethodName) ({ cls := "java/lang/Object", name := "getClass", desc := "()Ljava/lang/Class;" } : Jvm.MethodName)) ∈ lw_all := lw_g (lw_at lw_m2 90 rfl) rfl
theorem q781 : (Jvm.Cond.instantiable "ExamSlips$Joined" (3 : Nat)) ∈ lw_all := lw_g (lw_at lw_m3 178 rfl) rfl
theorem q783 : (Jvm.Cond.instanceMethod ({ cls := "ExamSlips$Joined", name := "<init>", desc := "(LExamSlips$Sum;ILExamSlips$Sum;)V" } : Jvm.MethodName)) ∈ lw_all := lw_g (lw_at lw_m3 180 rfl) rfl
theorem q784 : (Jvm.Cond.code ({ cls := "ExamSlips$Joined", name := "<init>", desc := "(LExamSlips$Sum;ILExamSlips$Sum;)V" } : Jvm.MethodName) prog_12_method_1_code (4 : Nat) (Option.none : Option Jvm.ClassFile.FieldType)) ∈ lw_all := lw_g (lw_at lw_m3 181 rfl) rfl
theorem q785 : (Jvm.Cond.methodLinkNest "ExamSlips$Joined" (1 : Nat) ({ cls := "ExamSlips$Sum", name := "<init>", desc := "()V" } : Jvm.MethodName) "ExamSlips") ∈ lw_tbl := lw_at lw_m3 182 rfl
theorem q786 : (Jvm.Cond.fieldLink "ExamSlips$Joined" (7 : Nat) "ExamSlips$Joined" "one" "LExamSlips$Sum;") ∈ lw_all := lw_g (lw_at lw_m3 183 rfl) rfl
theorem q787 : (Jvm.Cond.fieldLink "ExamSlips$Joined" (17 : Nat) "ExamSlips$Joined" "other" "LExamSlips$Sum;") ∈ lw_all := lw_g (lw_at lw_m3 184 rfl) rfl
theorem q788 : (Jvm.Cond.fieldLink "ExamSlips$Joined" (13 : Nat) "ExamSlips$Joined" "sign" "I") ∈ lw_all := lw_g (lw_at lw_m3 185 rfl) rfl
theorem q789 : (Jvm.Cond.laysFinal "ExamSlips$Joined" "ExamSlips$Joined" "one" "LExamSlips$Sum;") ∈ lw_all := lw_g (lw_at lw_m3 186 rfl) rfl
theorem q790 : (Jvm.Cond.soleField "ExamSlips$Joined" "one") ∈ lw_all := lw_g (lw_at lw_m3 187 rfl) rfl
theorem q791 : (Jvm.Cond.laysFinal "ExamSlips$Joined" "ExamSlips$Joined" "other" "LExamSlips$Sum;") ∈ lw_all := lw_g (lw_at lw_m3 188 rfl) rfl
theorem q792 : (Jvm.Cond.soleField "ExamSlips$Joined" "other") ∈ lw_all := lw_g (lw_at lw_m3 189 rfl) rfl
theorem q793 : (Jvm.Cond.laysFinal "ExamSlips$Joined" "ExamSlips$Joined" "sign" "I") ∈ lw_all := lw_g (lw_at lw_m3 190 rfl) rfl
theorem q794 : (Jvm.Cond.soleField "ExamSlips$Joined" "sign") ∈ lw_all := lw_g (lw_at lw_m3 191 rfl) rfl
theorem q795 : (Jvm.Cond.superclass "ExamSlips$Joined" "ExamSlips$Sum") ∈ lw_all := lw_g (lw_at lw_m3 192 rfl) rfl
theorem q945 : (Jvm.Cond.selects "ExamSlips$Joined" ({ cls := "ExamSlips$Sum", name := "of", desc := "(LExamSlips$Asked;)J" } : Jvm.MethodName) ({ cls := "ExamSlips$Joined", name := "of", desc := "(LExamSlips$Asked;)J" } : Jvm.MethodName)) ∈ lw_all := lw_g (lw_at lw_m4 102 rfl) rfl
theorem q946 : (Jvm.Cond.instanceMethod ({ cls := "ExamSlips$Joined", name := "of", desc := "(LExamSlips$Asked;)J" } : Jvm.MethodName)) ∈ lw_all := lw_g (lw_at lw_m4 103 rfl) rfl
theorem q947 : (Jvm.Cond.code ({ cls := "ExamSlips$Joined", name := "of", desc := "(LExamSlips$Asked;)J" } : Jvm.MethodName) prog_12_method_2_code (6 : Nat) (Option.some Jvm.ClassFile.FieldType.long)) ∈ lw_all := lw_g (lw_at lw_m4 104 rfl) rfl
theorem q948 : (Jvm.Cond.methodLink "ExamSlips$Joined" (20 : Nat) ({ cls := "ExamSlips$Sum", name := "of", desc := "(LExamSlips$Asked;)J" } : Jvm.MethodName)) ∈ lw_all := lw_g (lw_at lw_m4 105 rfl) rfl
theorem q951 : (Jvm.Cond.methodLink "ExamSlips$Joined" (30 : Nat) ({ cls := "ExamSlips$Asked", name := "within", desc := "(J)J" } : Jvm.MethodName)) ∈ lw_all := lw_g (lw_at lw_m4 108 rfl) rfl
theorem q2387 : (Jvm.Cond.castable "ExamSlips$Joined" "java/lang/Object") ∈ lw_tbl := lw_at lw_m10 104 rfl
theorem in_X11 : ∀ w ∈ wsX110, w ∈ lw_all := lw_in wsX110 [789, 791, 793] (by decide +kernel) (by decide +kernel)

/-! ExamSlips$Test -/
set_option maxRecDepth 100000
def RX12 : String := "ExamSlips$Test"
abbrev cX12_init : ByteArray := prog_25_method_1_code
def yX12_init : MethodName := ⟨RX12, "<init>", "()V"⟩
theorem dX12_init_0 : decode cX12_init 0 = .ok (.aload_n 0, 1) := by decide +kernel
theorem dX12_init_1 : decode cX12_init 1 = .ok (.invokespecial 1, 3) := by decide +kernel
theorem dX12_init_4 : decode cX12_init 4 = .ok (.return_, 1) := by decide +kernel
theorem q150 : (Jvm.Cond.initialized "ExamSlips$Test") ∈ lw_all := lw_g (lw_at lw_m1 27 rfl) rfl
theorem q823 : (Jvm.Cond.instanceMethod ({ cls := "ExamSlips$Test", name := "<init>", desc := "()V" } : Jvm.MethodName)) ∈ lw_all := lw_g (lw_at lw_m3 220 rfl) rfl
theorem q824 : (Jvm.Cond.code ({ cls := "ExamSlips$Test", name := "<init>", desc := "()V" } : Jvm.MethodName) prog_25_method_1_code (1 : Nat) (Option.none : Option Jvm.ClassFile.FieldType)) ∈ lw_all := lw_g (lw_at lw_m3 221 rfl) rfl
theorem q825 : (Jvm.Cond.methodLink "ExamSlips$Test" (1 : Nat) ({ cls := "java/lang/Object", name := "<init>", desc := "()V" } : Jvm.MethodName)) ∈ lw_all := lw_g (lw_at lw_m3 222 rfl) rfl
theorem q934 : (Jvm.Cond.declares ({ cls := "ExamSlips$Test", name := "of", desc := "(LExamSlips$Asked;)Z" } : Jvm.MethodName)) ∈ lw_tbl := lw_at lw_m4 91 rfl
theorem q935 : (Jvm.Cond.sameMethod "ExamSlips$Test" "ExamSlips$Test" "of" "(LExamSlips$Asked;)Z") ∈ lw_all := lw_g (lw_at lw_m4 92 rfl) rfl
theorem q2374 : (Jvm.Cond.castable "ExamSlips$Test" "java/lang/Object") ∈ lw_tbl := lw_at lw_m10 91 rfl

/-! ExamSlips$Compared -/
set_option maxRecDepth 100000
def RX13 : String := "ExamSlips$Compared"
def TX13 : u_T := fun k => match k with
  | 0 => ("ExamSlips$Compared", "one", "LExamSlips$Sum;", true)
  | 1 => ("ExamSlips$Compared", "other", "LExamSlips$Sum;", true)
  | _ => ("ExamSlips$Compared", "sign", "I", true)
def tyX13 : Nat → FieldType := fun k => match k with
  | 0 => .object "ExamSlips$Sum"
  | 1 => .object "ExamSlips$Sum"
  | _ => .int
abbrev wsX130 : List Cond := u_ws RX13 TX13 3
theorem nmX13 : ∀ a, a < 3 → ∀ b, b < 3 → a ≠ b → (TX13 a).2.1 ≠ (TX13 b).2.1 := by decide +kernel
theorem tyX13_ok : ∀ k, k < 3 → parseFieldDescriptor (TX13 k).2.2.1 = some (tyX13 k) := by decide +kernel
abbrev cX13_init : ByteArray := prog_8_method_1_code
def yX13_init : MethodName := ⟨RX13, "<init>", "(LExamSlips$Sum;ILExamSlips$Sum;)V"⟩
def dkwX13_init_0 : List UInt8 := [42, 183, 0, 1, 42, 43, 181, 0, 7, 42, 28, 181, 0, 13, 42, 45, 181, 0, 17, 177]
abbrev dktX13_init_0 : List UInt8 := dkwX13_init_0 ++ []
theorem dksX13_init_0 : cX13_init.data.toList.drop 0 = dktX13_init_0 := by decide +kernel
theorem dX13_init_0 : decode cX13_init 0 = .ok (.aload_n 0, 1) := dk_42 (dk_at dksX13_init_0 0 rfl rfl)
theorem dX13_init_1 : decode cX13_init 1 = .ok (.invokespecial 1, 3) := dk_183 0 1 (dk_at dksX13_init_0 1 rfl rfl)
theorem dX13_init_4 : decode cX13_init 4 = .ok (.aload_n 0, 1) := dk_42 (dk_at dksX13_init_0 4 rfl rfl)
theorem dX13_init_5 : decode cX13_init 5 = .ok (.aload_n 1, 1) := dk_43 (dk_at dksX13_init_0 5 rfl rfl)
theorem dX13_init_6 : decode cX13_init 6 = .ok (.putfield 7, 3) := dk_181 0 7 (dk_at dksX13_init_0 6 rfl rfl)
theorem dX13_init_9 : decode cX13_init 9 = .ok (.aload_n 0, 1) := dk_42 (dk_at dksX13_init_0 9 rfl rfl)
theorem dX13_init_10 : decode cX13_init 10 = .ok (.iload_n 2, 1) := dk_28 (dk_at dksX13_init_0 10 rfl rfl)
theorem dX13_init_11 : decode cX13_init 11 = .ok (.putfield 13, 3) := dk_181 0 13 (dk_at dksX13_init_0 11 rfl rfl)
theorem dX13_init_14 : decode cX13_init 14 = .ok (.aload_n 0, 1) := dk_42 (dk_at dksX13_init_0 14 rfl rfl)
theorem dX13_init_15 : decode cX13_init 15 = .ok (.aload_n 3, 1) := dk_45 (dk_at dksX13_init_0 15 rfl rfl)
theorem dX13_init_16 : decode cX13_init 16 = .ok (.putfield 17, 3) := dk_181 0 17 (dk_at dksX13_init_0 16 rfl rfl)
theorem dX13_init_19 : decode cX13_init 19 = .ok (.return_, 1) := dk_177 (dk_at dksX13_init_0 19 rfl rfl)
abbrev cX13_of : ByteArray := prog_8_method_2_code
def yX13_of : MethodName := ⟨RX13, "of", "(LExamSlips$Asked;)Z"⟩
def dkwX13_of_3 : List UInt8 := [158, 0, 17, 167, 0, 10, 32, 22, 4, 148, 154, 0, 7, 4, 167, 0, 4, 3, 172]
abbrev dktX13_of_3 : List UInt8 := dkwX13_of_3 ++ []
def dkwX13_of_2 : List UInt8 := [22, 4, 148, 156, 0, 36, 167, 0, 29, 42, 180, 0, 13, 16, 62, 160, 0, 13, 32, 22, 4, 148]
abbrev dktX13_of_2 : List UInt8 := dkwX13_of_2 ++ dktX13_of_3
def dkwX13_of_1 : List UInt8 := [43, 182, 0, 20, 55, 4, 43, 180, 0, 26, 154, 0, 52, 42, 180, 0, 13, 16, 60, 160, 0, 13, 32]
abbrev dktX13_of_1 : List UInt8 := dkwX13_of_1 ++ dktX13_of_2
def dkwX13_of_0 : List UInt8 := [42, 180, 0, 7, 43, 182, 0, 20, 65, 43, 180, 0, 26, 153, 0, 7, 9, 167, 0, 11, 42, 180, 0, 17]
abbrev dktX13_of_0 : List UInt8 := dkwX13_of_0 ++ dktX13_of_1
theorem dksX13_of_0 : cX13_of.data.toList.drop 0 = dktX13_of_0 := by decide +kernel
theorem dksX13_of_1 : cX13_of.data.toList.drop 24 = dktX13_of_1 := dk_seg dksX13_of_0 24 rfl rfl
theorem dksX13_of_2 : cX13_of.data.toList.drop 47 = dktX13_of_2 := dk_seg dksX13_of_1 23 rfl rfl
theorem dksX13_of_3 : cX13_of.data.toList.drop 69 = dktX13_of_3 := dk_seg dksX13_of_2 22 rfl rfl
theorem dX13_of_0 : decode cX13_of 0 = .ok (.aload_n 0, 1) := dk_42 (dk_at dksX13_of_0 0 rfl rfl)
theorem dX13_of_1 : decode cX13_of 1 = .ok (.getfield 7, 3) := dk_180 0 7 (dk_at dksX13_of_0 1 rfl rfl)
theorem dX13_of_4 : decode cX13_of 4 = .ok (.aload_n 1, 1) := dk_43 (dk_at dksX13_of_0 4 rfl rfl)
theorem dX13_of_5 : decode cX13_of 5 = .ok (.invokevirtual 20, 3) := dk_182 0 20 (dk_at dksX13_of_0 5 rfl rfl)
theorem dX13_of_8 : decode cX13_of 8 = .ok (.lstore_n 2, 1) := dk_65 (dk_at dksX13_of_0 8 rfl rfl)
theorem dX13_of_9 : decode cX13_of 9 = .ok (.aload_n 1, 1) := dk_43 (dk_at dksX13_of_0 9 rfl rfl)
theorem dX13_of_10 : decode cX13_of 10 = .ok (.getfield 26, 3) := dk_180 0 26 (dk_at dksX13_of_0 10 rfl rfl)
theorem dX13_of_13 : decode cX13_of 13 = .ok (.ifCond .eq 7, 3) := dk_153 0 7 (dk_at dksX13_of_0 13 rfl rfl)
theorem dX13_of_16 : decode cX13_of 16 = .ok (.lconst 0, 1) := dk_9 (dk_at dksX13_of_0 16 rfl rfl)
theorem dX13_of_17 : decode cX13_of 17 = .ok (.goto 11, 3) := dk_167 0 11 (dk_at dksX13_of_0 17 rfl rfl)
theorem dX13_of_20 : decode cX13_of 20 = .ok (.aload_n 0, 1) := dk_42 (dk_at dksX13_of_0 20 rfl rfl)
theorem dX13_of_21 : decode cX13_of 21 = .ok (.getfield 17, 3) := dk_180 0 17 (dk_at dksX13_of_0 21 rfl rfl)
theorem dX13_of_24 : decode cX13_of 24 = .ok (.aload_n 1, 1) := dk_43 (dk_at dksX13_of_1 0 rfl rfl)
theorem dX13_of_25 : decode cX13_of 25 = .ok (.invokevirtual 20, 3) := dk_182 0 20 (dk_at dksX13_of_1 1 rfl rfl)
theorem dX13_of_28 : decode cX13_of 28 = .ok (.lstore 4, 2) := dk_55 4 (dk_at dksX13_of_1 4 rfl rfl)
theorem dX13_of_30 : decode cX13_of 30 = .ok (.aload_n 1, 1) := dk_43 (dk_at dksX13_of_1 6 rfl rfl)
theorem dX13_of_31 : decode cX13_of 31 = .ok (.getfield 26, 3) := dk_180 0 26 (dk_at dksX13_of_1 7 rfl rfl)
theorem dX13_of_34 : decode cX13_of 34 = .ok (.ifCond .ne 52, 3) := dk_154 0 52 (dk_at dksX13_of_1 10 rfl rfl)
theorem dX13_of_37 : decode cX13_of 37 = .ok (.aload_n 0, 1) := dk_42 (dk_at dksX13_of_1 13 rfl rfl)
theorem dX13_of_38 : decode cX13_of 38 = .ok (.getfield 13, 3) := dk_180 0 13 (dk_at dksX13_of_1 14 rfl rfl)
theorem dX13_of_41 : decode cX13_of 41 = .ok (.bipush 60, 2) := dk_16 60 (dk_at dksX13_of_1 17 rfl rfl)
theorem dX13_of_43 : decode cX13_of 43 = .ok (.if_icmp .ne 13, 3) := dk_160 0 13 (dk_at dksX13_of_1 19 rfl rfl)
theorem dX13_of_46 : decode cX13_of 46 = .ok (.lload_n 2, 1) := dk_32 (dk_at dksX13_of_1 22 rfl rfl)
theorem dX13_of_47 : decode cX13_of 47 = .ok (.lload 4, 2) := dk_22 4 (dk_at dksX13_of_2 0 rfl rfl)
theorem dX13_of_49 : decode cX13_of 49 = .ok (.lcmp, 1) := dk_148 (dk_at dksX13_of_2 2 rfl rfl)
theorem dX13_of_50 : decode cX13_of 50 = .ok (.ifCond .ge 36, 3) := dk_156 0 36 (dk_at dksX13_of_2 3 rfl rfl)
theorem dX13_of_53 : decode cX13_of 53 = .ok (.goto 29, 3) := dk_167 0 29 (dk_at dksX13_of_2 6 rfl rfl)
theorem dX13_of_56 : decode cX13_of 56 = .ok (.aload_n 0, 1) := dk_42 (dk_at dksX13_of_2 9 rfl rfl)
theorem dX13_of_57 : decode cX13_of 57 = .ok (.getfield 13, 3) := dk_180 0 13 (dk_at dksX13_of_2 10 rfl rfl)
theorem dX13_of_60 : decode cX13_of 60 = .ok (.bipush 62, 2) := dk_16 62 (dk_at dksX13_of_2 13 rfl rfl)
theorem dX13_of_62 : decode cX13_of 62 = .ok (.if_icmp .ne 13, 3) := dk_160 0 13 (dk_at dksX13_of_2 15 rfl rfl)
theorem dX13_of_65 : decode cX13_of 65 = .ok (.lload_n 2, 1) := dk_32 (dk_at dksX13_of_2 18 rfl rfl)
theorem dX13_of_66 : decode cX13_of 66 = .ok (.lload 4, 2) := dk_22 4 (dk_at dksX13_of_2 19 rfl rfl)
theorem dX13_of_68 : decode cX13_of 68 = .ok (.lcmp, 1) := dk_148 (dk_at dksX13_of_2 21 rfl rfl)
theorem dX13_of_69 : decode cX13_of 69 = .ok (.ifCond .le 17, 3) := dk_158 0 17 (dk_at dksX13_of_3 0 rfl rfl)
theorem dX13_of_72 : decode cX13_of 72 = .ok (.goto 10, 3) := dk_167 0 10 (dk_at dksX13_of_3 3 rfl rfl)
theorem dX13_of_75 : decode cX13_of 75 = .ok (.lload_n 2, 1) := dk_32 (dk_at dksX13_of_3 6 rfl rfl)
theorem dX13_of_76 : decode cX13_of 76 = .ok (.lload 4, 2) := dk_22 4 (dk_at dksX13_of_3 7 rfl rfl)
theorem dX13_of_78 : decode cX13_of 78 = .ok (.lcmp, 1) := dk_148 (dk_at dksX13_of_3 9 rfl rfl)
theorem dX13_of_79 : decode cX13_of 79 = .ok (.ifCond .ne 7, 3) := dk_154 0 7 (dk_at dksX13_of_3 10 rfl rfl)
theorem dX13_of_82 : decode cX13_of 82 = .ok (.iconst 1, 1) := dk_4 (dk_at dksX13_of_3 13 rfl rfl)
theorem dX13_of_83 : decode cX13_of 83 = .ok (.goto 4, 3) := dk_167 0 4 (dk_at dksX13_of_3 14 rfl rfl)
theorem dX13_of_86 : decode cX13_of 86 = .ok (.iconst 0, 1) := dk_3 (dk_at dksX13_of_3 17 rfl rfl)
theorem dX13_of_87 : decode cX13_of 87 = .ok (.ireturn, 1) := dk_172 (dk_at dksX13_of_3 18 rfl rfl)
theorem q151 : (Jvm.Cond.initialized "ExamSlips$Compared") ∈ lw_all := lw_g (lw_at lw_m1 28 rfl) rfl
theorem q266 : (Jvm.Cond.fieldLinkNest "ExamSlips$Compared" (26 : Nat) "ExamSlips$Asked" "isBroken" "Z" "ExamSlips") ∈ lw_tbl := lw_at lw_m1 143 rfl
theorem q449 : (Jvm.Cond.selects "ExamSlips$Compared" ({ cls := "java/lang/Object", name := "getClass", desc := "()Ljava/lang/Class;" } : Jvm.MethodName) ({ cls := "java/lang/Object", name := "getClass", desc := "()Ljava/lang/Class;" } : Jvm.MethodName)) ∈ lw_all := lw_g (lw_at lw_m2 86 rfl) rfl
theorem q818 : (Jvm.Cond.instantiable "ExamSlips$Compared" (3 : Nat)) ∈ lw_all := lw_g (lw_at lw_m3 215 rfl) rfl
theorem q820 : (Jvm.Cond.instanceMethod ({ cls := "ExamSlips$Compared", name := "<init>", desc := "(LExamSlips$Sum;ILExamSlips$Sum;)V" } : Jvm.MethodName)) ∈ lw_all := lw_g (lw_at lw_m3 217 rfl) rfl
theorem q821 : (Jvm.Cond.code ({ cls := "ExamSlips$Compared", name := "<init>", desc := "(LExamSlips$Sum;ILExamSlips$Sum;)V" } : Jvm.MethodName) prog_8_method_1_code (4 : Nat) (Option.none : Option Jvm.ClassFile.FieldType)) ∈ lw_all := lw_g (lw_at lw_m3 218 rfl) rfl
theorem q822 : (Jvm.Cond.methodLinkNest "ExamSlips$Compared" (1 : Nat) ({ cls := "ExamSlips$Test", name := "<init>", desc := "()V" } : Jvm.MethodName) "ExamSlips") ∈ lw_tbl := lw_at lw_m3 219 rfl
theorem q826 : (Jvm.Cond.fieldLink "ExamSlips$Compared" (7 : Nat) "ExamSlips$Compared" "one" "LExamSlips$Sum;") ∈ lw_all := lw_g (lw_at lw_m3 223 rfl) rfl
theorem q827 : (Jvm.Cond.fieldLink "ExamSlips$Compared" (17 : Nat) "ExamSlips$Compared" "other" "LExamSlips$Sum;") ∈ lw_all := lw_g (lw_at lw_m3 224 rfl) rfl
theorem q828 : (Jvm.Cond.fieldLink "ExamSlips$Compared" (13 : Nat) "ExamSlips$Compared" "sign" "I") ∈ lw_all := lw_g (lw_at lw_m3 225 rfl) rfl
theorem q829 : (Jvm.Cond.laysFinal "ExamSlips$Compared" "ExamSlips$Compared" "one" "LExamSlips$Sum;") ∈ lw_all := lw_g (lw_at lw_m3 226 rfl) rfl
theorem q830 : (Jvm.Cond.soleField "ExamSlips$Compared" "one") ∈ lw_all := lw_g (lw_at lw_m3 227 rfl) rfl
theorem q831 : (Jvm.Cond.laysFinal "ExamSlips$Compared" "ExamSlips$Compared" "other" "LExamSlips$Sum;") ∈ lw_all := lw_g (lw_at lw_m3 228 rfl) rfl
theorem q832 : (Jvm.Cond.soleField "ExamSlips$Compared" "other") ∈ lw_all := lw_g (lw_at lw_m3 229 rfl) rfl
theorem q833 : (Jvm.Cond.laysFinal "ExamSlips$Compared" "ExamSlips$Compared" "sign" "I") ∈ lw_all := lw_g (lw_at lw_m3 230 rfl) rfl
theorem q834 : (Jvm.Cond.soleField "ExamSlips$Compared" "sign") ∈ lw_all := lw_g (lw_at lw_m3 231 rfl) rfl
theorem q835 : (Jvm.Cond.superclass "ExamSlips$Compared" "ExamSlips$Test") ∈ lw_all := lw_g (lw_at lw_m3 232 rfl) rfl
theorem q936 : (Jvm.Cond.selects "ExamSlips$Compared" ({ cls := "ExamSlips$Test", name := "of", desc := "(LExamSlips$Asked;)Z" } : Jvm.MethodName) ({ cls := "ExamSlips$Compared", name := "of", desc := "(LExamSlips$Asked;)Z" } : Jvm.MethodName)) ∈ lw_all := lw_g (lw_at lw_m4 93 rfl) rfl
theorem q937 : (Jvm.Cond.instanceMethod ({ cls := "ExamSlips$Compared", name := "of", desc := "(LExamSlips$Asked;)Z" } : Jvm.MethodName)) ∈ lw_all := lw_g (lw_at lw_m4 94 rfl) rfl
theorem q938 : (Jvm.Cond.code ({ cls := "ExamSlips$Compared", name := "of", desc := "(LExamSlips$Asked;)Z" } : Jvm.MethodName) prog_8_method_2_code (6 : Nat) (Option.some Jvm.ClassFile.FieldType.boolean)) ∈ lw_all := lw_g (lw_at lw_m4 95 rfl) rfl
theorem q939 : (Jvm.Cond.methodLink "ExamSlips$Compared" (20 : Nat) ({ cls := "ExamSlips$Sum", name := "of", desc := "(LExamSlips$Asked;)J" } : Jvm.MethodName)) ∈ lw_all := lw_g (lw_at lw_m4 96 rfl) rfl
theorem q2388 : (Jvm.Cond.castable "ExamSlips$Compared" "java/lang/Object") ∈ lw_tbl := lw_at lw_m10 105 rfl
theorem q2403 : (Jvm.Cond.castable "ExamSlips$Compared" "ExamSlips$Test") ∈ lw_tbl := lw_at lw_m10 120 rfl
theorem in_X13 : ∀ w ∈ wsX130, w ∈ lw_all := lw_in wsX130 [829, 831, 833] (by decide +kernel) (by decide +kernel)

/-! ExamSlips$Not -/
set_option maxRecDepth 100000
def RX14 : String := "ExamSlips$Not"
def TX14 : u_T := fun k => match k with
  | _ => ("ExamSlips$Not", "test", "LExamSlips$Test;", true)
def tyX14 : Nat → FieldType := fun k => match k with
  | _ => .object "ExamSlips$Test"
abbrev wsX140 : List Cond := u_ws RX14 TX14 1
theorem nmX14 : ∀ a, a < 1 → ∀ b, b < 1 → a ≠ b → (TX14 a).2.1 ≠ (TX14 b).2.1 := by decide +kernel
theorem tyX14_ok : ∀ k, k < 1 → parseFieldDescriptor (TX14 k).2.2.1 = some (tyX14 k) := by decide +kernel
abbrev cX14_init : ByteArray := prog_15_method_1_code
def yX14_init : MethodName := ⟨RX14, "<init>", "(LExamSlips$Test;)V"⟩
def dkwX14_init_0 : List UInt8 := [42, 183, 0, 1, 42, 43, 181, 0, 7, 177]
abbrev dktX14_init_0 : List UInt8 := dkwX14_init_0 ++ []
theorem dksX14_init_0 : cX14_init.data.toList.drop 0 = dktX14_init_0 := by decide +kernel
theorem dX14_init_0 : decode cX14_init 0 = .ok (.aload_n 0, 1) := dk_42 (dk_at dksX14_init_0 0 rfl rfl)
theorem dX14_init_1 : decode cX14_init 1 = .ok (.invokespecial 1, 3) := dk_183 0 1 (dk_at dksX14_init_0 1 rfl rfl)
theorem dX14_init_4 : decode cX14_init 4 = .ok (.aload_n 0, 1) := dk_42 (dk_at dksX14_init_0 4 rfl rfl)
theorem dX14_init_5 : decode cX14_init 5 = .ok (.aload_n 1, 1) := dk_43 (dk_at dksX14_init_0 5 rfl rfl)
theorem dX14_init_6 : decode cX14_init 6 = .ok (.putfield 7, 3) := dk_181 0 7 (dk_at dksX14_init_0 6 rfl rfl)
theorem dX14_init_9 : decode cX14_init 9 = .ok (.return_, 1) := dk_177 (dk_at dksX14_init_0 9 rfl rfl)
abbrev cX14_of : ByteArray := prog_15_method_2_code
def yX14_of : MethodName := ⟨RX14, "of", "(LExamSlips$Asked;)Z"⟩
def dkwX14_of_0 : List UInt8 := [42, 180, 0, 7, 43, 182, 0, 13, 154, 0, 14, 43, 180, 0, 17, 154, 0, 7, 4, 167, 0, 4, 3, 172]
abbrev dktX14_of_0 : List UInt8 := dkwX14_of_0 ++ []
theorem dksX14_of_0 : cX14_of.data.toList.drop 0 = dktX14_of_0 := by decide +kernel
theorem dX14_of_0 : decode cX14_of 0 = .ok (.aload_n 0, 1) := dk_42 (dk_at dksX14_of_0 0 rfl rfl)
theorem dX14_of_1 : decode cX14_of 1 = .ok (.getfield 7, 3) := dk_180 0 7 (dk_at dksX14_of_0 1 rfl rfl)
theorem dX14_of_4 : decode cX14_of 4 = .ok (.aload_n 1, 1) := dk_43 (dk_at dksX14_of_0 4 rfl rfl)
theorem dX14_of_5 : decode cX14_of 5 = .ok (.invokevirtual 13, 3) := dk_182 0 13 (dk_at dksX14_of_0 5 rfl rfl)
theorem dX14_of_8 : decode cX14_of 8 = .ok (.ifCond .ne 14, 3) := dk_154 0 14 (dk_at dksX14_of_0 8 rfl rfl)
theorem dX14_of_11 : decode cX14_of 11 = .ok (.aload_n 1, 1) := dk_43 (dk_at dksX14_of_0 11 rfl rfl)
theorem dX14_of_12 : decode cX14_of 12 = .ok (.getfield 17, 3) := dk_180 0 17 (dk_at dksX14_of_0 12 rfl rfl)
theorem dX14_of_15 : decode cX14_of 15 = .ok (.ifCond .ne 7, 3) := dk_154 0 7 (dk_at dksX14_of_0 15 rfl rfl)
theorem dX14_of_18 : decode cX14_of 18 = .ok (.iconst 1, 1) := dk_4 (dk_at dksX14_of_0 18 rfl rfl)
theorem dX14_of_19 : decode cX14_of 19 = .ok (.goto 4, 3) := dk_167 0 4 (dk_at dksX14_of_0 19 rfl rfl)
theorem dX14_of_22 : decode cX14_of 22 = .ok (.iconst 0, 1) := dk_3 (dk_at dksX14_of_0 22 rfl rfl)
theorem dX14_of_23 : decode cX14_of 23 = .ok (.ireturn, 1) := dk_172 (dk_at dksX14_of_0 23 rfl rfl)
theorem q152 : (Jvm.Cond.initialized "ExamSlips$Not") ∈ lw_all := lw_g (lw_at lw_m1 29 rfl) rfl
theorem q267 : (Jvm.Cond.fieldLinkNest "ExamSlips$Not" (17 : Nat) "ExamSlips$Asked" "isBroken" "Z" "ExamSlips") ∈ lw_tbl := lw_at lw_m1 144 rfl
theorem q456 : (Jvm.Cond.selects "ExamSlips$Not" ({ cls := "java/lang/Object", name := "getClass", desc := "()Ljava/lang/Class;" } : Jvm.MethodName) ({ cls := "java/lang/Object", name := "getClass", desc := "()Ljava/lang/Class;" } : Jvm.MethodName)) ∈ lw_all := lw_g (lw_at lw_m2 93 rfl) rfl
theorem q837 : (Jvm.Cond.instantiable "ExamSlips$Not" (1 : Nat)) ∈ lw_all := lw_g (lw_at lw_m3 234 rfl) rfl
theorem q839 : (Jvm.Cond.instanceMethod ({ cls := "ExamSlips$Not", name := "<init>", desc := "(LExamSlips$Test;)V" } : Jvm.MethodName)) ∈ lw_all := lw_g (lw_at lw_m3 236 rfl) rfl
theorem q840 : (Jvm.Cond.code ({ cls := "ExamSlips$Not", name := "<init>", desc := "(LExamSlips$Test;)V" } : Jvm.MethodName) prog_15_method_1_code (2 : Nat) (Option.none : Option Jvm.ClassFile.FieldType)) ∈ lw_all := lw_g (lw_at lw_m3 237 rfl) rfl
theorem q841 : (Jvm.Cond.methodLinkNest "ExamSlips$Not" (1 : Nat) ({ cls := "ExamSlips$Test", name := "<init>", desc := "()V" } : Jvm.MethodName) "ExamSlips") ∈ lw_tbl := lw_at lw_m3 238 rfl
theorem q842 : (Jvm.Cond.fieldLink "ExamSlips$Not" (7 : Nat) "ExamSlips$Not" "test" "LExamSlips$Test;") ∈ lw_all := lw_g (lw_at lw_m3 239 rfl) rfl
theorem q843 : (Jvm.Cond.laysFinal "ExamSlips$Not" "ExamSlips$Not" "test" "LExamSlips$Test;") ∈ lw_all := lw_g (lw_at lw_m4 0 rfl) rfl
theorem q844 : (Jvm.Cond.soleField "ExamSlips$Not" "test") ∈ lw_all := lw_g (lw_at lw_m4 1 rfl) rfl
theorem q845 : (Jvm.Cond.superclass "ExamSlips$Not" "ExamSlips$Test") ∈ lw_all := lw_g (lw_at lw_m4 2 rfl) rfl
theorem q958 : (Jvm.Cond.selects "ExamSlips$Not" ({ cls := "ExamSlips$Test", name := "of", desc := "(LExamSlips$Asked;)Z" } : Jvm.MethodName) ({ cls := "ExamSlips$Not", name := "of", desc := "(LExamSlips$Asked;)Z" } : Jvm.MethodName)) ∈ lw_all := lw_g (lw_at lw_m4 115 rfl) rfl
theorem q959 : (Jvm.Cond.instanceMethod ({ cls := "ExamSlips$Not", name := "of", desc := "(LExamSlips$Asked;)Z" } : Jvm.MethodName)) ∈ lw_all := lw_g (lw_at lw_m4 116 rfl) rfl
theorem q960 : (Jvm.Cond.code ({ cls := "ExamSlips$Not", name := "of", desc := "(LExamSlips$Asked;)Z" } : Jvm.MethodName) prog_15_method_2_code (2 : Nat) (Option.some Jvm.ClassFile.FieldType.boolean)) ∈ lw_all := lw_g (lw_at lw_m4 117 rfl) rfl
theorem q961 : (Jvm.Cond.methodLink "ExamSlips$Not" (13 : Nat) ({ cls := "ExamSlips$Test", name := "of", desc := "(LExamSlips$Asked;)Z" } : Jvm.MethodName)) ∈ lw_all := lw_g (lw_at lw_m4 118 rfl) rfl
theorem q2389 : (Jvm.Cond.castable "ExamSlips$Not" "java/lang/Object") ∈ lw_tbl := lw_at lw_m10 106 rfl
theorem q2404 : (Jvm.Cond.castable "ExamSlips$Not" "ExamSlips$Test") ∈ lw_tbl := lw_at lw_m10 121 rfl
theorem in_X14 : ∀ w ∈ wsX140, w ∈ lw_all := lw_in wsX140 [843] (by decide +kernel) (by decide +kernel)

/-! ExamSlips$Row -/
set_option maxRecDepth 100000
def RX15 : String := "ExamSlips$Row"
def TX15 : u_T := fun k => match k with
  | 0 => ("ExamSlips$Row", "all", "Z", true)
  | _ => ("ExamSlips$Row", "tests", "[LExamSlips$Test;", true)
def tyX15 : Nat → FieldType := fun k => match k with
  | 0 => .boolean
  | _ => .array (.object "ExamSlips$Test")
abbrev wsX150 : List Cond := u_ws RX15 TX15 2
theorem nmX15 : ∀ a, a < 2 → ∀ b, b < 2 → a ≠ b → (TX15 a).2.1 ≠ (TX15 b).2.1 := by decide +kernel
theorem tyX15_ok : ∀ k, k < 2 → parseFieldDescriptor (TX15 k).2.2.1 = some (tyX15 k) := by decide +kernel
abbrev cX15_init : ByteArray := prog_19_method_1_code
def yX15_init : MethodName := ⟨RX15, "<init>", "(Z[LExamSlips$Test;)V"⟩
def dkwX15_init_0 : List UInt8 := [42, 183, 0, 1, 42, 27, 181, 0, 7, 42, 44, 181, 0, 13, 177]
abbrev dktX15_init_0 : List UInt8 := dkwX15_init_0 ++ []
theorem dksX15_init_0 : cX15_init.data.toList.drop 0 = dktX15_init_0 := by decide +kernel
theorem dX15_init_0 : decode cX15_init 0 = .ok (.aload_n 0, 1) := dk_42 (dk_at dksX15_init_0 0 rfl rfl)
theorem dX15_init_1 : decode cX15_init 1 = .ok (.invokespecial 1, 3) := dk_183 0 1 (dk_at dksX15_init_0 1 rfl rfl)
theorem dX15_init_4 : decode cX15_init 4 = .ok (.aload_n 0, 1) := dk_42 (dk_at dksX15_init_0 4 rfl rfl)
theorem dX15_init_5 : decode cX15_init 5 = .ok (.iload_n 1, 1) := dk_27 (dk_at dksX15_init_0 5 rfl rfl)
theorem dX15_init_6 : decode cX15_init 6 = .ok (.putfield 7, 3) := dk_181 0 7 (dk_at dksX15_init_0 6 rfl rfl)
theorem dX15_init_9 : decode cX15_init 9 = .ok (.aload_n 0, 1) := dk_42 (dk_at dksX15_init_0 9 rfl rfl)
theorem dX15_init_10 : decode cX15_init 10 = .ok (.aload_n 2, 1) := dk_44 (dk_at dksX15_init_0 10 rfl rfl)
theorem dX15_init_11 : decode cX15_init 11 = .ok (.putfield 13, 3) := dk_181 0 13 (dk_at dksX15_init_0 11 rfl rfl)
theorem dX15_init_14 : decode cX15_init 14 = .ok (.return_, 1) := dk_177 (dk_at dksX15_init_0 14 rfl rfl)
abbrev cX15_of : ByteArray := prog_19_method_2_code
def yX15_of : MethodName := ⟨RX15, "of", "(LExamSlips$Asked;)Z"⟩
def dkwX15_of_3 : List UInt8 := [180, 0, 7, 172]
abbrev dktX15_of_3 : List UInt8 := dkwX15_of_3 ++ []
def dkwX15_of_2 : List UInt8 := [159, 0, 16, 42, 180, 0, 7, 154, 0, 7, 4, 167, 0, 4, 3, 172, 132, 4, 1, 167, 255, 202, 42]
abbrev dktX15_of_2 : List UInt8 := dkwX15_of_2 ++ dktX15_of_3
def dkwX15_of_1 : List UInt8 := [25, 5, 43, 182, 0, 17, 54, 6, 43, 180, 0, 21, 153, 0, 5, 3, 172, 21, 6, 42, 180, 0, 7]
abbrev dktX15_of_1 : List UInt8 := dkwX15_of_1 ++ dktX15_of_2
def dkwX15_of_0 : List UInt8 := [42, 180, 0, 13, 77, 44, 190, 62, 3, 54, 4, 21, 4, 29, 162, 0, 54, 44, 21, 4, 50, 58, 5]
abbrev dktX15_of_0 : List UInt8 := dkwX15_of_0 ++ dktX15_of_1
theorem dksX15_of_0 : cX15_of.data.toList.drop 0 = dktX15_of_0 := by decide +kernel
theorem dksX15_of_1 : cX15_of.data.toList.drop 23 = dktX15_of_1 := dk_seg dksX15_of_0 23 rfl rfl
theorem dksX15_of_2 : cX15_of.data.toList.drop 46 = dktX15_of_2 := dk_seg dksX15_of_1 23 rfl rfl
theorem dksX15_of_3 : cX15_of.data.toList.drop 69 = dktX15_of_3 := dk_seg dksX15_of_2 23 rfl rfl
theorem dX15_of_0 : decode cX15_of 0 = .ok (.aload_n 0, 1) := dk_42 (dk_at dksX15_of_0 0 rfl rfl)
theorem dX15_of_1 : decode cX15_of 1 = .ok (.getfield 13, 3) := dk_180 0 13 (dk_at dksX15_of_0 1 rfl rfl)
theorem dX15_of_4 : decode cX15_of 4 = .ok (.astore_n 2, 1) := dk_77 (dk_at dksX15_of_0 4 rfl rfl)
theorem dX15_of_5 : decode cX15_of 5 = .ok (.aload_n 2, 1) := dk_44 (dk_at dksX15_of_0 5 rfl rfl)
theorem dX15_of_6 : decode cX15_of 6 = .ok (.arraylength, 1) := dk_190 (dk_at dksX15_of_0 6 rfl rfl)
theorem dX15_of_7 : decode cX15_of 7 = .ok (.istore_n 3, 1) := dk_62 (dk_at dksX15_of_0 7 rfl rfl)
theorem dX15_of_8 : decode cX15_of 8 = .ok (.iconst 0, 1) := dk_3 (dk_at dksX15_of_0 8 rfl rfl)
theorem dX15_of_9 : decode cX15_of 9 = .ok (.istore 4, 2) := dk_54 4 (dk_at dksX15_of_0 9 rfl rfl)
theorem dX15_of_11 : decode cX15_of 11 = .ok (.iload 4, 2) := dk_21 4 (dk_at dksX15_of_0 11 rfl rfl)
theorem dX15_of_13 : decode cX15_of 13 = .ok (.iload_n 3, 1) := dk_29 (dk_at dksX15_of_0 13 rfl rfl)
theorem dX15_of_14 : decode cX15_of 14 = .ok (.if_icmp .ge 54, 3) := dk_162 0 54 (dk_at dksX15_of_0 14 rfl rfl)
theorem dX15_of_17 : decode cX15_of 17 = .ok (.aload_n 2, 1) := dk_44 (dk_at dksX15_of_0 17 rfl rfl)
theorem dX15_of_18 : decode cX15_of 18 = .ok (.iload 4, 2) := dk_21 4 (dk_at dksX15_of_0 18 rfl rfl)
theorem dX15_of_20 : decode cX15_of 20 = .ok (.aaload, 1) := dk_50 (dk_at dksX15_of_0 20 rfl rfl)
theorem dX15_of_21 : decode cX15_of 21 = .ok (.astore 5, 2) := dk_58 5 (dk_at dksX15_of_0 21 rfl rfl)
theorem dX15_of_23 : decode cX15_of 23 = .ok (.aload 5, 2) := dk_25 5 (dk_at dksX15_of_1 0 rfl rfl)
theorem dX15_of_25 : decode cX15_of 25 = .ok (.aload_n 1, 1) := dk_43 (dk_at dksX15_of_1 2 rfl rfl)
theorem dX15_of_26 : decode cX15_of 26 = .ok (.invokevirtual 17, 3) := dk_182 0 17 (dk_at dksX15_of_1 3 rfl rfl)
theorem dX15_of_29 : decode cX15_of 29 = .ok (.istore 6, 2) := dk_54 6 (dk_at dksX15_of_1 6 rfl rfl)
theorem dX15_of_31 : decode cX15_of 31 = .ok (.aload_n 1, 1) := dk_43 (dk_at dksX15_of_1 8 rfl rfl)
theorem dX15_of_32 : decode cX15_of 32 = .ok (.getfield 21, 3) := dk_180 0 21 (dk_at dksX15_of_1 9 rfl rfl)
theorem dX15_of_35 : decode cX15_of 35 = .ok (.ifCond .eq 5, 3) := dk_153 0 5 (dk_at dksX15_of_1 12 rfl rfl)
theorem dX15_of_38 : decode cX15_of 38 = .ok (.iconst 0, 1) := dk_3 (dk_at dksX15_of_1 15 rfl rfl)
theorem dX15_of_39 : decode cX15_of 39 = .ok (.ireturn, 1) := dk_172 (dk_at dksX15_of_1 16 rfl rfl)
theorem dX15_of_40 : decode cX15_of 40 = .ok (.iload 6, 2) := dk_21 6 (dk_at dksX15_of_1 17 rfl rfl)
theorem dX15_of_42 : decode cX15_of 42 = .ok (.aload_n 0, 1) := dk_42 (dk_at dksX15_of_1 19 rfl rfl)
theorem dX15_of_43 : decode cX15_of 43 = .ok (.getfield 7, 3) := dk_180 0 7 (dk_at dksX15_of_1 20 rfl rfl)
theorem dX15_of_46 : decode cX15_of 46 = .ok (.if_icmp .eq 16, 3) := dk_159 0 16 (dk_at dksX15_of_2 0 rfl rfl)
theorem dX15_of_49 : decode cX15_of 49 = .ok (.aload_n 0, 1) := dk_42 (dk_at dksX15_of_2 3 rfl rfl)
theorem dX15_of_50 : decode cX15_of 50 = .ok (.getfield 7, 3) := dk_180 0 7 (dk_at dksX15_of_2 4 rfl rfl)
theorem dX15_of_53 : decode cX15_of 53 = .ok (.ifCond .ne 7, 3) := dk_154 0 7 (dk_at dksX15_of_2 7 rfl rfl)
theorem dX15_of_56 : decode cX15_of 56 = .ok (.iconst 1, 1) := dk_4 (dk_at dksX15_of_2 10 rfl rfl)
theorem dX15_of_57 : decode cX15_of 57 = .ok (.goto 4, 3) := dk_167 0 4 (dk_at dksX15_of_2 11 rfl rfl)
theorem dX15_of_60 : decode cX15_of 60 = .ok (.iconst 0, 1) := dk_3 (dk_at dksX15_of_2 14 rfl rfl)
theorem dX15_of_61 : decode cX15_of 61 = .ok (.ireturn, 1) := dk_172 (dk_at dksX15_of_2 15 rfl rfl)
theorem dX15_of_62 : decode cX15_of 62 = .ok (.iinc 4 1, 3) := dk_132 4 1 (dk_at dksX15_of_2 16 rfl rfl)
theorem dX15_of_65 : decode cX15_of 65 = .ok (.goto (-54), 3) := dk_167 255 202 (dk_at dksX15_of_2 19 rfl rfl)
theorem dX15_of_68 : decode cX15_of 68 = .ok (.aload_n 0, 1) := dk_42 (dk_at dksX15_of_2 22 rfl rfl)
theorem dX15_of_69 : decode cX15_of 69 = .ok (.getfield 7, 3) := dk_180 0 7 (dk_at dksX15_of_3 0 rfl rfl)
theorem dX15_of_72 : decode cX15_of 72 = .ok (.ireturn, 1) := dk_172 (dk_at dksX15_of_3 3 rfl rfl)
theorem q153 : (Jvm.Cond.initialized "ExamSlips$Row") ∈ lw_all := lw_g (lw_at lw_m1 30 rfl) rfl
theorem q268 : (Jvm.Cond.fieldLinkNest "ExamSlips$Row" (21 : Nat) "ExamSlips$Asked" "isBroken" "Z" "ExamSlips") ∈ lw_tbl := lw_at lw_m1 145 rfl
theorem q460 : (Jvm.Cond.selects "ExamSlips$Row" ({ cls := "java/lang/Object", name := "getClass", desc := "()Ljava/lang/Class;" } : Jvm.MethodName) ({ cls := "java/lang/Object", name := "getClass", desc := "()Ljava/lang/Class;" } : Jvm.MethodName)) ∈ lw_all := lw_g (lw_at lw_m2 97 rfl) rfl
theorem q857 : (Jvm.Cond.instantiable "ExamSlips$Row" (2 : Nat)) ∈ lw_all := lw_g (lw_at lw_m4 14 rfl) rfl
theorem q859 : (Jvm.Cond.instanceMethod ({ cls := "ExamSlips$Row", name := "<init>", desc := "(Z[LExamSlips$Test;)V" } : Jvm.MethodName)) ∈ lw_all := lw_g (lw_at lw_m4 16 rfl) rfl
theorem q860 : (Jvm.Cond.code ({ cls := "ExamSlips$Row", name := "<init>", desc := "(Z[LExamSlips$Test;)V" } : Jvm.MethodName) prog_19_method_1_code (3 : Nat) (Option.none : Option Jvm.ClassFile.FieldType)) ∈ lw_all := lw_g (lw_at lw_m4 17 rfl) rfl
theorem q861 : (Jvm.Cond.methodLinkNest "ExamSlips$Row" (1 : Nat) ({ cls := "ExamSlips$Test", name := "<init>", desc := "()V" } : Jvm.MethodName) "ExamSlips") ∈ lw_tbl := lw_at lw_m4 18 rfl
theorem q862 : (Jvm.Cond.fieldLink "ExamSlips$Row" (7 : Nat) "ExamSlips$Row" "all" "Z") ∈ lw_all := lw_g (lw_at lw_m4 19 rfl) rfl
theorem q863 : (Jvm.Cond.fieldLink "ExamSlips$Row" (13 : Nat) "ExamSlips$Row" "tests" "[LExamSlips$Test;") ∈ lw_all := lw_g (lw_at lw_m4 20 rfl) rfl
theorem q864 : (Jvm.Cond.laysFinal "ExamSlips$Row" "ExamSlips$Row" "all" "Z") ∈ lw_all := lw_g (lw_at lw_m4 21 rfl) rfl
theorem q865 : (Jvm.Cond.soleField "ExamSlips$Row" "all") ∈ lw_all := lw_g (lw_at lw_m4 22 rfl) rfl
theorem q866 : (Jvm.Cond.laysFinal "ExamSlips$Row" "ExamSlips$Row" "tests" "[LExamSlips$Test;") ∈ lw_all := lw_g (lw_at lw_m4 23 rfl) rfl
theorem q867 : (Jvm.Cond.soleField "ExamSlips$Row" "tests") ∈ lw_all := lw_g (lw_at lw_m4 24 rfl) rfl
theorem q868 : (Jvm.Cond.superclass "ExamSlips$Row" "ExamSlips$Test") ∈ lw_all := lw_g (lw_at lw_m4 25 rfl) rfl
theorem q962 : (Jvm.Cond.instanceMethod ({ cls := "ExamSlips$Row", name := "of", desc := "(LExamSlips$Asked;)Z" } : Jvm.MethodName)) ∈ lw_all := lw_g (lw_at lw_m4 119 rfl) rfl
theorem q963 : (Jvm.Cond.code ({ cls := "ExamSlips$Row", name := "of", desc := "(LExamSlips$Asked;)Z" } : Jvm.MethodName) prog_19_method_2_code (7 : Nat) (Option.some Jvm.ClassFile.FieldType.boolean)) ∈ lw_all := lw_g (lw_at lw_m4 120 rfl) rfl
theorem q964 : (Jvm.Cond.methodLink "ExamSlips$Row" (17 : Nat) ({ cls := "ExamSlips$Test", name := "of", desc := "(LExamSlips$Asked;)Z" } : Jvm.MethodName)) ∈ lw_all := lw_g (lw_at lw_m4 121 rfl) rfl
theorem q965 : (Jvm.Cond.selects "ExamSlips$Row" ({ cls := "ExamSlips$Test", name := "of", desc := "(LExamSlips$Asked;)Z" } : Jvm.MethodName) ({ cls := "ExamSlips$Row", name := "of", desc := "(LExamSlips$Asked;)Z" } : Jvm.MethodName)) ∈ lw_all := lw_g (lw_at lw_m4 122 rfl) rfl
theorem q2390 : (Jvm.Cond.castable "ExamSlips$Row" "java/lang/Object") ∈ lw_tbl := lw_at lw_m10 107 rfl
theorem q2405 : (Jvm.Cond.castable "ExamSlips$Row" "ExamSlips$Test") ∈ lw_tbl := lw_at lw_m10 122 rfl
theorem in_X15 : ∀ w ∈ wsX150, w ∈ lw_all := lw_in wsX150 [864, 866] (by decide +kernel) (by decide +kernel)

/-! ExamSlips$Clause -/
set_option maxRecDepth 100000
def RX16 : String := "ExamSlips$Clause"
def TX16 : u_T := fun k => match k with
  | 0 => ("ExamSlips$Clause", "head", "I", true)
  | 1 => ("ExamSlips$Clause", "sum", "LExamSlips$Sum;", true)
  | 2 => ("ExamSlips$Clause", "test", "LExamSlips$Test;", true)
  | _ => ("ExamSlips$Clause", "told", "J", false)
def tyX16 : Nat → FieldType := fun k => match k with
  | 0 => .int
  | 1 => .object "ExamSlips$Sum"
  | 2 => .object "ExamSlips$Test"
  | _ => .long
abbrev wsX160 : List Cond := u_ws RX16 TX16 4
theorem nmX16 : ∀ a, a < 4 → ∀ b, b < 4 → a ≠ b → (TX16 a).2.1 ≠ (TX16 b).2.1 := by decide +kernel
theorem tyX16_ok : ∀ k, k < 4 → parseFieldDescriptor (TX16 k).2.2.1 = some (tyX16 k) := by decide +kernel
abbrev cX16_init : ByteArray := prog_7_method_1_code
def yX16_init : MethodName := ⟨RX16, "<init>", "(ILExamSlips$Sum;LExamSlips$Test;)V"⟩
def dkwX16_init_0 : List UInt8 := [42, 183, 0, 1, 42, 27, 181, 0, 7, 42, 44, 181, 0, 13, 42, 45, 181, 0, 17, 177]
abbrev dktX16_init_0 : List UInt8 := dkwX16_init_0 ++ []
theorem dksX16_init_0 : cX16_init.data.toList.drop 0 = dktX16_init_0 := by decide +kernel
theorem dX16_init_0 : decode cX16_init 0 = .ok (.aload_n 0, 1) := dk_42 (dk_at dksX16_init_0 0 rfl rfl)
theorem dX16_init_1 : decode cX16_init 1 = .ok (.invokespecial 1, 3) := dk_183 0 1 (dk_at dksX16_init_0 1 rfl rfl)
theorem dX16_init_4 : decode cX16_init 4 = .ok (.aload_n 0, 1) := dk_42 (dk_at dksX16_init_0 4 rfl rfl)
theorem dX16_init_5 : decode cX16_init 5 = .ok (.iload_n 1, 1) := dk_27 (dk_at dksX16_init_0 5 rfl rfl)
theorem dX16_init_6 : decode cX16_init 6 = .ok (.putfield 7, 3) := dk_181 0 7 (dk_at dksX16_init_0 6 rfl rfl)
theorem dX16_init_9 : decode cX16_init 9 = .ok (.aload_n 0, 1) := dk_42 (dk_at dksX16_init_0 9 rfl rfl)
theorem dX16_init_10 : decode cX16_init 10 = .ok (.aload_n 2, 1) := dk_44 (dk_at dksX16_init_0 10 rfl rfl)
theorem dX16_init_11 : decode cX16_init 11 = .ok (.putfield 13, 3) := dk_181 0 13 (dk_at dksX16_init_0 11 rfl rfl)
theorem dX16_init_14 : decode cX16_init 14 = .ok (.aload_n 0, 1) := dk_42 (dk_at dksX16_init_0 14 rfl rfl)
theorem dX16_init_15 : decode cX16_init 15 = .ok (.aload_n 3, 1) := dk_45 (dk_at dksX16_init_0 15 rfl rfl)
theorem dX16_init_16 : decode cX16_init 16 = .ok (.putfield 17, 3) := dk_181 0 17 (dk_at dksX16_init_0 16 rfl rfl)
theorem dX16_init_19 : decode cX16_init 19 = .ok (.return_, 1) := dk_177 (dk_at dksX16_init_0 19 rfl rfl)
abbrev cX16_holds : ByteArray := prog_7_method_2_code
def yX16_holds : MethodName := ⟨RX16, "holds", "(LExamSlips$Asked;)Z"⟩
def dkwX16_holds_2 : List UInt8 := [154, 0, 7, 4, 167, 0, 4, 3, 172]
abbrev dktX16_holds_2 : List UInt8 := dkwX16_holds_2 ++ []
def dkwX16_holds_1 : List UInt8 := [180, 0, 21, 153, 0, 5, 3, 172, 42, 42, 180, 0, 13, 43, 182, 0, 33, 181, 0, 38, 43, 180, 0, 21]
abbrev dktX16_holds_1 : List UInt8 := dkwX16_holds_1 ++ dktX16_holds_2
def dkwX16_holds_0 : List UInt8 := [43, 3, 181, 0, 21, 42, 180, 0, 17, 198, 0, 14, 42, 180, 0, 17, 43, 182, 0, 27, 153, 0, 10, 43]
abbrev dktX16_holds_0 : List UInt8 := dkwX16_holds_0 ++ dktX16_holds_1
theorem dksX16_holds_0 : cX16_holds.data.toList.drop 0 = dktX16_holds_0 := by decide +kernel
theorem dksX16_holds_1 : cX16_holds.data.toList.drop 24 = dktX16_holds_1 := dk_seg dksX16_holds_0 24 rfl rfl
theorem dksX16_holds_2 : cX16_holds.data.toList.drop 48 = dktX16_holds_2 := dk_seg dksX16_holds_1 24 rfl rfl
theorem dX16_holds_0 : decode cX16_holds 0 = .ok (.aload_n 1, 1) := dk_43 (dk_at dksX16_holds_0 0 rfl rfl)
theorem dX16_holds_1 : decode cX16_holds 1 = .ok (.iconst 0, 1) := dk_3 (dk_at dksX16_holds_0 1 rfl rfl)
theorem dX16_holds_2 : decode cX16_holds 2 = .ok (.putfield 21, 3) := dk_181 0 21 (dk_at dksX16_holds_0 2 rfl rfl)
theorem dX16_holds_5 : decode cX16_holds 5 = .ok (.aload_n 0, 1) := dk_42 (dk_at dksX16_holds_0 5 rfl rfl)
theorem dX16_holds_6 : decode cX16_holds 6 = .ok (.getfield 17, 3) := dk_180 0 17 (dk_at dksX16_holds_0 6 rfl rfl)
theorem dX16_holds_9 : decode cX16_holds 9 = .ok (.ifnull 14, 3) := dk_198 0 14 (dk_at dksX16_holds_0 9 rfl rfl)
theorem dX16_holds_12 : decode cX16_holds 12 = .ok (.aload_n 0, 1) := dk_42 (dk_at dksX16_holds_0 12 rfl rfl)
theorem dX16_holds_13 : decode cX16_holds 13 = .ok (.getfield 17, 3) := dk_180 0 17 (dk_at dksX16_holds_0 13 rfl rfl)
theorem dX16_holds_16 : decode cX16_holds 16 = .ok (.aload_n 1, 1) := dk_43 (dk_at dksX16_holds_0 16 rfl rfl)
theorem dX16_holds_17 : decode cX16_holds 17 = .ok (.invokevirtual 27, 3) := dk_182 0 27 (dk_at dksX16_holds_0 17 rfl rfl)
theorem dX16_holds_20 : decode cX16_holds 20 = .ok (.ifCond .eq 10, 3) := dk_153 0 10 (dk_at dksX16_holds_0 20 rfl rfl)
theorem dX16_holds_23 : decode cX16_holds 23 = .ok (.aload_n 1, 1) := dk_43 (dk_at dksX16_holds_0 23 rfl rfl)
theorem dX16_holds_24 : decode cX16_holds 24 = .ok (.getfield 21, 3) := dk_180 0 21 (dk_at dksX16_holds_1 0 rfl rfl)
theorem dX16_holds_27 : decode cX16_holds 27 = .ok (.ifCond .eq 5, 3) := dk_153 0 5 (dk_at dksX16_holds_1 3 rfl rfl)
theorem dX16_holds_30 : decode cX16_holds 30 = .ok (.iconst 0, 1) := dk_3 (dk_at dksX16_holds_1 6 rfl rfl)
theorem dX16_holds_31 : decode cX16_holds 31 = .ok (.ireturn, 1) := dk_172 (dk_at dksX16_holds_1 7 rfl rfl)
theorem dX16_holds_32 : decode cX16_holds 32 = .ok (.aload_n 0, 1) := dk_42 (dk_at dksX16_holds_1 8 rfl rfl)
theorem dX16_holds_33 : decode cX16_holds 33 = .ok (.aload_n 0, 1) := dk_42 (dk_at dksX16_holds_1 9 rfl rfl)
theorem dX16_holds_34 : decode cX16_holds 34 = .ok (.getfield 13, 3) := dk_180 0 13 (dk_at dksX16_holds_1 10 rfl rfl)
theorem dX16_holds_37 : decode cX16_holds 37 = .ok (.aload_n 1, 1) := dk_43 (dk_at dksX16_holds_1 13 rfl rfl)
theorem dX16_holds_38 : decode cX16_holds 38 = .ok (.invokevirtual 33, 3) := dk_182 0 33 (dk_at dksX16_holds_1 14 rfl rfl)
theorem dX16_holds_41 : decode cX16_holds 41 = .ok (.putfield 38, 3) := dk_181 0 38 (dk_at dksX16_holds_1 17 rfl rfl)
theorem dX16_holds_44 : decode cX16_holds 44 = .ok (.aload_n 1, 1) := dk_43 (dk_at dksX16_holds_1 20 rfl rfl)
theorem dX16_holds_45 : decode cX16_holds 45 = .ok (.getfield 21, 3) := dk_180 0 21 (dk_at dksX16_holds_1 21 rfl rfl)
theorem dX16_holds_48 : decode cX16_holds 48 = .ok (.ifCond .ne 7, 3) := dk_154 0 7 (dk_at dksX16_holds_2 0 rfl rfl)
theorem dX16_holds_51 : decode cX16_holds 51 = .ok (.iconst 1, 1) := dk_4 (dk_at dksX16_holds_2 3 rfl rfl)
theorem dX16_holds_52 : decode cX16_holds 52 = .ok (.goto 4, 3) := dk_167 0 4 (dk_at dksX16_holds_2 4 rfl rfl)
theorem dX16_holds_55 : decode cX16_holds 55 = .ok (.iconst 0, 1) := dk_3 (dk_at dksX16_holds_2 7 rfl rfl)
theorem dX16_holds_56 : decode cX16_holds 56 = .ok (.ireturn, 1) := dk_172 (dk_at dksX16_holds_2 8 rfl rfl)
theorem q154 : (Jvm.Cond.initialized "ExamSlips$Clause") ∈ lw_all := lw_g (lw_at lw_m1 31 rfl) rfl
theorem q264 : (Jvm.Cond.fieldLinkNest "ExamSlips$Clause" (21 : Nat) "ExamSlips$Asked" "isBroken" "Z" "ExamSlips") ∈ lw_tbl := lw_at lw_m1 141 rfl
theorem q448 : (Jvm.Cond.selects "ExamSlips$Clause" ({ cls := "java/lang/Object", name := "getClass", desc := "()Ljava/lang/Class;" } : Jvm.MethodName) ({ cls := "java/lang/Object", name := "getClass", desc := "()Ljava/lang/Class;" } : Jvm.MethodName)) ∈ lw_all := lw_g (lw_at lw_m2 85 rfl) rfl
theorem q870 : (Jvm.Cond.instantiable "ExamSlips$Clause" (4 : Nat)) ∈ lw_all := lw_g (lw_at lw_m4 27 rfl) rfl
theorem q872 : (Jvm.Cond.instanceMethod ({ cls := "ExamSlips$Clause", name := "<init>", desc := "(ILExamSlips$Sum;LExamSlips$Test;)V" } : Jvm.MethodName)) ∈ lw_all := lw_g (lw_at lw_m4 29 rfl) rfl
theorem q873 : (Jvm.Cond.code ({ cls := "ExamSlips$Clause", name := "<init>", desc := "(ILExamSlips$Sum;LExamSlips$Test;)V" } : Jvm.MethodName) prog_7_method_1_code (4 : Nat) (Option.none : Option Jvm.ClassFile.FieldType)) ∈ lw_all := lw_g (lw_at lw_m4 30 rfl) rfl
theorem q874 : (Jvm.Cond.methodLink "ExamSlips$Clause" (1 : Nat) ({ cls := "java/lang/Object", name := "<init>", desc := "()V" } : Jvm.MethodName)) ∈ lw_all := lw_g (lw_at lw_m4 31 rfl) rfl
theorem q875 : (Jvm.Cond.fieldLink "ExamSlips$Clause" (7 : Nat) "ExamSlips$Clause" "head" "I") ∈ lw_all := lw_g (lw_at lw_m4 32 rfl) rfl
theorem q877 : (Jvm.Cond.fieldLink "ExamSlips$Clause" (13 : Nat) "ExamSlips$Clause" "sum" "LExamSlips$Sum;") ∈ lw_all := lw_g (lw_at lw_m4 34 rfl) rfl
theorem q878 : (Jvm.Cond.fieldLink "ExamSlips$Clause" (17 : Nat) "ExamSlips$Clause" "test" "LExamSlips$Test;") ∈ lw_all := lw_g (lw_at lw_m4 35 rfl) rfl
theorem q879 : (Jvm.Cond.fieldLink "ExamSlips$Clause" (38 : Nat) "ExamSlips$Clause" "told" "J") ∈ lw_all := lw_g (lw_at lw_m4 36 rfl) rfl
theorem q881 : (Jvm.Cond.laysFinal "ExamSlips$Clause" "ExamSlips$Clause" "head" "I") ∈ lw_all := lw_g (lw_at lw_m4 38 rfl) rfl
theorem q882 : (Jvm.Cond.soleField "ExamSlips$Clause" "head") ∈ lw_all := lw_g (lw_at lw_m4 39 rfl) rfl
theorem q883 : (Jvm.Cond.laysFinal "ExamSlips$Clause" "ExamSlips$Clause" "sum" "LExamSlips$Sum;") ∈ lw_all := lw_g (lw_at lw_m4 40 rfl) rfl
theorem q884 : (Jvm.Cond.soleField "ExamSlips$Clause" "sum") ∈ lw_all := lw_g (lw_at lw_m4 41 rfl) rfl
theorem q885 : (Jvm.Cond.laysFinal "ExamSlips$Clause" "ExamSlips$Clause" "test" "LExamSlips$Test;") ∈ lw_all := lw_g (lw_at lw_m4 42 rfl) rfl
theorem q886 : (Jvm.Cond.soleField "ExamSlips$Clause" "test") ∈ lw_all := lw_g (lw_at lw_m4 43 rfl) rfl
theorem q887 : (Jvm.Cond.lays "ExamSlips$Clause" "ExamSlips$Clause" "told" "J") ∈ lw_all := lw_g (lw_at lw_m4 44 rfl) rfl
theorem q888 : (Jvm.Cond.soleField "ExamSlips$Clause" "told") ∈ lw_all := lw_g (lw_at lw_m4 45 rfl) rfl
theorem q889 : (Jvm.Cond.superclass "ExamSlips$Clause" "java/lang/Object") ∈ lw_all := lw_g (lw_at lw_m4 46 rfl) rfl
theorem q930 : (Jvm.Cond.instanceMethod ({ cls := "ExamSlips$Clause", name := "holds", desc := "(LExamSlips$Asked;)Z" } : Jvm.MethodName)) ∈ lw_all := lw_g (lw_at lw_m4 87 rfl) rfl
theorem q931 : (Jvm.Cond.selects "ExamSlips$Clause" ({ cls := "ExamSlips$Clause", name := "holds", desc := "(LExamSlips$Asked;)Z" } : Jvm.MethodName) ({ cls := "ExamSlips$Clause", name := "holds", desc := "(LExamSlips$Asked;)Z" } : Jvm.MethodName)) ∈ lw_all := lw_g (lw_at lw_m4 88 rfl) rfl
theorem q932 : (Jvm.Cond.code ({ cls := "ExamSlips$Clause", name := "holds", desc := "(LExamSlips$Asked;)Z" } : Jvm.MethodName) prog_7_method_2_code (2 : Nat) (Option.some Jvm.ClassFile.FieldType.boolean)) ∈ lw_all := lw_g (lw_at lw_m4 89 rfl) rfl
theorem q933 : (Jvm.Cond.methodLink "ExamSlips$Clause" (27 : Nat) ({ cls := "ExamSlips$Test", name := "of", desc := "(LExamSlips$Asked;)Z" } : Jvm.MethodName)) ∈ lw_all := lw_g (lw_at lw_m4 90 rfl) rfl
theorem q966 : (Jvm.Cond.methodLink "ExamSlips$Clause" (33 : Nat) ({ cls := "ExamSlips$Sum", name := "of", desc := "(LExamSlips$Asked;)J" } : Jvm.MethodName)) ∈ lw_all := lw_g (lw_at lw_m4 123 rfl) rfl
theorem q2373 : (Jvm.Cond.castable "ExamSlips$Clause" "java/lang/Object") ∈ lw_tbl := lw_at lw_m10 90 rfl
theorem in_X16 : ∀ w ∈ wsX160, w ∈ lw_all := lw_in wsX160 [881, 883, 885, 887] (by decide +kernel) (by decide +kernel)

/-! ExamSlips$Bowl -/
set_option maxRecDepth 100000
def RX17 : String := "ExamSlips$Bowl"
def TX17 : u_T := fun k => match k with
  | 0 => ("ExamSlips$Bowl", "all", "[I", true)
  | 1 => ("ExamSlips$Bowl", "liked", "[I", true)
  | 2 => ("ExamSlips$Bowl", "answers", "LExamSlips$Answers;", true)
  | _ => ("ExamSlips$Bowl", "this$0", "LExamSlips;", true)
def tyX17 : Nat → FieldType := fun k => match k with
  | 0 => .array .int
  | 1 => .array .int
  | 2 => .object "ExamSlips$Answers"
  | _ => .object "ExamSlips"
abbrev wsX170 : List Cond := u_ws RX17 TX17 4
theorem nmX17 : ∀ a, a < 4 → ∀ b, b < 4 → a ≠ b → (TX17 a).2.1 ≠ (TX17 b).2.1 := by decide +kernel
theorem tyX17_ok : ∀ k, k < 4 → parseFieldDescriptor (TX17 k).2.2.1 = some (tyX17 k) := by decide +kernel
abbrev cX17_init : ByteArray := prog_6_method_1_code
def yX17_init : MethodName := ⟨RX17, "<init>", "(LExamSlips;)V"⟩
def dkwX17_init_2 : List UInt8 := [183, 0, 37, 181, 0, 40, 177]
abbrev dktX17_init_2 : List UInt8 := dkwX17_init_2 ++ []
def dkwX17_init_1 : List UInt8 := [187, 0, 22, 89, 42, 180, 0, 3, 182, 0, 24, 42, 180, 0, 3, 180, 0, 28, 180, 0, 32, 4, 46]
abbrev dktX17_init_1 : List UInt8 := dkwX17_init_1 ++ dktX17_init_2
def dkwX17_init_0 : List UInt8 := [42, 43, 181, 0, 3, 42, 183, 0, 9, 42, 6, 188, 10, 181, 0, 15, 42, 6, 188, 10, 181, 0, 19, 42]
abbrev dktX17_init_0 : List UInt8 := dkwX17_init_0 ++ dktX17_init_1
theorem dksX17_init_0 : cX17_init.data.toList.drop 0 = dktX17_init_0 := by decide +kernel
theorem dksX17_init_1 : cX17_init.data.toList.drop 24 = dktX17_init_1 := dk_seg dksX17_init_0 24 rfl rfl
theorem dksX17_init_2 : cX17_init.data.toList.drop 47 = dktX17_init_2 := dk_seg dksX17_init_1 23 rfl rfl
theorem dX17_init_0 : decode cX17_init 0 = .ok (.aload_n 0, 1) := dk_42 (dk_at dksX17_init_0 0 rfl rfl)
theorem dX17_init_1 : decode cX17_init 1 = .ok (.aload_n 1, 1) := dk_43 (dk_at dksX17_init_0 1 rfl rfl)
theorem dX17_init_2 : decode cX17_init 2 = .ok (.putfield 3, 3) := dk_181 0 3 (dk_at dksX17_init_0 2 rfl rfl)
theorem dX17_init_5 : decode cX17_init 5 = .ok (.aload_n 0, 1) := dk_42 (dk_at dksX17_init_0 5 rfl rfl)
theorem dX17_init_6 : decode cX17_init 6 = .ok (.invokespecial 9, 3) := dk_183 0 9 (dk_at dksX17_init_0 6 rfl rfl)
theorem dX17_init_9 : decode cX17_init 9 = .ok (.aload_n 0, 1) := dk_42 (dk_at dksX17_init_0 9 rfl rfl)
theorem dX17_init_10 : decode cX17_init 10 = .ok (.iconst 3, 1) := dk_6 (dk_at dksX17_init_0 10 rfl rfl)
theorem dX17_init_11 : decode cX17_init 11 = .ok (.newarray .int, 2) := dk_188_10 (dk_at dksX17_init_0 11 rfl rfl)
theorem dX17_init_13 : decode cX17_init 13 = .ok (.putfield 15, 3) := dk_181 0 15 (dk_at dksX17_init_0 13 rfl rfl)
theorem dX17_init_16 : decode cX17_init 16 = .ok (.aload_n 0, 1) := dk_42 (dk_at dksX17_init_0 16 rfl rfl)
theorem dX17_init_17 : decode cX17_init 17 = .ok (.iconst 3, 1) := dk_6 (dk_at dksX17_init_0 17 rfl rfl)
theorem dX17_init_18 : decode cX17_init 18 = .ok (.newarray .int, 2) := dk_188_10 (dk_at dksX17_init_0 18 rfl rfl)
theorem dX17_init_20 : decode cX17_init 20 = .ok (.putfield 19, 3) := dk_181 0 19 (dk_at dksX17_init_0 20 rfl rfl)
theorem dX17_init_23 : decode cX17_init 23 = .ok (.aload_n 0, 1) := dk_42 (dk_at dksX17_init_0 23 rfl rfl)
theorem dX17_init_24 : decode cX17_init 24 = .ok (.new 22, 3) := dk_187 0 22 (dk_at dksX17_init_1 0 rfl rfl)
theorem dX17_init_27 : decode cX17_init 27 = .ok (.dup, 1) := dk_89 (dk_at dksX17_init_1 3 rfl rfl)
theorem dX17_init_28 : decode cX17_init 28 = .ok (.aload_n 0, 1) := dk_42 (dk_at dksX17_init_1 4 rfl rfl)
theorem dX17_init_29 : decode cX17_init 29 = .ok (.getfield 3, 3) := dk_180 0 3 (dk_at dksX17_init_1 5 rfl rfl)
theorem dX17_init_32 : decode cX17_init 32 = .ok (.invokevirtual 24, 3) := dk_182 0 24 (dk_at dksX17_init_1 8 rfl rfl)
theorem dX17_init_35 : decode cX17_init 35 = .ok (.aload_n 0, 1) := dk_42 (dk_at dksX17_init_1 11 rfl rfl)
theorem dX17_init_36 : decode cX17_init 36 = .ok (.getfield 3, 3) := dk_180 0 3 (dk_at dksX17_init_1 12 rfl rfl)
theorem dX17_init_39 : decode cX17_init 39 = .ok (.getfield 28, 3) := dk_180 0 28 (dk_at dksX17_init_1 15 rfl rfl)
theorem dX17_init_42 : decode cX17_init 42 = .ok (.getfield 32, 3) := dk_180 0 32 (dk_at dksX17_init_1 18 rfl rfl)
theorem dX17_init_45 : decode cX17_init 45 = .ok (.iconst 1, 1) := dk_4 (dk_at dksX17_init_1 21 rfl rfl)
theorem dX17_init_46 : decode cX17_init 46 = .ok (.iaload, 1) := dk_46 (dk_at dksX17_init_1 22 rfl rfl)
theorem dX17_init_47 : decode cX17_init 47 = .ok (.invokespecial 37, 3) := dk_183 0 37 (dk_at dksX17_init_2 0 rfl rfl)
theorem dX17_init_50 : decode cX17_init 50 = .ok (.putfield 40, 3) := dk_181 0 40 (dk_at dksX17_init_2 3 rfl rfl)
theorem dX17_init_53 : decode cX17_init 53 = .ok (.return_, 1) := dk_177 (dk_at dksX17_init_2 6 rfl rfl)
abbrev cX17_add : ByteArray := prog_6_method_2_code
def yX17_add : MethodName := ⟨RX17, "add", "(IZ)V"⟩
def dkwX17_add_1 : List UInt8 := [167, 0, 4, 3, 96, 79, 177]
abbrev dktX17_add_1 : List UInt8 := dkwX17_add_1 ++ []
def dkwX17_add_0 : List UInt8 := [42, 180, 0, 15, 27, 92, 46, 4, 96, 79, 42, 180, 0, 19, 27, 92, 46, 28, 153, 0, 7, 4]
abbrev dktX17_add_0 : List UInt8 := dkwX17_add_0 ++ dktX17_add_1
theorem dksX17_add_0 : cX17_add.data.toList.drop 0 = dktX17_add_0 := by decide +kernel
theorem dksX17_add_1 : cX17_add.data.toList.drop 22 = dktX17_add_1 := dk_seg dksX17_add_0 22 rfl rfl
theorem dX17_add_0 : decode cX17_add 0 = .ok (.aload_n 0, 1) := dk_42 (dk_at dksX17_add_0 0 rfl rfl)
theorem dX17_add_1 : decode cX17_add 1 = .ok (.getfield 15, 3) := dk_180 0 15 (dk_at dksX17_add_0 1 rfl rfl)
theorem dX17_add_4 : decode cX17_add 4 = .ok (.iload_n 1, 1) := dk_27 (dk_at dksX17_add_0 4 rfl rfl)
theorem dX17_add_5 : decode cX17_add 5 = .ok (.dup2, 1) := dk_92 (dk_at dksX17_add_0 5 rfl rfl)
theorem dX17_add_6 : decode cX17_add 6 = .ok (.iaload, 1) := dk_46 (dk_at dksX17_add_0 6 rfl rfl)
theorem dX17_add_7 : decode cX17_add 7 = .ok (.iconst 1, 1) := dk_4 (dk_at dksX17_add_0 7 rfl rfl)
theorem dX17_add_8 : decode cX17_add 8 = .ok (.iadd, 1) := dk_96 (dk_at dksX17_add_0 8 rfl rfl)
theorem dX17_add_9 : decode cX17_add 9 = .ok (.iastore, 1) := dk_79 (dk_at dksX17_add_0 9 rfl rfl)
theorem dX17_add_10 : decode cX17_add 10 = .ok (.aload_n 0, 1) := dk_42 (dk_at dksX17_add_0 10 rfl rfl)
theorem dX17_add_11 : decode cX17_add 11 = .ok (.getfield 19, 3) := dk_180 0 19 (dk_at dksX17_add_0 11 rfl rfl)
theorem dX17_add_14 : decode cX17_add 14 = .ok (.iload_n 1, 1) := dk_27 (dk_at dksX17_add_0 14 rfl rfl)
theorem dX17_add_15 : decode cX17_add 15 = .ok (.dup2, 1) := dk_92 (dk_at dksX17_add_0 15 rfl rfl)
theorem dX17_add_16 : decode cX17_add 16 = .ok (.iaload, 1) := dk_46 (dk_at dksX17_add_0 16 rfl rfl)
theorem dX17_add_17 : decode cX17_add 17 = .ok (.iload_n 2, 1) := dk_28 (dk_at dksX17_add_0 17 rfl rfl)
theorem dX17_add_18 : decode cX17_add 18 = .ok (.ifCond .eq 7, 3) := dk_153 0 7 (dk_at dksX17_add_0 18 rfl rfl)
theorem dX17_add_21 : decode cX17_add 21 = .ok (.iconst 1, 1) := dk_4 (dk_at dksX17_add_0 21 rfl rfl)
theorem dX17_add_22 : decode cX17_add 22 = .ok (.goto 4, 3) := dk_167 0 4 (dk_at dksX17_add_1 0 rfl rfl)
theorem dX17_add_25 : decode cX17_add 25 = .ok (.iconst 0, 1) := dk_3 (dk_at dksX17_add_1 3 rfl rfl)
theorem dX17_add_26 : decode cX17_add 26 = .ok (.iadd, 1) := dk_96 (dk_at dksX17_add_1 4 rfl rfl)
theorem dX17_add_27 : decode cX17_add 27 = .ok (.iastore, 1) := dk_79 (dk_at dksX17_add_1 5 rfl rfl)
theorem dX17_add_28 : decode cX17_add 28 = .ok (.return_, 1) := dk_177 (dk_at dksX17_add_1 6 rfl rfl)
abbrev cX17_pass : ByteArray := prog_6_method_9_code
def yX17_pass : MethodName := ⟨RX17, "pass", "(I)LExamSlips$Share;"⟩
def dkwX17_pass_1 : List UInt8 := [182, 0, 83, 44, 42, 180, 0, 40, 180, 0, 65, 4, 96, 47, 183, 0, 87, 176]
abbrev dktX17_pass_1 : List UInt8 := dkwX17_pass_1 ++ []
def dkwX17_pass_0 : List UInt8 := [42, 27, 182, 0, 77, 77, 187, 0, 81, 89, 42, 44, 42, 180, 0, 3, 180, 0, 28, 180, 0, 32, 5, 46]
abbrev dktX17_pass_0 : List UInt8 := dkwX17_pass_0 ++ dktX17_pass_1
theorem dksX17_pass_0 : cX17_pass.data.toList.drop 0 = dktX17_pass_0 := by decide +kernel
theorem dksX17_pass_1 : cX17_pass.data.toList.drop 24 = dktX17_pass_1 := dk_seg dksX17_pass_0 24 rfl rfl
theorem dX17_pass_0 : decode cX17_pass 0 = .ok (.aload_n 0, 1) := dk_42 (dk_at dksX17_pass_0 0 rfl rfl)
theorem dX17_pass_1 : decode cX17_pass 1 = .ok (.iload_n 1, 1) := dk_27 (dk_at dksX17_pass_0 1 rfl rfl)
theorem dX17_pass_2 : decode cX17_pass 2 = .ok (.invokevirtual 77, 3) := dk_182 0 77 (dk_at dksX17_pass_0 2 rfl rfl)
theorem dX17_pass_5 : decode cX17_pass 5 = .ok (.astore_n 2, 1) := dk_77 (dk_at dksX17_pass_0 5 rfl rfl)
theorem dX17_pass_6 : decode cX17_pass 6 = .ok (.new 81, 3) := dk_187 0 81 (dk_at dksX17_pass_0 6 rfl rfl)
theorem dX17_pass_9 : decode cX17_pass 9 = .ok (.dup, 1) := dk_89 (dk_at dksX17_pass_0 9 rfl rfl)
theorem dX17_pass_10 : decode cX17_pass 10 = .ok (.aload_n 0, 1) := dk_42 (dk_at dksX17_pass_0 10 rfl rfl)
theorem dX17_pass_11 : decode cX17_pass 11 = .ok (.aload_n 2, 1) := dk_44 (dk_at dksX17_pass_0 11 rfl rfl)
theorem dX17_pass_12 : decode cX17_pass 12 = .ok (.aload_n 0, 1) := dk_42 (dk_at dksX17_pass_0 12 rfl rfl)
theorem dX17_pass_13 : decode cX17_pass 13 = .ok (.getfield 3, 3) := dk_180 0 3 (dk_at dksX17_pass_0 13 rfl rfl)
theorem dX17_pass_16 : decode cX17_pass 16 = .ok (.getfield 28, 3) := dk_180 0 28 (dk_at dksX17_pass_0 16 rfl rfl)
theorem dX17_pass_19 : decode cX17_pass 19 = .ok (.getfield 32, 3) := dk_180 0 32 (dk_at dksX17_pass_0 19 rfl rfl)
theorem dX17_pass_22 : decode cX17_pass 22 = .ok (.iconst 2, 1) := dk_5 (dk_at dksX17_pass_0 22 rfl rfl)
theorem dX17_pass_23 : decode cX17_pass 23 = .ok (.iaload, 1) := dk_46 (dk_at dksX17_pass_0 23 rfl rfl)
theorem dX17_pass_24 : decode cX17_pass 24 = .ok (.invokevirtual 83, 3) := dk_182 0 83 (dk_at dksX17_pass_1 0 rfl rfl)
theorem dX17_pass_27 : decode cX17_pass 27 = .ok (.aload_n 2, 1) := dk_44 (dk_at dksX17_pass_1 3 rfl rfl)
theorem dX17_pass_28 : decode cX17_pass 28 = .ok (.aload_n 0, 1) := dk_42 (dk_at dksX17_pass_1 4 rfl rfl)
theorem dX17_pass_29 : decode cX17_pass 29 = .ok (.getfield 40, 3) := dk_180 0 40 (dk_at dksX17_pass_1 5 rfl rfl)
theorem dX17_pass_32 : decode cX17_pass 32 = .ok (.getfield 65, 3) := dk_180 0 65 (dk_at dksX17_pass_1 8 rfl rfl)
theorem dX17_pass_35 : decode cX17_pass 35 = .ok (.iconst 1, 1) := dk_4 (dk_at dksX17_pass_1 11 rfl rfl)
theorem dX17_pass_36 : decode cX17_pass 36 = .ok (.iadd, 1) := dk_96 (dk_at dksX17_pass_1 12 rfl rfl)
theorem dX17_pass_37 : decode cX17_pass 37 = .ok (.laload, 1) := dk_47 (dk_at dksX17_pass_1 13 rfl rfl)
theorem dX17_pass_38 : decode cX17_pass 38 = .ok (.invokespecial 87, 3) := dk_183 0 87 (dk_at dksX17_pass_1 14 rfl rfl)
theorem dX17_pass_41 : decode cX17_pass 41 = .ok (.areturn, 1) := dk_176 (dk_at dksX17_pass_1 17 rfl rfl)
abbrev cX17_ways : ByteArray := prog_6_method_7_code
def yX17_ways : MethodName := ⟨RX17, "ways", "(I)[J"⟩
def dkwX17_ways_9 : List UInt8 := [180, 0, 40, 180, 0, 65, 4, 96, 92, 47, 44, 21, 5, 47, 97, 80, 132, 5, 1, 167, 255, 223, 44, 176]
abbrev dktX17_ways_9 : List UInt8 := dkwX17_ways_9 ++ []
def dkwX17_ways_8 : List UInt8 := [132, 6, 1, 167, 255, 166, 3, 54, 5, 21, 5, 42, 180, 0, 40, 180, 0, 65, 163, 0, 27, 44, 42]
abbrev dktX17_ways_8 : List UInt8 := dkwX17_ways_8 ++ dktX17_ways_9
def dkwX17_ways_7 : List UInt8 := [21, 4, 4, 100, 21, 6, 27, 133, 29, 133, 105, 42, 180, 0, 19, 21, 6, 46, 133, 105, 44, 182, 0, 73]
abbrev dktX17_ways_7 : List UInt8 := dkwX17_ways_7 ++ dktX17_ways_8
def dkwX17_ways_6 : List UInt8 := [89, 5, 42, 180, 0, 15, 5, 46, 79, 58, 7, 25, 7, 21, 6, 92, 46, 4, 100, 79, 42, 25, 7]
abbrev dktX17_ways_6 : List UInt8 := dkwX17_ways_6 ++ dktX17_ways_7
def dkwX17_ways_5 : List UInt8 := [167, 0, 71, 6, 188, 10, 89, 3, 42, 180, 0, 15, 3, 46, 79, 89, 4, 42, 180, 0, 15, 4, 46, 79]
abbrev dktX17_ways_5 : List UInt8 := dkwX17_ways_5 ++ dktX17_ways_6
def dkwX17_ways_4 : List UInt8 := [182, 0, 73, 3, 54, 6, 21, 6, 6, 162, 0, 90, 42, 180, 0, 19, 21, 6, 46, 154, 0, 6]
abbrev dktX17_ways_4 : List UInt8 := dkwX17_ways_4 ++ dktX17_ways_5
def dkwX17_ways_3 : List UInt8 := [54, 5, 42, 42, 180, 0, 15, 21, 4, 2, 16, 100, 27, 100, 133, 21, 5, 133, 105, 21, 4, 133, 105, 44]
abbrev dktX17_ways_3 : List UInt8 := dkwX17_ways_3 ++ dktX17_ways_4
def dkwX17_ways_2 : List UInt8 := [167, 0, 146, 42, 180, 0, 19, 3, 46, 42, 180, 0, 19, 4, 46, 96, 42, 180, 0, 19, 5, 46, 96]
abbrev dktX17_ways_2 : List UInt8 := dkwX17_ways_2 ++ dktX17_ways_3
def dkwX17_ways_1 : List UInt8 := [153, 0, 10, 42, 182, 0, 69, 154, 0, 19, 42, 42, 180, 0, 15, 21, 4, 2, 10, 44, 182, 0, 73]
abbrev dktX17_ways_1 : List UInt8 := dkwX17_ways_1 ++ dktX17_ways_2
def dkwX17_ways_0 : List UInt8 := [42, 180, 0, 40, 180, 0, 65, 5, 96, 188, 11, 77, 42, 182, 0, 44, 62, 42, 182, 0, 54, 54, 4, 27]
abbrev dktX17_ways_0 : List UInt8 := dkwX17_ways_0 ++ dktX17_ways_1
theorem dksX17_ways_0 : cX17_ways.data.toList.drop 0 = dktX17_ways_0 := by decide +kernel
theorem dksX17_ways_1 : cX17_ways.data.toList.drop 24 = dktX17_ways_1 := dk_seg dksX17_ways_0 24 rfl rfl
theorem dksX17_ways_2 : cX17_ways.data.toList.drop 47 = dktX17_ways_2 := dk_seg dksX17_ways_1 23 rfl rfl
theorem dksX17_ways_3 : cX17_ways.data.toList.drop 70 = dktX17_ways_3 := dk_seg dksX17_ways_2 23 rfl rfl
theorem dksX17_ways_4 : cX17_ways.data.toList.drop 94 = dktX17_ways_4 := dk_seg dksX17_ways_3 24 rfl rfl
theorem dksX17_ways_5 : cX17_ways.data.toList.drop 116 = dktX17_ways_5 := dk_seg dksX17_ways_4 22 rfl rfl
theorem dksX17_ways_6 : cX17_ways.data.toList.drop 140 = dktX17_ways_6 := dk_seg dksX17_ways_5 24 rfl rfl
theorem dksX17_ways_7 : cX17_ways.data.toList.drop 163 = dktX17_ways_7 := dk_seg dksX17_ways_6 23 rfl rfl
theorem dksX17_ways_8 : cX17_ways.data.toList.drop 187 = dktX17_ways_8 := dk_seg dksX17_ways_7 24 rfl rfl
theorem dksX17_ways_9 : cX17_ways.data.toList.drop 210 = dktX17_ways_9 := dk_seg dksX17_ways_8 23 rfl rfl
theorem dX17_ways_0 : decode cX17_ways 0 = .ok (.aload_n 0, 1) := dk_42 (dk_at dksX17_ways_0 0 rfl rfl)
theorem dX17_ways_1 : decode cX17_ways 1 = .ok (.getfield 40, 3) := dk_180 0 40 (dk_at dksX17_ways_0 1 rfl rfl)
theorem dX17_ways_4 : decode cX17_ways 4 = .ok (.getfield 65, 3) := dk_180 0 65 (dk_at dksX17_ways_0 4 rfl rfl)
theorem dX17_ways_7 : decode cX17_ways 7 = .ok (.iconst 2, 1) := dk_5 (dk_at dksX17_ways_0 7 rfl rfl)
theorem dX17_ways_8 : decode cX17_ways 8 = .ok (.iadd, 1) := dk_96 (dk_at dksX17_ways_0 8 rfl rfl)
theorem dX17_ways_9 : decode cX17_ways 9 = .ok (.newarray .long, 2) := dk_188_11 (dk_at dksX17_ways_0 9 rfl rfl)
theorem dX17_ways_11 : decode cX17_ways 11 = .ok (.astore_n 2, 1) := dk_77 (dk_at dksX17_ways_0 11 rfl rfl)
theorem dX17_ways_12 : decode cX17_ways 12 = .ok (.aload_n 0, 1) := dk_42 (dk_at dksX17_ways_0 12 rfl rfl)
theorem dX17_ways_13 : decode cX17_ways 13 = .ok (.invokevirtual 44, 3) := dk_182 0 44 (dk_at dksX17_ways_0 13 rfl rfl)
theorem dX17_ways_16 : decode cX17_ways 16 = .ok (.istore_n 3, 1) := dk_62 (dk_at dksX17_ways_0 16 rfl rfl)
theorem dX17_ways_17 : decode cX17_ways 17 = .ok (.aload_n 0, 1) := dk_42 (dk_at dksX17_ways_0 17 rfl rfl)
theorem dX17_ways_18 : decode cX17_ways 18 = .ok (.invokevirtual 54, 3) := dk_182 0 54 (dk_at dksX17_ways_0 18 rfl rfl)
theorem dX17_ways_21 : decode cX17_ways 21 = .ok (.istore 4, 2) := dk_54 4 (dk_at dksX17_ways_0 21 rfl rfl)
theorem dX17_ways_23 : decode cX17_ways 23 = .ok (.iload_n 1, 1) := dk_27 (dk_at dksX17_ways_0 23 rfl rfl)
theorem dX17_ways_24 : decode cX17_ways 24 = .ok (.ifCond .eq 10, 3) := dk_153 0 10 (dk_at dksX17_ways_1 0 rfl rfl)
theorem dX17_ways_27 : decode cX17_ways 27 = .ok (.aload_n 0, 1) := dk_42 (dk_at dksX17_ways_1 3 rfl rfl)
theorem dX17_ways_28 : decode cX17_ways 28 = .ok (.invokevirtual 69, 3) := dk_182 0 69 (dk_at dksX17_ways_1 4 rfl rfl)
theorem dX17_ways_31 : decode cX17_ways 31 = .ok (.ifCond .ne 19, 3) := dk_154 0 19 (dk_at dksX17_ways_1 7 rfl rfl)
theorem dX17_ways_34 : decode cX17_ways 34 = .ok (.aload_n 0, 1) := dk_42 (dk_at dksX17_ways_1 10 rfl rfl)
theorem dX17_ways_35 : decode cX17_ways 35 = .ok (.aload_n 0, 1) := dk_42 (dk_at dksX17_ways_1 11 rfl rfl)
theorem dX17_ways_36 : decode cX17_ways 36 = .ok (.getfield 15, 3) := dk_180 0 15 (dk_at dksX17_ways_1 12 rfl rfl)
theorem dX17_ways_39 : decode cX17_ways 39 = .ok (.iload 4, 2) := dk_21 4 (dk_at dksX17_ways_1 15 rfl rfl)
theorem dX17_ways_41 : decode cX17_ways 41 = .ok (.iconst (-1), 1) := dk_2 (dk_at dksX17_ways_1 17 rfl rfl)
theorem dX17_ways_42 : decode cX17_ways 42 = .ok (.lconst 1, 1) := dk_10 (dk_at dksX17_ways_1 18 rfl rfl)
theorem dX17_ways_43 : decode cX17_ways 43 = .ok (.aload_n 2, 1) := dk_44 (dk_at dksX17_ways_1 19 rfl rfl)
theorem dX17_ways_44 : decode cX17_ways 44 = .ok (.invokevirtual 73, 3) := dk_182 0 73 (dk_at dksX17_ways_1 20 rfl rfl)
theorem dX17_ways_47 : decode cX17_ways 47 = .ok (.goto 146, 3) := dk_167 0 146 (dk_at dksX17_ways_2 0 rfl rfl)
theorem dX17_ways_50 : decode cX17_ways 50 = .ok (.aload_n 0, 1) := dk_42 (dk_at dksX17_ways_2 3 rfl rfl)
theorem dX17_ways_51 : decode cX17_ways 51 = .ok (.getfield 19, 3) := dk_180 0 19 (dk_at dksX17_ways_2 4 rfl rfl)
theorem dX17_ways_54 : decode cX17_ways 54 = .ok (.iconst 0, 1) := dk_3 (dk_at dksX17_ways_2 7 rfl rfl)
theorem dX17_ways_55 : decode cX17_ways 55 = .ok (.iaload, 1) := dk_46 (dk_at dksX17_ways_2 8 rfl rfl)
theorem dX17_ways_56 : decode cX17_ways 56 = .ok (.aload_n 0, 1) := dk_42 (dk_at dksX17_ways_2 9 rfl rfl)
theorem dX17_ways_57 : decode cX17_ways 57 = .ok (.getfield 19, 3) := dk_180 0 19 (dk_at dksX17_ways_2 10 rfl rfl)
theorem dX17_ways_60 : decode cX17_ways 60 = .ok (.iconst 1, 1) := dk_4 (dk_at dksX17_ways_2 13 rfl rfl)
theorem dX17_ways_61 : decode cX17_ways 61 = .ok (.iaload, 1) := dk_46 (dk_at dksX17_ways_2 14 rfl rfl)
theorem dX17_ways_62 : decode cX17_ways 62 = .ok (.iadd, 1) := dk_96 (dk_at dksX17_ways_2 15 rfl rfl)
theorem dX17_ways_63 : decode cX17_ways 63 = .ok (.aload_n 0, 1) := dk_42 (dk_at dksX17_ways_2 16 rfl rfl)
theorem dX17_ways_64 : decode cX17_ways 64 = .ok (.getfield 19, 3) := dk_180 0 19 (dk_at dksX17_ways_2 17 rfl rfl)
theorem dX17_ways_67 : decode cX17_ways 67 = .ok (.iconst 2, 1) := dk_5 (dk_at dksX17_ways_2 20 rfl rfl)
theorem dX17_ways_68 : decode cX17_ways 68 = .ok (.iaload, 1) := dk_46 (dk_at dksX17_ways_2 21 rfl rfl)
theorem dX17_ways_69 : decode cX17_ways 69 = .ok (.iadd, 1) := dk_96 (dk_at dksX17_ways_2 22 rfl rfl)
theorem dX17_ways_70 : decode cX17_ways 70 = .ok (.istore 5, 2) := dk_54 5 (dk_at dksX17_ways_3 0 rfl rfl)
theorem dX17_ways_72 : decode cX17_ways 72 = .ok (.aload_n 0, 1) := dk_42 (dk_at dksX17_ways_3 2 rfl rfl)
theorem dX17_ways_73 : decode cX17_ways 73 = .ok (.aload_n 0, 1) := dk_42 (dk_at dksX17_ways_3 3 rfl rfl)
theorem dX17_ways_74 : decode cX17_ways 74 = .ok (.getfield 15, 3) := dk_180 0 15 (dk_at dksX17_ways_3 4 rfl rfl)
theorem dX17_ways_77 : decode cX17_ways 77 = .ok (.iload 4, 2) := dk_21 4 (dk_at dksX17_ways_3 7 rfl rfl)
theorem dX17_ways_79 : decode cX17_ways 79 = .ok (.iconst (-1), 1) := dk_2 (dk_at dksX17_ways_3 9 rfl rfl)
theorem dX17_ways_80 : decode cX17_ways 80 = .ok (.bipush 100, 2) := dk_16 100 (dk_at dksX17_ways_3 10 rfl rfl)
theorem dX17_ways_82 : decode cX17_ways 82 = .ok (.iload_n 1, 1) := dk_27 (dk_at dksX17_ways_3 12 rfl rfl)
theorem dX17_ways_83 : decode cX17_ways 83 = .ok (.isub, 1) := dk_100 (dk_at dksX17_ways_3 13 rfl rfl)
theorem dX17_ways_84 : decode cX17_ways 84 = .ok (.i2l, 1) := dk_133 (dk_at dksX17_ways_3 14 rfl rfl)
theorem dX17_ways_85 : decode cX17_ways 85 = .ok (.iload 5, 2) := dk_21 5 (dk_at dksX17_ways_3 15 rfl rfl)
theorem dX17_ways_87 : decode cX17_ways 87 = .ok (.i2l, 1) := dk_133 (dk_at dksX17_ways_3 17 rfl rfl)
theorem dX17_ways_88 : decode cX17_ways 88 = .ok (.lmul, 1) := dk_105 (dk_at dksX17_ways_3 18 rfl rfl)
theorem dX17_ways_89 : decode cX17_ways 89 = .ok (.iload 4, 2) := dk_21 4 (dk_at dksX17_ways_3 19 rfl rfl)
theorem dX17_ways_91 : decode cX17_ways 91 = .ok (.i2l, 1) := dk_133 (dk_at dksX17_ways_3 21 rfl rfl)
theorem dX17_ways_92 : decode cX17_ways 92 = .ok (.lmul, 1) := dk_105 (dk_at dksX17_ways_3 22 rfl rfl)
theorem dX17_ways_93 : decode cX17_ways 93 = .ok (.aload_n 2, 1) := dk_44 (dk_at dksX17_ways_3 23 rfl rfl)
theorem dX17_ways_94 : decode cX17_ways 94 = .ok (.invokevirtual 73, 3) := dk_182 0 73 (dk_at dksX17_ways_4 0 rfl rfl)
theorem dX17_ways_97 : decode cX17_ways 97 = .ok (.iconst 0, 1) := dk_3 (dk_at dksX17_ways_4 3 rfl rfl)
theorem dX17_ways_98 : decode cX17_ways 98 = .ok (.istore 6, 2) := dk_54 6 (dk_at dksX17_ways_4 4 rfl rfl)
theorem dX17_ways_100 : decode cX17_ways 100 = .ok (.iload 6, 2) := dk_21 6 (dk_at dksX17_ways_4 6 rfl rfl)
theorem dX17_ways_102 : decode cX17_ways 102 = .ok (.iconst 3, 1) := dk_6 (dk_at dksX17_ways_4 8 rfl rfl)
theorem dX17_ways_103 : decode cX17_ways 103 = .ok (.if_icmp .ge 90, 3) := dk_162 0 90 (dk_at dksX17_ways_4 9 rfl rfl)
theorem dX17_ways_106 : decode cX17_ways 106 = .ok (.aload_n 0, 1) := dk_42 (dk_at dksX17_ways_4 12 rfl rfl)
theorem dX17_ways_107 : decode cX17_ways 107 = .ok (.getfield 19, 3) := dk_180 0 19 (dk_at dksX17_ways_4 13 rfl rfl)
theorem dX17_ways_110 : decode cX17_ways 110 = .ok (.iload 6, 2) := dk_21 6 (dk_at dksX17_ways_4 16 rfl rfl)
theorem dX17_ways_112 : decode cX17_ways 112 = .ok (.iaload, 1) := dk_46 (dk_at dksX17_ways_4 18 rfl rfl)
theorem dX17_ways_113 : decode cX17_ways 113 = .ok (.ifCond .ne 6, 3) := dk_154 0 6 (dk_at dksX17_ways_4 19 rfl rfl)
theorem dX17_ways_116 : decode cX17_ways 116 = .ok (.goto 71, 3) := dk_167 0 71 (dk_at dksX17_ways_5 0 rfl rfl)
theorem dX17_ways_119 : decode cX17_ways 119 = .ok (.iconst 3, 1) := dk_6 (dk_at dksX17_ways_5 3 rfl rfl)
theorem dX17_ways_120 : decode cX17_ways 120 = .ok (.newarray .int, 2) := dk_188_10 (dk_at dksX17_ways_5 4 rfl rfl)
theorem dX17_ways_122 : decode cX17_ways 122 = .ok (.dup, 1) := dk_89 (dk_at dksX17_ways_5 6 rfl rfl)
theorem dX17_ways_123 : decode cX17_ways 123 = .ok (.iconst 0, 1) := dk_3 (dk_at dksX17_ways_5 7 rfl rfl)
theorem dX17_ways_124 : decode cX17_ways 124 = .ok (.aload_n 0, 1) := dk_42 (dk_at dksX17_ways_5 8 rfl rfl)
theorem dX17_ways_125 : decode cX17_ways 125 = .ok (.getfield 15, 3) := dk_180 0 15 (dk_at dksX17_ways_5 9 rfl rfl)
theorem dX17_ways_128 : decode cX17_ways 128 = .ok (.iconst 0, 1) := dk_3 (dk_at dksX17_ways_5 12 rfl rfl)
theorem dX17_ways_129 : decode cX17_ways 129 = .ok (.iaload, 1) := dk_46 (dk_at dksX17_ways_5 13 rfl rfl)
theorem dX17_ways_130 : decode cX17_ways 130 = .ok (.iastore, 1) := dk_79 (dk_at dksX17_ways_5 14 rfl rfl)
theorem dX17_ways_131 : decode cX17_ways 131 = .ok (.dup, 1) := dk_89 (dk_at dksX17_ways_5 15 rfl rfl)
theorem dX17_ways_132 : decode cX17_ways 132 = .ok (.iconst 1, 1) := dk_4 (dk_at dksX17_ways_5 16 rfl rfl)
theorem dX17_ways_133 : decode cX17_ways 133 = .ok (.aload_n 0, 1) := dk_42 (dk_at dksX17_ways_5 17 rfl rfl)
theorem dX17_ways_134 : decode cX17_ways 134 = .ok (.getfield 15, 3) := dk_180 0 15 (dk_at dksX17_ways_5 18 rfl rfl)
theorem dX17_ways_137 : decode cX17_ways 137 = .ok (.iconst 1, 1) := dk_4 (dk_at dksX17_ways_5 21 rfl rfl)
theorem dX17_ways_138 : decode cX17_ways 138 = .ok (.iaload, 1) := dk_46 (dk_at dksX17_ways_5 22 rfl rfl)
theorem dX17_ways_139 : decode cX17_ways 139 = .ok (.iastore, 1) := dk_79 (dk_at dksX17_ways_5 23 rfl rfl)
theorem dX17_ways_140 : decode cX17_ways 140 = .ok (.dup, 1) := dk_89 (dk_at dksX17_ways_6 0 rfl rfl)
theorem dX17_ways_141 : decode cX17_ways 141 = .ok (.iconst 2, 1) := dk_5 (dk_at dksX17_ways_6 1 rfl rfl)
theorem dX17_ways_142 : decode cX17_ways 142 = .ok (.aload_n 0, 1) := dk_42 (dk_at dksX17_ways_6 2 rfl rfl)
theorem dX17_ways_143 : decode cX17_ways 143 = .ok (.getfield 15, 3) := dk_180 0 15 (dk_at dksX17_ways_6 3 rfl rfl)
theorem dX17_ways_146 : decode cX17_ways 146 = .ok (.iconst 2, 1) := dk_5 (dk_at dksX17_ways_6 6 rfl rfl)
theorem dX17_ways_147 : decode cX17_ways 147 = .ok (.iaload, 1) := dk_46 (dk_at dksX17_ways_6 7 rfl rfl)
theorem dX17_ways_148 : decode cX17_ways 148 = .ok (.iastore, 1) := dk_79 (dk_at dksX17_ways_6 8 rfl rfl)
theorem dX17_ways_149 : decode cX17_ways 149 = .ok (.astore 7, 2) := dk_58 7 (dk_at dksX17_ways_6 9 rfl rfl)
theorem dX17_ways_151 : decode cX17_ways 151 = .ok (.aload 7, 2) := dk_25 7 (dk_at dksX17_ways_6 11 rfl rfl)
theorem dX17_ways_153 : decode cX17_ways 153 = .ok (.iload 6, 2) := dk_21 6 (dk_at dksX17_ways_6 13 rfl rfl)
theorem dX17_ways_155 : decode cX17_ways 155 = .ok (.dup2, 1) := dk_92 (dk_at dksX17_ways_6 15 rfl rfl)
theorem dX17_ways_156 : decode cX17_ways 156 = .ok (.iaload, 1) := dk_46 (dk_at dksX17_ways_6 16 rfl rfl)
theorem dX17_ways_157 : decode cX17_ways 157 = .ok (.iconst 1, 1) := dk_4 (dk_at dksX17_ways_6 17 rfl rfl)
theorem dX17_ways_158 : decode cX17_ways 158 = .ok (.isub, 1) := dk_100 (dk_at dksX17_ways_6 18 rfl rfl)
theorem dX17_ways_159 : decode cX17_ways 159 = .ok (.iastore, 1) := dk_79 (dk_at dksX17_ways_6 19 rfl rfl)
theorem dX17_ways_160 : decode cX17_ways 160 = .ok (.aload_n 0, 1) := dk_42 (dk_at dksX17_ways_6 20 rfl rfl)
theorem dX17_ways_161 : decode cX17_ways 161 = .ok (.aload 7, 2) := dk_25 7 (dk_at dksX17_ways_6 21 rfl rfl)
theorem dX17_ways_163 : decode cX17_ways 163 = .ok (.iload 4, 2) := dk_21 4 (dk_at dksX17_ways_7 0 rfl rfl)
theorem dX17_ways_165 : decode cX17_ways 165 = .ok (.iconst 1, 1) := dk_4 (dk_at dksX17_ways_7 2 rfl rfl)
theorem dX17_ways_166 : decode cX17_ways 166 = .ok (.isub, 1) := dk_100 (dk_at dksX17_ways_7 3 rfl rfl)
theorem dX17_ways_167 : decode cX17_ways 167 = .ok (.iload 6, 2) := dk_21 6 (dk_at dksX17_ways_7 4 rfl rfl)
theorem dX17_ways_169 : decode cX17_ways 169 = .ok (.iload_n 1, 1) := dk_27 (dk_at dksX17_ways_7 6 rfl rfl)
theorem dX17_ways_170 : decode cX17_ways 170 = .ok (.i2l, 1) := dk_133 (dk_at dksX17_ways_7 7 rfl rfl)
theorem dX17_ways_171 : decode cX17_ways 171 = .ok (.iload_n 3, 1) := dk_29 (dk_at dksX17_ways_7 8 rfl rfl)
theorem dX17_ways_172 : decode cX17_ways 172 = .ok (.i2l, 1) := dk_133 (dk_at dksX17_ways_7 9 rfl rfl)
theorem dX17_ways_173 : decode cX17_ways 173 = .ok (.lmul, 1) := dk_105 (dk_at dksX17_ways_7 10 rfl rfl)
theorem dX17_ways_174 : decode cX17_ways 174 = .ok (.aload_n 0, 1) := dk_42 (dk_at dksX17_ways_7 11 rfl rfl)
theorem dX17_ways_175 : decode cX17_ways 175 = .ok (.getfield 19, 3) := dk_180 0 19 (dk_at dksX17_ways_7 12 rfl rfl)
theorem dX17_ways_178 : decode cX17_ways 178 = .ok (.iload 6, 2) := dk_21 6 (dk_at dksX17_ways_7 15 rfl rfl)
theorem dX17_ways_180 : decode cX17_ways 180 = .ok (.iaload, 1) := dk_46 (dk_at dksX17_ways_7 17 rfl rfl)
theorem dX17_ways_181 : decode cX17_ways 181 = .ok (.i2l, 1) := dk_133 (dk_at dksX17_ways_7 18 rfl rfl)
theorem dX17_ways_182 : decode cX17_ways 182 = .ok (.lmul, 1) := dk_105 (dk_at dksX17_ways_7 19 rfl rfl)
theorem dX17_ways_183 : decode cX17_ways 183 = .ok (.aload_n 2, 1) := dk_44 (dk_at dksX17_ways_7 20 rfl rfl)
theorem dX17_ways_184 : decode cX17_ways 184 = .ok (.invokevirtual 73, 3) := dk_182 0 73 (dk_at dksX17_ways_7 21 rfl rfl)
theorem dX17_ways_187 : decode cX17_ways 187 = .ok (.iinc 6 1, 3) := dk_132 6 1 (dk_at dksX17_ways_8 0 rfl rfl)
theorem dX17_ways_190 : decode cX17_ways 190 = .ok (.goto (-90), 3) := dk_167 255 166 (dk_at dksX17_ways_8 3 rfl rfl)
theorem dX17_ways_193 : decode cX17_ways 193 = .ok (.iconst 0, 1) := dk_3 (dk_at dksX17_ways_8 6 rfl rfl)
theorem dX17_ways_194 : decode cX17_ways 194 = .ok (.istore 5, 2) := dk_54 5 (dk_at dksX17_ways_8 7 rfl rfl)
theorem dX17_ways_196 : decode cX17_ways 196 = .ok (.iload 5, 2) := dk_21 5 (dk_at dksX17_ways_8 9 rfl rfl)
theorem dX17_ways_198 : decode cX17_ways 198 = .ok (.aload_n 0, 1) := dk_42 (dk_at dksX17_ways_8 11 rfl rfl)
theorem dX17_ways_199 : decode cX17_ways 199 = .ok (.getfield 40, 3) := dk_180 0 40 (dk_at dksX17_ways_8 12 rfl rfl)
theorem dX17_ways_202 : decode cX17_ways 202 = .ok (.getfield 65, 3) := dk_180 0 65 (dk_at dksX17_ways_8 15 rfl rfl)
theorem dX17_ways_205 : decode cX17_ways 205 = .ok (.if_icmp .gt 27, 3) := dk_163 0 27 (dk_at dksX17_ways_8 18 rfl rfl)
theorem dX17_ways_208 : decode cX17_ways 208 = .ok (.aload_n 2, 1) := dk_44 (dk_at dksX17_ways_8 21 rfl rfl)
theorem dX17_ways_209 : decode cX17_ways 209 = .ok (.aload_n 0, 1) := dk_42 (dk_at dksX17_ways_8 22 rfl rfl)
theorem dX17_ways_210 : decode cX17_ways 210 = .ok (.getfield 40, 3) := dk_180 0 40 (dk_at dksX17_ways_9 0 rfl rfl)
theorem dX17_ways_213 : decode cX17_ways 213 = .ok (.getfield 65, 3) := dk_180 0 65 (dk_at dksX17_ways_9 3 rfl rfl)
theorem dX17_ways_216 : decode cX17_ways 216 = .ok (.iconst 1, 1) := dk_4 (dk_at dksX17_ways_9 6 rfl rfl)
theorem dX17_ways_217 : decode cX17_ways 217 = .ok (.iadd, 1) := dk_96 (dk_at dksX17_ways_9 7 rfl rfl)
theorem dX17_ways_218 : decode cX17_ways 218 = .ok (.dup2, 1) := dk_92 (dk_at dksX17_ways_9 8 rfl rfl)
theorem dX17_ways_219 : decode cX17_ways 219 = .ok (.laload, 1) := dk_47 (dk_at dksX17_ways_9 9 rfl rfl)
theorem dX17_ways_220 : decode cX17_ways 220 = .ok (.aload_n 2, 1) := dk_44 (dk_at dksX17_ways_9 10 rfl rfl)
theorem dX17_ways_221 : decode cX17_ways 221 = .ok (.iload 5, 2) := dk_21 5 (dk_at dksX17_ways_9 11 rfl rfl)
theorem dX17_ways_223 : decode cX17_ways 223 = .ok (.laload, 1) := dk_47 (dk_at dksX17_ways_9 13 rfl rfl)
theorem dX17_ways_224 : decode cX17_ways 224 = .ok (.ladd, 1) := dk_97 (dk_at dksX17_ways_9 14 rfl rfl)
theorem dX17_ways_225 : decode cX17_ways 225 = .ok (.lastore, 1) := dk_80 (dk_at dksX17_ways_9 15 rfl rfl)
theorem dX17_ways_226 : decode cX17_ways 226 = .ok (.iinc 5 1, 3) := dk_132 5 1 (dk_at dksX17_ways_9 16 rfl rfl)
theorem dX17_ways_229 : decode cX17_ways 229 = .ok (.goto (-33), 3) := dk_167 255 223 (dk_at dksX17_ways_9 19 rfl rfl)
theorem dX17_ways_232 : decode cX17_ways 232 = .ok (.aload_n 2, 1) := dk_44 (dk_at dksX17_ways_9 22 rfl rfl)
theorem dX17_ways_233 : decode cX17_ways 233 = .ok (.areturn, 1) := dk_176 (dk_at dksX17_ways_9 23 rfl rfl)
abbrev cX17_size : ByteArray := prog_6_method_3_code
def yX17_size : MethodName := ⟨RX17, "size", "()I"⟩
def dkwX17_size_0 : List UInt8 := [42, 180, 0, 15, 3, 46, 42, 180, 0, 15, 4, 46, 96, 42, 180, 0, 15, 5, 46, 96, 172]
abbrev dktX17_size_0 : List UInt8 := dkwX17_size_0 ++ []
theorem dksX17_size_0 : cX17_size.data.toList.drop 0 = dktX17_size_0 := by decide +kernel
theorem dX17_size_0 : decode cX17_size 0 = .ok (.aload_n 0, 1) := dk_42 (dk_at dksX17_size_0 0 rfl rfl)
theorem dX17_size_1 : decode cX17_size 1 = .ok (.getfield 15, 3) := dk_180 0 15 (dk_at dksX17_size_0 1 rfl rfl)
theorem dX17_size_4 : decode cX17_size 4 = .ok (.iconst 0, 1) := dk_3 (dk_at dksX17_size_0 4 rfl rfl)
theorem dX17_size_5 : decode cX17_size 5 = .ok (.iaload, 1) := dk_46 (dk_at dksX17_size_0 5 rfl rfl)
theorem dX17_size_6 : decode cX17_size 6 = .ok (.aload_n 0, 1) := dk_42 (dk_at dksX17_size_0 6 rfl rfl)
theorem dX17_size_7 : decode cX17_size 7 = .ok (.getfield 15, 3) := dk_180 0 15 (dk_at dksX17_size_0 7 rfl rfl)
theorem dX17_size_10 : decode cX17_size 10 = .ok (.iconst 1, 1) := dk_4 (dk_at dksX17_size_0 10 rfl rfl)
theorem dX17_size_11 : decode cX17_size 11 = .ok (.iaload, 1) := dk_46 (dk_at dksX17_size_0 11 rfl rfl)
theorem dX17_size_12 : decode cX17_size 12 = .ok (.iadd, 1) := dk_96 (dk_at dksX17_size_0 12 rfl rfl)
theorem dX17_size_13 : decode cX17_size 13 = .ok (.aload_n 0, 1) := dk_42 (dk_at dksX17_size_0 13 rfl rfl)
theorem dX17_size_14 : decode cX17_size 14 = .ok (.getfield 15, 3) := dk_180 0 15 (dk_at dksX17_size_0 14 rfl rfl)
theorem dX17_size_17 : decode cX17_size 17 = .ok (.iconst 2, 1) := dk_5 (dk_at dksX17_size_0 17 rfl rfl)
theorem dX17_size_18 : decode cX17_size 18 = .ok (.iaload, 1) := dk_46 (dk_at dksX17_size_0 18 rfl rfl)
theorem dX17_size_19 : decode cX17_size 19 = .ok (.iadd, 1) := dk_96 (dk_at dksX17_size_0 19 rfl rfl)
theorem dX17_size_20 : decode cX17_size 20 = .ok (.ireturn, 1) := dk_172 (dk_at dksX17_size_0 20 rfl rfl)
abbrev cX17_lying : ByteArray := prog_6_method_4_code
def yX17_lying : MethodName := ⟨RX17, "lying", "()I"⟩
def dkwX17_lying_0 : List UInt8 := [42, 182, 0, 44, 42, 180, 0, 3, 180, 0, 28, 180, 0, 32, 3, 46, 184, 0, 48, 172]
abbrev dktX17_lying_0 : List UInt8 := dkwX17_lying_0 ++ []
theorem dksX17_lying_0 : cX17_lying.data.toList.drop 0 = dktX17_lying_0 := by decide +kernel
theorem dX17_lying_0 : decode cX17_lying 0 = .ok (.aload_n 0, 1) := dk_42 (dk_at dksX17_lying_0 0 rfl rfl)
theorem dX17_lying_1 : decode cX17_lying 1 = .ok (.invokevirtual 44, 3) := dk_182 0 44 (dk_at dksX17_lying_0 1 rfl rfl)
theorem dX17_lying_4 : decode cX17_lying 4 = .ok (.aload_n 0, 1) := dk_42 (dk_at dksX17_lying_0 4 rfl rfl)
theorem dX17_lying_5 : decode cX17_lying 5 = .ok (.getfield 3, 3) := dk_180 0 3 (dk_at dksX17_lying_0 5 rfl rfl)
theorem dX17_lying_8 : decode cX17_lying 8 = .ok (.getfield 28, 3) := dk_180 0 28 (dk_at dksX17_lying_0 8 rfl rfl)
theorem dX17_lying_11 : decode cX17_lying 11 = .ok (.getfield 32, 3) := dk_180 0 32 (dk_at dksX17_lying_0 11 rfl rfl)
theorem dX17_lying_14 : decode cX17_lying 14 = .ok (.iconst 0, 1) := dk_3 (dk_at dksX17_lying_0 14 rfl rfl)
theorem dX17_lying_15 : decode cX17_lying 15 = .ok (.iaload, 1) := dk_46 (dk_at dksX17_lying_0 15 rfl rfl)
theorem dX17_lying_16 : decode cX17_lying 16 = .ok (.invokestatic 48, 3) := dk_184 0 48 (dk_at dksX17_lying_0 16 rfl rfl)
theorem dX17_lying_19 : decode cX17_lying 19 = .ok (.ireturn, 1) := dk_172 (dk_at dksX17_lying_0 19 rfl rfl)
abbrev cX17_leans : ByteArray := prog_6_method_5_code
def yX17_leans : MethodName := ⟨RX17, "leans", "()Z"⟩
def dkwX17_leans_1 : List UInt8 := [182, 0, 54, 42, 182, 0, 44, 162, 0, 7, 4, 167, 0, 4, 3, 172]
abbrev dktX17_leans_1 : List UInt8 := dkwX17_leans_1 ++ []
def dkwX17_leans_0 : List UInt8 := [42, 180, 0, 19, 3, 46, 42, 180, 0, 19, 4, 46, 96, 42, 180, 0, 19, 5, 46, 96, 158, 0, 18, 42]
abbrev dktX17_leans_0 : List UInt8 := dkwX17_leans_0 ++ dktX17_leans_1
theorem dksX17_leans_0 : cX17_leans.data.toList.drop 0 = dktX17_leans_0 := by decide +kernel
theorem dksX17_leans_1 : cX17_leans.data.toList.drop 24 = dktX17_leans_1 := dk_seg dksX17_leans_0 24 rfl rfl
theorem dX17_leans_0 : decode cX17_leans 0 = .ok (.aload_n 0, 1) := dk_42 (dk_at dksX17_leans_0 0 rfl rfl)
theorem dX17_leans_1 : decode cX17_leans 1 = .ok (.getfield 19, 3) := dk_180 0 19 (dk_at dksX17_leans_0 1 rfl rfl)
theorem dX17_leans_4 : decode cX17_leans 4 = .ok (.iconst 0, 1) := dk_3 (dk_at dksX17_leans_0 4 rfl rfl)
theorem dX17_leans_5 : decode cX17_leans 5 = .ok (.iaload, 1) := dk_46 (dk_at dksX17_leans_0 5 rfl rfl)
theorem dX17_leans_6 : decode cX17_leans 6 = .ok (.aload_n 0, 1) := dk_42 (dk_at dksX17_leans_0 6 rfl rfl)
theorem dX17_leans_7 : decode cX17_leans 7 = .ok (.getfield 19, 3) := dk_180 0 19 (dk_at dksX17_leans_0 7 rfl rfl)
theorem dX17_leans_10 : decode cX17_leans 10 = .ok (.iconst 1, 1) := dk_4 (dk_at dksX17_leans_0 10 rfl rfl)
theorem dX17_leans_11 : decode cX17_leans 11 = .ok (.iaload, 1) := dk_46 (dk_at dksX17_leans_0 11 rfl rfl)
theorem dX17_leans_12 : decode cX17_leans 12 = .ok (.iadd, 1) := dk_96 (dk_at dksX17_leans_0 12 rfl rfl)
theorem dX17_leans_13 : decode cX17_leans 13 = .ok (.aload_n 0, 1) := dk_42 (dk_at dksX17_leans_0 13 rfl rfl)
theorem dX17_leans_14 : decode cX17_leans 14 = .ok (.getfield 19, 3) := dk_180 0 19 (dk_at dksX17_leans_0 14 rfl rfl)
theorem dX17_leans_17 : decode cX17_leans 17 = .ok (.iconst 2, 1) := dk_5 (dk_at dksX17_leans_0 17 rfl rfl)
theorem dX17_leans_18 : decode cX17_leans 18 = .ok (.iaload, 1) := dk_46 (dk_at dksX17_leans_0 18 rfl rfl)
theorem dX17_leans_19 : decode cX17_leans 19 = .ok (.iadd, 1) := dk_96 (dk_at dksX17_leans_0 19 rfl rfl)
theorem dX17_leans_20 : decode cX17_leans 20 = .ok (.ifCond .le 18, 3) := dk_158 0 18 (dk_at dksX17_leans_0 20 rfl rfl)
theorem dX17_leans_23 : decode cX17_leans 23 = .ok (.aload_n 0, 1) := dk_42 (dk_at dksX17_leans_0 23 rfl rfl)
theorem dX17_leans_24 : decode cX17_leans 24 = .ok (.invokevirtual 54, 3) := dk_182 0 54 (dk_at dksX17_leans_1 0 rfl rfl)
theorem dX17_leans_27 : decode cX17_leans 27 = .ok (.aload_n 0, 1) := dk_42 (dk_at dksX17_leans_1 3 rfl rfl)
theorem dX17_leans_28 : decode cX17_leans 28 = .ok (.invokevirtual 44, 3) := dk_182 0 44 (dk_at dksX17_leans_1 4 rfl rfl)
theorem dX17_leans_31 : decode cX17_leans 31 = .ok (.if_icmp .ge 7, 3) := dk_162 0 7 (dk_at dksX17_leans_1 7 rfl rfl)
theorem dX17_leans_34 : decode cX17_leans 34 = .ok (.iconst 1, 1) := dk_4 (dk_at dksX17_leans_1 10 rfl rfl)
theorem dX17_leans_35 : decode cX17_leans 35 = .ok (.goto 4, 3) := dk_167 0 4 (dk_at dksX17_leans_1 11 rfl rfl)
theorem dX17_leans_38 : decode cX17_leans 38 = .ok (.iconst 0, 1) := dk_3 (dk_at dksX17_leans_1 14 rfl rfl)
theorem dX17_leans_39 : decode cX17_leans 39 = .ok (.ireturn, 1) := dk_172 (dk_at dksX17_leans_1 15 rfl rfl)
abbrev cX17_count : ByteArray := prog_6_method_6_code
def yX17_count : MethodName := ⟨RX17, "count", "([IIIJ[J)V"⟩
def dkwX17_count_6 : List UInt8 := [132, 13, 1, 167, 255, 226, 132, 8, 1, 167, 255, 116, 132, 7, 1, 167, 255, 101, 177]
abbrev dktX17_count_6 : List UInt8 := dkwX17_count_6 ++ []
def dkwX17_count_5 : List UInt8 := [190, 162, 0, 28, 25, 6, 21, 13, 92, 47, 22, 9, 22, 4, 105, 25, 12, 21, 13, 47, 105, 97, 80]
abbrev dktX17_count_5 : List UInt8 := dkwX17_count_5 ++ dktX17_count_6
def dkwX17_count_4 : List UInt8 := [29, 92, 46, 4, 96, 79, 42, 180, 0, 40, 25, 11, 182, 0, 61, 58, 12, 3, 54, 13, 21, 13, 25, 12]
abbrev dktX17_count_4 : List UInt8 := dkwX17_count_4 ++ dktX17_count_5
def dkwX17_count_3 : List UInt8 := [89, 4, 21, 8, 79, 89, 5, 28, 21, 7, 100, 21, 8, 100, 79, 58, 11, 29, 2, 159, 0, 11, 25, 11]
abbrev dktX17_count_3 : List UInt8 := dkwX17_count_3 ++ dktX17_count_4
def dkwX17_count_2 : List UInt8 := [184, 0, 57, 105, 55, 9, 22, 9, 9, 148, 154, 0, 6, 167, 0, 88, 6, 188, 10, 89, 3, 21, 7, 79]
abbrev dktX17_count_2 : List UInt8 := dkwX17_count_2 ++ dktX17_count_3
def dkwX17_count_1 : List UInt8 := [21, 7, 184, 0, 57, 43, 4, 46, 21, 8, 184, 0, 57, 105, 43, 5, 46, 28, 21, 7, 100, 21, 8, 100]
abbrev dktX17_count_1 : List UInt8 := dkwX17_count_1 ++ dktX17_count_2
def dkwX17_count_0 : List UInt8 := [3, 54, 7, 21, 7, 28, 163, 0, 155, 3, 54, 8, 21, 7, 21, 8, 96, 28, 163, 0, 137, 43, 3, 46]
abbrev dktX17_count_0 : List UInt8 := dkwX17_count_0 ++ dktX17_count_1
theorem dksX17_count_0 : cX17_count.data.toList.drop 0 = dktX17_count_0 := by decide +kernel
theorem dksX17_count_1 : cX17_count.data.toList.drop 24 = dktX17_count_1 := dk_seg dksX17_count_0 24 rfl rfl
theorem dksX17_count_2 : cX17_count.data.toList.drop 48 = dktX17_count_2 := dk_seg dksX17_count_1 24 rfl rfl
theorem dksX17_count_3 : cX17_count.data.toList.drop 72 = dktX17_count_3 := dk_seg dksX17_count_2 24 rfl rfl
theorem dksX17_count_4 : cX17_count.data.toList.drop 96 = dktX17_count_4 := dk_seg dksX17_count_3 24 rfl rfl
theorem dksX17_count_5 : cX17_count.data.toList.drop 120 = dktX17_count_5 := dk_seg dksX17_count_4 24 rfl rfl
theorem dksX17_count_6 : cX17_count.data.toList.drop 143 = dktX17_count_6 := dk_seg dksX17_count_5 23 rfl rfl
theorem dX17_count_0 : decode cX17_count 0 = .ok (.iconst 0, 1) := dk_3 (dk_at dksX17_count_0 0 rfl rfl)
theorem dX17_count_1 : decode cX17_count 1 = .ok (.istore 7, 2) := dk_54 7 (dk_at dksX17_count_0 1 rfl rfl)
theorem dX17_count_3 : decode cX17_count 3 = .ok (.iload 7, 2) := dk_21 7 (dk_at dksX17_count_0 3 rfl rfl)
theorem dX17_count_5 : decode cX17_count 5 = .ok (.iload_n 2, 1) := dk_28 (dk_at dksX17_count_0 5 rfl rfl)
theorem dX17_count_6 : decode cX17_count 6 = .ok (.if_icmp .gt 155, 3) := dk_163 0 155 (dk_at dksX17_count_0 6 rfl rfl)
theorem dX17_count_9 : decode cX17_count 9 = .ok (.iconst 0, 1) := dk_3 (dk_at dksX17_count_0 9 rfl rfl)
theorem dX17_count_10 : decode cX17_count 10 = .ok (.istore 8, 2) := dk_54 8 (dk_at dksX17_count_0 10 rfl rfl)
theorem dX17_count_12 : decode cX17_count 12 = .ok (.iload 7, 2) := dk_21 7 (dk_at dksX17_count_0 12 rfl rfl)
theorem dX17_count_14 : decode cX17_count 14 = .ok (.iload 8, 2) := dk_21 8 (dk_at dksX17_count_0 14 rfl rfl)
theorem dX17_count_16 : decode cX17_count 16 = .ok (.iadd, 1) := dk_96 (dk_at dksX17_count_0 16 rfl rfl)
theorem dX17_count_17 : decode cX17_count 17 = .ok (.iload_n 2, 1) := dk_28 (dk_at dksX17_count_0 17 rfl rfl)
theorem dX17_count_18 : decode cX17_count 18 = .ok (.if_icmp .gt 137, 3) := dk_163 0 137 (dk_at dksX17_count_0 18 rfl rfl)
theorem dX17_count_21 : decode cX17_count 21 = .ok (.aload_n 1, 1) := dk_43 (dk_at dksX17_count_0 21 rfl rfl)
theorem dX17_count_22 : decode cX17_count 22 = .ok (.iconst 0, 1) := dk_3 (dk_at dksX17_count_0 22 rfl rfl)
theorem dX17_count_23 : decode cX17_count 23 = .ok (.iaload, 1) := dk_46 (dk_at dksX17_count_0 23 rfl rfl)
theorem dX17_count_24 : decode cX17_count 24 = .ok (.iload 7, 2) := dk_21 7 (dk_at dksX17_count_1 0 rfl rfl)
theorem dX17_count_26 : decode cX17_count 26 = .ok (.invokestatic 57, 3) := dk_184 0 57 (dk_at dksX17_count_1 2 rfl rfl)
theorem dX17_count_29 : decode cX17_count 29 = .ok (.aload_n 1, 1) := dk_43 (dk_at dksX17_count_1 5 rfl rfl)
theorem dX17_count_30 : decode cX17_count 30 = .ok (.iconst 1, 1) := dk_4 (dk_at dksX17_count_1 6 rfl rfl)
theorem dX17_count_31 : decode cX17_count 31 = .ok (.iaload, 1) := dk_46 (dk_at dksX17_count_1 7 rfl rfl)
theorem dX17_count_32 : decode cX17_count 32 = .ok (.iload 8, 2) := dk_21 8 (dk_at dksX17_count_1 8 rfl rfl)
theorem dX17_count_34 : decode cX17_count 34 = .ok (.invokestatic 57, 3) := dk_184 0 57 (dk_at dksX17_count_1 10 rfl rfl)
theorem dX17_count_37 : decode cX17_count 37 = .ok (.lmul, 1) := dk_105 (dk_at dksX17_count_1 13 rfl rfl)
theorem dX17_count_38 : decode cX17_count 38 = .ok (.aload_n 1, 1) := dk_43 (dk_at dksX17_count_1 14 rfl rfl)
theorem dX17_count_39 : decode cX17_count 39 = .ok (.iconst 2, 1) := dk_5 (dk_at dksX17_count_1 15 rfl rfl)
theorem dX17_count_40 : decode cX17_count 40 = .ok (.iaload, 1) := dk_46 (dk_at dksX17_count_1 16 rfl rfl)
theorem dX17_count_41 : decode cX17_count 41 = .ok (.iload_n 2, 1) := dk_28 (dk_at dksX17_count_1 17 rfl rfl)
theorem dX17_count_42 : decode cX17_count 42 = .ok (.iload 7, 2) := dk_21 7 (dk_at dksX17_count_1 18 rfl rfl)
theorem dX17_count_44 : decode cX17_count 44 = .ok (.isub, 1) := dk_100 (dk_at dksX17_count_1 20 rfl rfl)
theorem dX17_count_45 : decode cX17_count 45 = .ok (.iload 8, 2) := dk_21 8 (dk_at dksX17_count_1 21 rfl rfl)
theorem dX17_count_47 : decode cX17_count 47 = .ok (.isub, 1) := dk_100 (dk_at dksX17_count_1 23 rfl rfl)
theorem dX17_count_48 : decode cX17_count 48 = .ok (.invokestatic 57, 3) := dk_184 0 57 (dk_at dksX17_count_2 0 rfl rfl)
theorem dX17_count_51 : decode cX17_count 51 = .ok (.lmul, 1) := dk_105 (dk_at dksX17_count_2 3 rfl rfl)
theorem dX17_count_52 : decode cX17_count 52 = .ok (.lstore 9, 2) := dk_55 9 (dk_at dksX17_count_2 4 rfl rfl)
theorem dX17_count_54 : decode cX17_count 54 = .ok (.lload 9, 2) := dk_22 9 (dk_at dksX17_count_2 6 rfl rfl)
theorem dX17_count_56 : decode cX17_count 56 = .ok (.lconst 0, 1) := dk_9 (dk_at dksX17_count_2 8 rfl rfl)
theorem dX17_count_57 : decode cX17_count 57 = .ok (.lcmp, 1) := dk_148 (dk_at dksX17_count_2 9 rfl rfl)
theorem dX17_count_58 : decode cX17_count 58 = .ok (.ifCond .ne 6, 3) := dk_154 0 6 (dk_at dksX17_count_2 10 rfl rfl)
theorem dX17_count_61 : decode cX17_count 61 = .ok (.goto 88, 3) := dk_167 0 88 (dk_at dksX17_count_2 13 rfl rfl)
theorem dX17_count_64 : decode cX17_count 64 = .ok (.iconst 3, 1) := dk_6 (dk_at dksX17_count_2 16 rfl rfl)
theorem dX17_count_65 : decode cX17_count 65 = .ok (.newarray .int, 2) := dk_188_10 (dk_at dksX17_count_2 17 rfl rfl)
theorem dX17_count_67 : decode cX17_count 67 = .ok (.dup, 1) := dk_89 (dk_at dksX17_count_2 19 rfl rfl)
theorem dX17_count_68 : decode cX17_count 68 = .ok (.iconst 0, 1) := dk_3 (dk_at dksX17_count_2 20 rfl rfl)
theorem dX17_count_69 : decode cX17_count 69 = .ok (.iload 7, 2) := dk_21 7 (dk_at dksX17_count_2 21 rfl rfl)
theorem dX17_count_71 : decode cX17_count 71 = .ok (.iastore, 1) := dk_79 (dk_at dksX17_count_2 23 rfl rfl)
theorem dX17_count_72 : decode cX17_count 72 = .ok (.dup, 1) := dk_89 (dk_at dksX17_count_3 0 rfl rfl)
theorem dX17_count_73 : decode cX17_count 73 = .ok (.iconst 1, 1) := dk_4 (dk_at dksX17_count_3 1 rfl rfl)
theorem dX17_count_74 : decode cX17_count 74 = .ok (.iload 8, 2) := dk_21 8 (dk_at dksX17_count_3 2 rfl rfl)
theorem dX17_count_76 : decode cX17_count 76 = .ok (.iastore, 1) := dk_79 (dk_at dksX17_count_3 4 rfl rfl)
theorem dX17_count_77 : decode cX17_count 77 = .ok (.dup, 1) := dk_89 (dk_at dksX17_count_3 5 rfl rfl)
theorem dX17_count_78 : decode cX17_count 78 = .ok (.iconst 2, 1) := dk_5 (dk_at dksX17_count_3 6 rfl rfl)
theorem dX17_count_79 : decode cX17_count 79 = .ok (.iload_n 2, 1) := dk_28 (dk_at dksX17_count_3 7 rfl rfl)
theorem dX17_count_80 : decode cX17_count 80 = .ok (.iload 7, 2) := dk_21 7 (dk_at dksX17_count_3 8 rfl rfl)
theorem dX17_count_82 : decode cX17_count 82 = .ok (.isub, 1) := dk_100 (dk_at dksX17_count_3 10 rfl rfl)
theorem dX17_count_83 : decode cX17_count 83 = .ok (.iload 8, 2) := dk_21 8 (dk_at dksX17_count_3 11 rfl rfl)
theorem dX17_count_85 : decode cX17_count 85 = .ok (.isub, 1) := dk_100 (dk_at dksX17_count_3 13 rfl rfl)
theorem dX17_count_86 : decode cX17_count 86 = .ok (.iastore, 1) := dk_79 (dk_at dksX17_count_3 14 rfl rfl)
theorem dX17_count_87 : decode cX17_count 87 = .ok (.astore 11, 2) := dk_58 11 (dk_at dksX17_count_3 15 rfl rfl)
theorem dX17_count_89 : decode cX17_count 89 = .ok (.iload_n 3, 1) := dk_29 (dk_at dksX17_count_3 17 rfl rfl)
theorem dX17_count_90 : decode cX17_count 90 = .ok (.iconst (-1), 1) := dk_2 (dk_at dksX17_count_3 18 rfl rfl)
theorem dX17_count_91 : decode cX17_count 91 = .ok (.if_icmp .eq 11, 3) := dk_159 0 11 (dk_at dksX17_count_3 19 rfl rfl)
theorem dX17_count_94 : decode cX17_count 94 = .ok (.aload 11, 2) := dk_25 11 (dk_at dksX17_count_3 22 rfl rfl)
theorem dX17_count_96 : decode cX17_count 96 = .ok (.iload_n 3, 1) := dk_29 (dk_at dksX17_count_4 0 rfl rfl)
theorem dX17_count_97 : decode cX17_count 97 = .ok (.dup2, 1) := dk_92 (dk_at dksX17_count_4 1 rfl rfl)
theorem dX17_count_98 : decode cX17_count 98 = .ok (.iaload, 1) := dk_46 (dk_at dksX17_count_4 2 rfl rfl)
theorem dX17_count_99 : decode cX17_count 99 = .ok (.iconst 1, 1) := dk_4 (dk_at dksX17_count_4 3 rfl rfl)
theorem dX17_count_100 : decode cX17_count 100 = .ok (.iadd, 1) := dk_96 (dk_at dksX17_count_4 4 rfl rfl)
theorem dX17_count_101 : decode cX17_count 101 = .ok (.iastore, 1) := dk_79 (dk_at dksX17_count_4 5 rfl rfl)
theorem dX17_count_102 : decode cX17_count 102 = .ok (.aload_n 0, 1) := dk_42 (dk_at dksX17_count_4 6 rfl rfl)
theorem dX17_count_103 : decode cX17_count 103 = .ok (.getfield 40, 3) := dk_180 0 40 (dk_at dksX17_count_4 7 rfl rfl)
theorem dX17_count_106 : decode cX17_count 106 = .ok (.aload 11, 2) := dk_25 11 (dk_at dksX17_count_4 10 rfl rfl)
theorem dX17_count_108 : decode cX17_count 108 = .ok (.invokevirtual 61, 3) := dk_182 0 61 (dk_at dksX17_count_4 12 rfl rfl)
theorem dX17_count_111 : decode cX17_count 111 = .ok (.astore 12, 2) := dk_58 12 (dk_at dksX17_count_4 15 rfl rfl)
theorem dX17_count_113 : decode cX17_count 113 = .ok (.iconst 0, 1) := dk_3 (dk_at dksX17_count_4 17 rfl rfl)
theorem dX17_count_114 : decode cX17_count 114 = .ok (.istore 13, 2) := dk_54 13 (dk_at dksX17_count_4 18 rfl rfl)
theorem dX17_count_116 : decode cX17_count 116 = .ok (.iload 13, 2) := dk_21 13 (dk_at dksX17_count_4 20 rfl rfl)
theorem dX17_count_118 : decode cX17_count 118 = .ok (.aload 12, 2) := dk_25 12 (dk_at dksX17_count_4 22 rfl rfl)
theorem dX17_count_120 : decode cX17_count 120 = .ok (.arraylength, 1) := dk_190 (dk_at dksX17_count_5 0 rfl rfl)
theorem dX17_count_121 : decode cX17_count 121 = .ok (.if_icmp .ge 28, 3) := dk_162 0 28 (dk_at dksX17_count_5 1 rfl rfl)
theorem dX17_count_124 : decode cX17_count 124 = .ok (.aload 6, 2) := dk_25 6 (dk_at dksX17_count_5 4 rfl rfl)
theorem dX17_count_126 : decode cX17_count 126 = .ok (.iload 13, 2) := dk_21 13 (dk_at dksX17_count_5 6 rfl rfl)
theorem dX17_count_128 : decode cX17_count 128 = .ok (.dup2, 1) := dk_92 (dk_at dksX17_count_5 8 rfl rfl)
theorem dX17_count_129 : decode cX17_count 129 = .ok (.laload, 1) := dk_47 (dk_at dksX17_count_5 9 rfl rfl)
theorem dX17_count_130 : decode cX17_count 130 = .ok (.lload 9, 2) := dk_22 9 (dk_at dksX17_count_5 10 rfl rfl)
theorem dX17_count_132 : decode cX17_count 132 = .ok (.lload 4, 2) := dk_22 4 (dk_at dksX17_count_5 12 rfl rfl)
theorem dX17_count_134 : decode cX17_count 134 = .ok (.lmul, 1) := dk_105 (dk_at dksX17_count_5 14 rfl rfl)
theorem dX17_count_135 : decode cX17_count 135 = .ok (.aload 12, 2) := dk_25 12 (dk_at dksX17_count_5 15 rfl rfl)
theorem dX17_count_137 : decode cX17_count 137 = .ok (.iload 13, 2) := dk_21 13 (dk_at dksX17_count_5 17 rfl rfl)
theorem dX17_count_139 : decode cX17_count 139 = .ok (.laload, 1) := dk_47 (dk_at dksX17_count_5 19 rfl rfl)
theorem dX17_count_140 : decode cX17_count 140 = .ok (.lmul, 1) := dk_105 (dk_at dksX17_count_5 20 rfl rfl)
theorem dX17_count_141 : decode cX17_count 141 = .ok (.ladd, 1) := dk_97 (dk_at dksX17_count_5 21 rfl rfl)
theorem dX17_count_142 : decode cX17_count 142 = .ok (.lastore, 1) := dk_80 (dk_at dksX17_count_5 22 rfl rfl)
theorem dX17_count_143 : decode cX17_count 143 = .ok (.iinc 13 1, 3) := dk_132 13 1 (dk_at dksX17_count_6 0 rfl rfl)
theorem dX17_count_146 : decode cX17_count 146 = .ok (.goto (-30), 3) := dk_167 255 226 (dk_at dksX17_count_6 3 rfl rfl)
theorem dX17_count_149 : decode cX17_count 149 = .ok (.iinc 8 1, 3) := dk_132 8 1 (dk_at dksX17_count_6 6 rfl rfl)
theorem dX17_count_152 : decode cX17_count 152 = .ok (.goto (-140), 3) := dk_167 255 116 (dk_at dksX17_count_6 9 rfl rfl)
theorem dX17_count_155 : decode cX17_count 155 = .ok (.iinc 7 1, 3) := dk_132 7 1 (dk_at dksX17_count_6 12 rfl rfl)
theorem dX17_count_158 : decode cX17_count 158 = .ok (.goto (-155), 3) := dk_167 255 101 (dk_at dksX17_count_6 15 rfl rfl)
theorem dX17_count_161 : decode cX17_count 161 = .ok (.return_, 1) := dk_177 (dk_at dksX17_count_6 18 rfl rfl)
abbrev cX17_passes : ByteArray := prog_6_method_8_code
def yX17_passes : MethodName := ⟨RX17, "passes", "([JI)J"⟩
def dkwX17_passes_1 : List UInt8 := [132, 5, 1, 167, 255, 234, 33, 173]
abbrev dktX17_passes_1 : List UInt8 := dkwX17_passes_1 ++ []
def dkwX17_passes_0 : List UInt8 := [9, 66, 28, 54, 5, 21, 5, 42, 180, 0, 40, 180, 0, 65, 163, 0, 16, 33, 43, 21, 5, 47, 97, 66]
abbrev dktX17_passes_0 : List UInt8 := dkwX17_passes_0 ++ dktX17_passes_1
theorem dksX17_passes_0 : cX17_passes.data.toList.drop 0 = dktX17_passes_0 := by decide +kernel
theorem dksX17_passes_1 : cX17_passes.data.toList.drop 24 = dktX17_passes_1 := dk_seg dksX17_passes_0 24 rfl rfl
theorem dX17_passes_0 : decode cX17_passes 0 = .ok (.lconst 0, 1) := dk_9 (dk_at dksX17_passes_0 0 rfl rfl)
theorem dX17_passes_1 : decode cX17_passes 1 = .ok (.lstore_n 3, 1) := dk_66 (dk_at dksX17_passes_0 1 rfl rfl)
theorem dX17_passes_2 : decode cX17_passes 2 = .ok (.iload_n 2, 1) := dk_28 (dk_at dksX17_passes_0 2 rfl rfl)
theorem dX17_passes_3 : decode cX17_passes 3 = .ok (.istore 5, 2) := dk_54 5 (dk_at dksX17_passes_0 3 rfl rfl)
theorem dX17_passes_5 : decode cX17_passes 5 = .ok (.iload 5, 2) := dk_21 5 (dk_at dksX17_passes_0 5 rfl rfl)
theorem dX17_passes_7 : decode cX17_passes 7 = .ok (.aload_n 0, 1) := dk_42 (dk_at dksX17_passes_0 7 rfl rfl)
theorem dX17_passes_8 : decode cX17_passes 8 = .ok (.getfield 40, 3) := dk_180 0 40 (dk_at dksX17_passes_0 8 rfl rfl)
theorem dX17_passes_11 : decode cX17_passes 11 = .ok (.getfield 65, 3) := dk_180 0 65 (dk_at dksX17_passes_0 11 rfl rfl)
theorem dX17_passes_14 : decode cX17_passes 14 = .ok (.if_icmp .gt 16, 3) := dk_163 0 16 (dk_at dksX17_passes_0 14 rfl rfl)
theorem dX17_passes_17 : decode cX17_passes 17 = .ok (.lload_n 3, 1) := dk_33 (dk_at dksX17_passes_0 17 rfl rfl)
theorem dX17_passes_18 : decode cX17_passes 18 = .ok (.aload_n 1, 1) := dk_43 (dk_at dksX17_passes_0 18 rfl rfl)
theorem dX17_passes_19 : decode cX17_passes 19 = .ok (.iload 5, 2) := dk_21 5 (dk_at dksX17_passes_0 19 rfl rfl)
theorem dX17_passes_21 : decode cX17_passes 21 = .ok (.laload, 1) := dk_47 (dk_at dksX17_passes_0 21 rfl rfl)
theorem dX17_passes_22 : decode cX17_passes 22 = .ok (.ladd, 1) := dk_97 (dk_at dksX17_passes_0 22 rfl rfl)
theorem dX17_passes_23 : decode cX17_passes 23 = .ok (.lstore_n 3, 1) := dk_66 (dk_at dksX17_passes_0 23 rfl rfl)
theorem dX17_passes_24 : decode cX17_passes 24 = .ok (.iinc 5 1, 3) := dk_132 5 1 (dk_at dksX17_passes_1 0 rfl rfl)
theorem dX17_passes_27 : decode cX17_passes 27 = .ok (.goto (-22), 3) := dk_167 255 234 (dk_at dksX17_passes_1 3 rfl rfl)
theorem dX17_passes_30 : decode cX17_passes 30 = .ok (.lload_n 3, 1) := dk_33 (dk_at dksX17_passes_1 6 rfl rfl)
theorem dX17_passes_31 : decode cX17_passes 31 = .ok (.lreturn, 1) := dk_173 (dk_at dksX17_passes_1 7 rfl rfl)
theorem q155 : (Jvm.Cond.initialized "ExamSlips$Bowl") ∈ lw_all := lw_g (lw_at lw_m1 32 rfl) rfl
theorem q220 : (Jvm.Cond.fieldLinkNest "ExamSlips$Bowl" (32 : Nat) "ExamSlips$Exam" "terms" "[I" "ExamSlips") ∈ lw_tbl := lw_at lw_m1 97 rfl
theorem q289 : (Jvm.Cond.fieldLinkNest "ExamSlips$Bowl" (28 : Nat) "ExamSlips" "exam" "LExamSlips$Exam;" "ExamSlips") ∈ lw_tbl := lw_at lw_m1 166 rfl
theorem q447 : (Jvm.Cond.selects "ExamSlips$Bowl" ({ cls := "java/lang/Object", name := "getClass", desc := "()Ljava/lang/Class;" } : Jvm.MethodName) ({ cls := "java/lang/Object", name := "getClass", desc := "()Ljava/lang/Class;" } : Jvm.MethodName)) ∈ lw_all := lw_g (lw_at lw_m2 84 rfl) rfl
theorem q998 : (Jvm.Cond.instantiable "ExamSlips$Bowl" (4 : Nat)) ∈ lw_all := lw_g (lw_at lw_m4 155 rfl) rfl
theorem q1000 : (Jvm.Cond.instanceMethod ({ cls := "ExamSlips$Bowl", name := "<init>", desc := "(LExamSlips;)V" } : Jvm.MethodName)) ∈ lw_all := lw_g (lw_at lw_m4 157 rfl) rfl
theorem q1001 : (Jvm.Cond.code ({ cls := "ExamSlips$Bowl", name := "<init>", desc := "(LExamSlips;)V" } : Jvm.MethodName) prog_6_method_1_code (2 : Nat) (Option.none : Option Jvm.ClassFile.FieldType)) ∈ lw_all := lw_g (lw_at lw_m4 158 rfl) rfl
theorem q1002 : (Jvm.Cond.methodLink "ExamSlips$Bowl" (9 : Nat) ({ cls := "java/lang/Object", name := "<init>", desc := "()V" } : Jvm.MethodName)) ∈ lw_all := lw_g (lw_at lw_m4 159 rfl) rfl
theorem q1003 : (Jvm.Cond.classLink "ExamSlips$Bowl" (22 : Nat) "ExamSlips$Answers") ∈ lw_all := lw_g (lw_at lw_m4 160 rfl) rfl
theorem q1005 : (Jvm.Cond.methodLinkNest "ExamSlips$Bowl" (24 : Nat) ({ cls := "ExamSlips", name := "chances", desc := "()[I" } : Jvm.MethodName) "ExamSlips") ∈ lw_tbl := lw_at lw_m4 162 rfl
theorem q1010 : (Jvm.Cond.methodLink "ExamSlips$Bowl" (37 : Nat) ({ cls := "ExamSlips$Answers", name := "<init>", desc := "([II)V" } : Jvm.MethodName)) ∈ lw_all := lw_g (lw_at lw_m4 167 rfl) rfl
theorem q1017 : (Jvm.Cond.fieldLinkNest "ExamSlips$Bowl" (65 : Nat) "ExamSlips$Answers" "most" "I" "ExamSlips") ∈ lw_tbl := lw_at lw_m4 174 rfl
theorem q1024 : (Jvm.Cond.fieldLink "ExamSlips$Bowl" (15 : Nat) "ExamSlips$Bowl" "all" "[I") ∈ lw_all := lw_g (lw_at lw_m4 181 rfl) rfl
theorem q1025 : (Jvm.Cond.fieldLink "ExamSlips$Bowl" (19 : Nat) "ExamSlips$Bowl" "liked" "[I") ∈ lw_all := lw_g (lw_at lw_m4 182 rfl) rfl
theorem q1026 : (Jvm.Cond.fieldLink "ExamSlips$Bowl" (40 : Nat) "ExamSlips$Bowl" "answers" "LExamSlips$Answers;") ∈ lw_all := lw_g (lw_at lw_m4 183 rfl) rfl
theorem q1028 : (Jvm.Cond.fieldLink "ExamSlips$Bowl" (3 : Nat) "ExamSlips$Bowl" "this$0" "LExamSlips;") ∈ lw_all := lw_g (lw_at lw_m4 185 rfl) rfl
theorem q1029 : (Jvm.Cond.laysFinal "ExamSlips$Bowl" "ExamSlips$Bowl" "all" "[I") ∈ lw_all := lw_g (lw_at lw_m4 186 rfl) rfl
theorem q1030 : (Jvm.Cond.soleField "ExamSlips$Bowl" "all") ∈ lw_all := lw_g (lw_at lw_m4 187 rfl) rfl
theorem q1031 : (Jvm.Cond.laysFinal "ExamSlips$Bowl" "ExamSlips$Bowl" "liked" "[I") ∈ lw_all := lw_g (lw_at lw_m4 188 rfl) rfl
theorem q1032 : (Jvm.Cond.soleField "ExamSlips$Bowl" "liked") ∈ lw_all := lw_g (lw_at lw_m4 189 rfl) rfl
theorem q1033 : (Jvm.Cond.laysFinal "ExamSlips$Bowl" "ExamSlips$Bowl" "answers" "LExamSlips$Answers;") ∈ lw_all := lw_g (lw_at lw_m4 190 rfl) rfl
theorem q1034 : (Jvm.Cond.soleField "ExamSlips$Bowl" "answers") ∈ lw_all := lw_g (lw_at lw_m4 191 rfl) rfl
theorem q1035 : (Jvm.Cond.laysFinal "ExamSlips$Bowl" "ExamSlips$Bowl" "this$0" "LExamSlips;") ∈ lw_all := lw_g (lw_at lw_m4 192 rfl) rfl
theorem q1036 : (Jvm.Cond.soleField "ExamSlips$Bowl" "this$0") ∈ lw_all := lw_g (lw_at lw_m4 193 rfl) rfl
theorem q1037 : (Jvm.Cond.superclass "ExamSlips$Bowl" "java/lang/Object") ∈ lw_all := lw_g (lw_at lw_m4 194 rfl) rfl
theorem q1039 : (Jvm.Cond.instanceMethod ({ cls := "ExamSlips$Bowl", name := "add", desc := "(IZ)V" } : Jvm.MethodName)) ∈ lw_all := lw_g (lw_at lw_m4 196 rfl) rfl
theorem q1040 : (Jvm.Cond.selects "ExamSlips$Bowl" ({ cls := "ExamSlips$Bowl", name := "add", desc := "(IZ)V" } : Jvm.MethodName) ({ cls := "ExamSlips$Bowl", name := "add", desc := "(IZ)V" } : Jvm.MethodName)) ∈ lw_all := lw_g (lw_at lw_m4 197 rfl) rfl
theorem q1041 : (Jvm.Cond.code ({ cls := "ExamSlips$Bowl", name := "add", desc := "(IZ)V" } : Jvm.MethodName) prog_6_method_2_code (3 : Nat) (Option.none : Option Jvm.ClassFile.FieldType)) ∈ lw_all := lw_g (lw_at lw_m4 198 rfl) rfl
theorem q1043 : (Jvm.Cond.instanceMethod ({ cls := "ExamSlips$Bowl", name := "pass", desc := "(I)LExamSlips$Share;" } : Jvm.MethodName)) ∈ lw_all := lw_g (lw_at lw_m4 200 rfl) rfl
theorem q1044 : (Jvm.Cond.selects "ExamSlips$Bowl" ({ cls := "ExamSlips$Bowl", name := "pass", desc := "(I)LExamSlips$Share;" } : Jvm.MethodName) ({ cls := "ExamSlips$Bowl", name := "pass", desc := "(I)LExamSlips$Share;" } : Jvm.MethodName)) ∈ lw_all := lw_g (lw_at lw_m4 201 rfl) rfl
theorem q1045 : (Jvm.Cond.code ({ cls := "ExamSlips$Bowl", name := "pass", desc := "(I)LExamSlips$Share;" } : Jvm.MethodName) prog_6_method_9_code (3 : Nat) (Option.some (Jvm.ClassFile.FieldType.object "ExamSlips$Share"))) ∈ lw_all := lw_g (lw_at lw_m4 202 rfl) rfl
theorem q1046 : (Jvm.Cond.methodLink "ExamSlips$Bowl" (77 : Nat) ({ cls := "ExamSlips$Bowl", name := "ways", desc := "(I)[J" } : Jvm.MethodName)) ∈ lw_all := lw_g (lw_at lw_m4 203 rfl) rfl
theorem q1047 : (Jvm.Cond.instanceMethod ({ cls := "ExamSlips$Bowl", name := "ways", desc := "(I)[J" } : Jvm.MethodName)) ∈ lw_all := lw_g (lw_at lw_m4 204 rfl) rfl
theorem q1048 : (Jvm.Cond.selects "ExamSlips$Bowl" ({ cls := "ExamSlips$Bowl", name := "ways", desc := "(I)[J" } : Jvm.MethodName) ({ cls := "ExamSlips$Bowl", name := "ways", desc := "(I)[J" } : Jvm.MethodName)) ∈ lw_all := lw_g (lw_at lw_m4 205 rfl) rfl
theorem q1049 : (Jvm.Cond.code ({ cls := "ExamSlips$Bowl", name := "ways", desc := "(I)[J" } : Jvm.MethodName) prog_6_method_7_code (8 : Nat) (Option.some (Jvm.ClassFile.FieldType.array Jvm.ClassFile.FieldType.long))) ∈ lw_all := lw_g (lw_at lw_m4 206 rfl) rfl
theorem q1050 : (Jvm.Cond.methodLink "ExamSlips$Bowl" (44 : Nat) ({ cls := "ExamSlips$Bowl", name := "size", desc := "()I" } : Jvm.MethodName)) ∈ lw_all := lw_g (lw_at lw_m4 207 rfl) rfl
theorem q1051 : (Jvm.Cond.instanceMethod ({ cls := "ExamSlips$Bowl", name := "size", desc := "()I" } : Jvm.MethodName)) ∈ lw_all := lw_g (lw_at lw_m4 208 rfl) rfl
theorem q1052 : (Jvm.Cond.selects "ExamSlips$Bowl" ({ cls := "ExamSlips$Bowl", name := "size", desc := "()I" } : Jvm.MethodName) ({ cls := "ExamSlips$Bowl", name := "size", desc := "()I" } : Jvm.MethodName)) ∈ lw_all := lw_g (lw_at lw_m4 209 rfl) rfl
theorem q1053 : (Jvm.Cond.code ({ cls := "ExamSlips$Bowl", name := "size", desc := "()I" } : Jvm.MethodName) prog_6_method_3_code (1 : Nat) (Option.some Jvm.ClassFile.FieldType.int)) ∈ lw_all := lw_g (lw_at lw_m4 210 rfl) rfl
theorem q1054 : (Jvm.Cond.methodLink "ExamSlips$Bowl" (54 : Nat) ({ cls := "ExamSlips$Bowl", name := "lying", desc := "()I" } : Jvm.MethodName)) ∈ lw_all := lw_g (lw_at lw_m4 211 rfl) rfl
theorem q1055 : (Jvm.Cond.instanceMethod ({ cls := "ExamSlips$Bowl", name := "lying", desc := "()I" } : Jvm.MethodName)) ∈ lw_all := lw_g (lw_at lw_m4 212 rfl) rfl
theorem q1056 : (Jvm.Cond.selects "ExamSlips$Bowl" ({ cls := "ExamSlips$Bowl", name := "lying", desc := "()I" } : Jvm.MethodName) ({ cls := "ExamSlips$Bowl", name := "lying", desc := "()I" } : Jvm.MethodName)) ∈ lw_all := lw_g (lw_at lw_m4 213 rfl) rfl
theorem q1057 : (Jvm.Cond.code ({ cls := "ExamSlips$Bowl", name := "lying", desc := "()I" } : Jvm.MethodName) prog_6_method_4_code (1 : Nat) (Option.some Jvm.ClassFile.FieldType.int)) ∈ lw_all := lw_g (lw_at lw_m4 214 rfl) rfl
theorem q1058 : (Jvm.Cond.methodLink "ExamSlips$Bowl" (48 : Nat) ({ cls := "java/lang/Math", name := "min", desc := "(II)I" } : Jvm.MethodName)) ∈ lw_all := lw_g (lw_at lw_m4 215 rfl) rfl
theorem q1059 : (Jvm.Cond.methodLink "ExamSlips$Bowl" (69 : Nat) ({ cls := "ExamSlips$Bowl", name := "leans", desc := "()Z" } : Jvm.MethodName)) ∈ lw_all := lw_g (lw_at lw_m4 216 rfl) rfl
theorem q1060 : (Jvm.Cond.privateMethod ({ cls := "ExamSlips$Bowl", name := "leans", desc := "()Z" } : Jvm.MethodName)) ∈ lw_tbl := lw_at lw_m4 217 rfl
theorem q1061 : (Jvm.Cond.instanceMethod ({ cls := "ExamSlips$Bowl", name := "leans", desc := "()Z" } : Jvm.MethodName)) ∈ lw_all := lw_g (lw_at lw_m4 218 rfl) rfl
theorem q1062 : (Jvm.Cond.code ({ cls := "ExamSlips$Bowl", name := "leans", desc := "()Z" } : Jvm.MethodName) prog_6_method_5_code (1 : Nat) (Option.some Jvm.ClassFile.FieldType.boolean)) ∈ lw_all := lw_g (lw_at lw_m4 219 rfl) rfl
theorem q1063 : (Jvm.Cond.methodLink "ExamSlips$Bowl" (73 : Nat) ({ cls := "ExamSlips$Bowl", name := "count", desc := "([IIIJ[J)V" } : Jvm.MethodName)) ∈ lw_all := lw_g (lw_at lw_m4 220 rfl) rfl
theorem q1064 : (Jvm.Cond.privateMethod ({ cls := "ExamSlips$Bowl", name := "count", desc := "([IIIJ[J)V" } : Jvm.MethodName)) ∈ lw_tbl := lw_at lw_m4 221 rfl
theorem q1065 : (Jvm.Cond.instanceMethod ({ cls := "ExamSlips$Bowl", name := "count", desc := "([IIIJ[J)V" } : Jvm.MethodName)) ∈ lw_all := lw_g (lw_at lw_m4 222 rfl) rfl
theorem q1066 : (Jvm.Cond.code ({ cls := "ExamSlips$Bowl", name := "count", desc := "([IIIJ[J)V" } : Jvm.MethodName) prog_6_method_6_code (14 : Nat) (Option.none : Option Jvm.ClassFile.FieldType)) ∈ lw_all := lw_g (lw_at lw_m4 223 rfl) rfl
theorem q1067 : (Jvm.Cond.methodLinkNest "ExamSlips$Bowl" (57 : Nat) ({ cls := "ExamSlips", name := "over", desc := "(II)J" } : Jvm.MethodName) "ExamSlips") ∈ lw_tbl := lw_at lw_m4 224 rfl
theorem q1070 : (Jvm.Cond.methodLink "ExamSlips$Bowl" (61 : Nat) ({ cls := "ExamSlips$Answers", name := "of", desc := "([I)[J" } : Jvm.MethodName)) ∈ lw_all := lw_g (lw_at lw_m4 227 rfl) rfl
theorem q1078 : (Jvm.Cond.classLink "ExamSlips$Bowl" (81 : Nat) "ExamSlips$Share") ∈ lw_all := lw_g (lw_at lw_m4 235 rfl) rfl
theorem q1080 : (Jvm.Cond.methodLink "ExamSlips$Bowl" (83 : Nat) ({ cls := "ExamSlips$Bowl", name := "passes", desc := "([JI)J" } : Jvm.MethodName)) ∈ lw_all := lw_g (lw_at lw_m4 237 rfl) rfl
theorem q1081 : (Jvm.Cond.instanceMethod ({ cls := "ExamSlips$Bowl", name := "passes", desc := "([JI)J" } : Jvm.MethodName)) ∈ lw_all := lw_g (lw_at lw_m4 238 rfl) rfl
theorem q1082 : (Jvm.Cond.selects "ExamSlips$Bowl" ({ cls := "ExamSlips$Bowl", name := "passes", desc := "([JI)J" } : Jvm.MethodName) ({ cls := "ExamSlips$Bowl", name := "passes", desc := "([JI)J" } : Jvm.MethodName)) ∈ lw_all := lw_g (lw_at lw_m4 239 rfl) rfl
theorem q1083 : (Jvm.Cond.code ({ cls := "ExamSlips$Bowl", name := "passes", desc := "([JI)J" } : Jvm.MethodName) prog_6_method_8_code (6 : Nat) (Option.some Jvm.ClassFile.FieldType.long)) ∈ lw_all := lw_g (lw_at lw_m5 0 rfl) rfl
theorem q1084 : (Jvm.Cond.methodLink "ExamSlips$Bowl" (87 : Nat) ({ cls := "ExamSlips$Share", name := "<init>", desc := "(JJ)V" } : Jvm.MethodName)) ∈ lw_all := lw_g (lw_at lw_m5 1 rfl) rfl
theorem q2391 : (Jvm.Cond.castable "ExamSlips$Bowl" "java/lang/Object") ∈ lw_tbl := lw_at lw_m10 108 rfl
theorem in_X17 : ∀ w ∈ wsX170, w ∈ lw_all := lw_in wsX170 [1029, 1031, 1033, 1035] (by decide +kernel) (by decide +kernel)

/-! ExamSlips$Answers -/
set_option maxRecDepth 100000
def RX18 : String := "ExamSlips$Answers"
def TX18 : u_T := fun k => match k with
  | 0 => ("ExamSlips$Answers", "chances", "[I", true)
  | _ => ("ExamSlips$Answers", "most", "I", true)
def tyX18 : Nat → FieldType := fun k => match k with
  | 0 => .array .int
  | _ => .int
abbrev wsX180 : List Cond := u_ws RX18 TX18 2
theorem nmX18 : ∀ a, a < 2 → ∀ b, b < 2 → a ≠ b → (TX18 a).2.1 ≠ (TX18 b).2.1 := by decide +kernel
theorem tyX18_ok : ∀ k, k < 2 → parseFieldDescriptor (TX18 k).2.2.1 = some (tyX18 k) := by decide +kernel
abbrev cX18_init : ByteArray := prog_3_method_1_code
def yX18_init : MethodName := ⟨RX18, "<init>", "([II)V"⟩
def dkwX18_init_0 : List UInt8 := [42, 183, 0, 3, 42, 43, 181, 0, 9, 42, 28, 181, 0, 15, 177]
abbrev dktX18_init_0 : List UInt8 := dkwX18_init_0 ++ []
theorem dksX18_init_0 : cX18_init.data.toList.drop 0 = dktX18_init_0 := by decide +kernel
theorem dX18_init_0 : decode cX18_init 0 = .ok (.aload_n 0, 1) := dk_42 (dk_at dksX18_init_0 0 rfl rfl)
theorem dX18_init_1 : decode cX18_init 1 = .ok (.invokespecial 3, 3) := dk_183 0 3 (dk_at dksX18_init_0 1 rfl rfl)
theorem dX18_init_4 : decode cX18_init 4 = .ok (.aload_n 0, 1) := dk_42 (dk_at dksX18_init_0 4 rfl rfl)
theorem dX18_init_5 : decode cX18_init 5 = .ok (.aload_n 1, 1) := dk_43 (dk_at dksX18_init_0 5 rfl rfl)
theorem dX18_init_6 : decode cX18_init 6 = .ok (.putfield 9, 3) := dk_181 0 9 (dk_at dksX18_init_0 6 rfl rfl)
theorem dX18_init_9 : decode cX18_init 9 = .ok (.aload_n 0, 1) := dk_42 (dk_at dksX18_init_0 9 rfl rfl)
theorem dX18_init_10 : decode cX18_init 10 = .ok (.iload_n 2, 1) := dk_28 (dk_at dksX18_init_0 10 rfl rfl)
theorem dX18_init_11 : decode cX18_init 11 = .ok (.putfield 15, 3) := dk_181 0 15 (dk_at dksX18_init_0 11 rfl rfl)
theorem dX18_init_14 : decode cX18_init 14 = .ok (.return_, 1) := dk_177 (dk_at dksX18_init_0 14 rfl rfl)
abbrev cX18_of : ByteArray := prog_3_method_3_code
def yX18_of : MethodName := ⟨RX18, "of", "([I)[J"⟩
def dkwX18_of_7 : List UInt8 := [167, 255, 129, 44, 176]
abbrev dktX18_of_7 : List UInt8 := dkwX18_of_7 ++ []
def dkwX18_of_6 : List UInt8 := [180, 0, 9, 21, 5, 46, 133, 105, 167, 0, 4, 9, 97, 80, 132, 6, 255, 167, 255, 171, 132, 4, 1]
abbrev dktX18_of_6 : List UInt8 := dkwX18_of_6 ++ dktX18_of_7
def dkwX18_of_5 : List UInt8 := [21, 6, 22, 7, 21, 6, 158, 0, 27, 21, 5, 2, 159, 0, 21, 44, 21, 6, 4, 100, 47, 42]
abbrev dktX18_of_5 : List UInt8 := dkwX18_of_5 ++ dktX18_of_6
def dkwX18_of_4 : List UInt8 := [16, 100, 167, 0, 13, 16, 100, 42, 180, 0, 9, 21, 5, 46, 100, 133, 105, 167, 0, 4, 9, 55, 7, 44]
abbrev dktX18_of_4 : List UInt8 := dkwX18_of_4 ++ dktX18_of_5
def dkwX18_of_3 : List UInt8 := [54, 6, 21, 6, 155, 0, 86, 21, 6, 21, 4, 163, 0, 33, 44, 21, 6, 47, 21, 5, 2, 160, 0, 8]
abbrev dktX18_of_3 : List UInt8 := dkwX18_of_3 ++ dktX18_of_4
def dkwX18_of_2 : List UInt8 := [45, 182, 0, 19, 54, 5, 21, 5, 2, 159, 0, 11, 45, 21, 5, 92, 46, 4, 100, 79, 21, 4, 4, 96]
abbrev dktX18_of_2 : List UInt8 := dkwX18_of_2 ++ dktX18_of_3
def dkwX18_of_1 : List UInt8 := [43, 4, 46, 79, 89, 5, 43, 5, 46, 79, 78, 3, 54, 4, 21, 4, 42, 180, 0, 15, 162, 0, 124, 42]
abbrev dktX18_of_1 : List UInt8 := dkwX18_of_1 ++ dktX18_of_2
def dkwX18_of_0 : List UInt8 := [42, 180, 0, 15, 4, 96, 188, 11, 77, 44, 3, 10, 80, 6, 188, 10, 89, 3, 43, 3, 46, 79, 89, 4]
abbrev dktX18_of_0 : List UInt8 := dkwX18_of_0 ++ dktX18_of_1
theorem dksX18_of_0 : cX18_of.data.toList.drop 0 = dktX18_of_0 := by decide +kernel
theorem dksX18_of_1 : cX18_of.data.toList.drop 24 = dktX18_of_1 := dk_seg dksX18_of_0 24 rfl rfl
theorem dksX18_of_2 : cX18_of.data.toList.drop 48 = dktX18_of_2 := dk_seg dksX18_of_1 24 rfl rfl
theorem dksX18_of_3 : cX18_of.data.toList.drop 72 = dktX18_of_3 := dk_seg dksX18_of_2 24 rfl rfl
theorem dksX18_of_4 : cX18_of.data.toList.drop 96 = dktX18_of_4 := dk_seg dksX18_of_3 24 rfl rfl
theorem dksX18_of_5 : cX18_of.data.toList.drop 120 = dktX18_of_5 := dk_seg dksX18_of_4 24 rfl rfl
theorem dksX18_of_6 : cX18_of.data.toList.drop 142 = dktX18_of_6 := dk_seg dksX18_of_5 22 rfl rfl
theorem dksX18_of_7 : cX18_of.data.toList.drop 165 = dktX18_of_7 := dk_seg dksX18_of_6 23 rfl rfl
theorem dX18_of_0 : decode cX18_of 0 = .ok (.aload_n 0, 1) := dk_42 (dk_at dksX18_of_0 0 rfl rfl)
theorem dX18_of_1 : decode cX18_of 1 = .ok (.getfield 15, 3) := dk_180 0 15 (dk_at dksX18_of_0 1 rfl rfl)
theorem dX18_of_4 : decode cX18_of 4 = .ok (.iconst 1, 1) := dk_4 (dk_at dksX18_of_0 4 rfl rfl)
theorem dX18_of_5 : decode cX18_of 5 = .ok (.iadd, 1) := dk_96 (dk_at dksX18_of_0 5 rfl rfl)
theorem dX18_of_6 : decode cX18_of 6 = .ok (.newarray .long, 2) := dk_188_11 (dk_at dksX18_of_0 6 rfl rfl)
theorem dX18_of_8 : decode cX18_of 8 = .ok (.astore_n 2, 1) := dk_77 (dk_at dksX18_of_0 8 rfl rfl)
theorem dX18_of_9 : decode cX18_of 9 = .ok (.aload_n 2, 1) := dk_44 (dk_at dksX18_of_0 9 rfl rfl)
theorem dX18_of_10 : decode cX18_of 10 = .ok (.iconst 0, 1) := dk_3 (dk_at dksX18_of_0 10 rfl rfl)
theorem dX18_of_11 : decode cX18_of 11 = .ok (.lconst 1, 1) := dk_10 (dk_at dksX18_of_0 11 rfl rfl)
theorem dX18_of_12 : decode cX18_of 12 = .ok (.lastore, 1) := dk_80 (dk_at dksX18_of_0 12 rfl rfl)
theorem dX18_of_13 : decode cX18_of 13 = .ok (.iconst 3, 1) := dk_6 (dk_at dksX18_of_0 13 rfl rfl)
theorem dX18_of_14 : decode cX18_of 14 = .ok (.newarray .int, 2) := dk_188_10 (dk_at dksX18_of_0 14 rfl rfl)
theorem dX18_of_16 : decode cX18_of 16 = .ok (.dup, 1) := dk_89 (dk_at dksX18_of_0 16 rfl rfl)
theorem dX18_of_17 : decode cX18_of 17 = .ok (.iconst 0, 1) := dk_3 (dk_at dksX18_of_0 17 rfl rfl)
theorem dX18_of_18 : decode cX18_of 18 = .ok (.aload_n 1, 1) := dk_43 (dk_at dksX18_of_0 18 rfl rfl)
theorem dX18_of_19 : decode cX18_of 19 = .ok (.iconst 0, 1) := dk_3 (dk_at dksX18_of_0 19 rfl rfl)
theorem dX18_of_20 : decode cX18_of 20 = .ok (.iaload, 1) := dk_46 (dk_at dksX18_of_0 20 rfl rfl)
theorem dX18_of_21 : decode cX18_of 21 = .ok (.iastore, 1) := dk_79 (dk_at dksX18_of_0 21 rfl rfl)
theorem dX18_of_22 : decode cX18_of 22 = .ok (.dup, 1) := dk_89 (dk_at dksX18_of_0 22 rfl rfl)
theorem dX18_of_23 : decode cX18_of 23 = .ok (.iconst 1, 1) := dk_4 (dk_at dksX18_of_0 23 rfl rfl)
theorem dX18_of_24 : decode cX18_of 24 = .ok (.aload_n 1, 1) := dk_43 (dk_at dksX18_of_1 0 rfl rfl)
theorem dX18_of_25 : decode cX18_of 25 = .ok (.iconst 1, 1) := dk_4 (dk_at dksX18_of_1 1 rfl rfl)
theorem dX18_of_26 : decode cX18_of 26 = .ok (.iaload, 1) := dk_46 (dk_at dksX18_of_1 2 rfl rfl)
theorem dX18_of_27 : decode cX18_of 27 = .ok (.iastore, 1) := dk_79 (dk_at dksX18_of_1 3 rfl rfl)
theorem dX18_of_28 : decode cX18_of 28 = .ok (.dup, 1) := dk_89 (dk_at dksX18_of_1 4 rfl rfl)
theorem dX18_of_29 : decode cX18_of 29 = .ok (.iconst 2, 1) := dk_5 (dk_at dksX18_of_1 5 rfl rfl)
theorem dX18_of_30 : decode cX18_of 30 = .ok (.aload_n 1, 1) := dk_43 (dk_at dksX18_of_1 6 rfl rfl)
theorem dX18_of_31 : decode cX18_of 31 = .ok (.iconst 2, 1) := dk_5 (dk_at dksX18_of_1 7 rfl rfl)
theorem dX18_of_32 : decode cX18_of 32 = .ok (.iaload, 1) := dk_46 (dk_at dksX18_of_1 8 rfl rfl)
theorem dX18_of_33 : decode cX18_of 33 = .ok (.iastore, 1) := dk_79 (dk_at dksX18_of_1 9 rfl rfl)
theorem dX18_of_34 : decode cX18_of 34 = .ok (.astore_n 3, 1) := dk_78 (dk_at dksX18_of_1 10 rfl rfl)
theorem dX18_of_35 : decode cX18_of 35 = .ok (.iconst 0, 1) := dk_3 (dk_at dksX18_of_1 11 rfl rfl)
theorem dX18_of_36 : decode cX18_of 36 = .ok (.istore 4, 2) := dk_54 4 (dk_at dksX18_of_1 12 rfl rfl)
theorem dX18_of_38 : decode cX18_of 38 = .ok (.iload 4, 2) := dk_21 4 (dk_at dksX18_of_1 14 rfl rfl)
theorem dX18_of_40 : decode cX18_of 40 = .ok (.aload_n 0, 1) := dk_42 (dk_at dksX18_of_1 16 rfl rfl)
theorem dX18_of_41 : decode cX18_of 41 = .ok (.getfield 15, 3) := dk_180 0 15 (dk_at dksX18_of_1 17 rfl rfl)
theorem dX18_of_44 : decode cX18_of 44 = .ok (.if_icmp .ge 124, 3) := dk_162 0 124 (dk_at dksX18_of_1 20 rfl rfl)
theorem dX18_of_47 : decode cX18_of 47 = .ok (.aload_n 0, 1) := dk_42 (dk_at dksX18_of_1 23 rfl rfl)
theorem dX18_of_48 : decode cX18_of 48 = .ok (.aload_n 3, 1) := dk_45 (dk_at dksX18_of_2 0 rfl rfl)
theorem dX18_of_49 : decode cX18_of 49 = .ok (.invokevirtual 19, 3) := dk_182 0 19 (dk_at dksX18_of_2 1 rfl rfl)
theorem dX18_of_52 : decode cX18_of 52 = .ok (.istore 5, 2) := dk_54 5 (dk_at dksX18_of_2 4 rfl rfl)
theorem dX18_of_54 : decode cX18_of 54 = .ok (.iload 5, 2) := dk_21 5 (dk_at dksX18_of_2 6 rfl rfl)
theorem dX18_of_56 : decode cX18_of 56 = .ok (.iconst (-1), 1) := dk_2 (dk_at dksX18_of_2 8 rfl rfl)
theorem dX18_of_57 : decode cX18_of 57 = .ok (.if_icmp .eq 11, 3) := dk_159 0 11 (dk_at dksX18_of_2 9 rfl rfl)
theorem dX18_of_60 : decode cX18_of 60 = .ok (.aload_n 3, 1) := dk_45 (dk_at dksX18_of_2 12 rfl rfl)
theorem dX18_of_61 : decode cX18_of 61 = .ok (.iload 5, 2) := dk_21 5 (dk_at dksX18_of_2 13 rfl rfl)
theorem dX18_of_63 : decode cX18_of 63 = .ok (.dup2, 1) := dk_92 (dk_at dksX18_of_2 15 rfl rfl)
theorem dX18_of_64 : decode cX18_of 64 = .ok (.iaload, 1) := dk_46 (dk_at dksX18_of_2 16 rfl rfl)
theorem dX18_of_65 : decode cX18_of 65 = .ok (.iconst 1, 1) := dk_4 (dk_at dksX18_of_2 17 rfl rfl)
theorem dX18_of_66 : decode cX18_of 66 = .ok (.isub, 1) := dk_100 (dk_at dksX18_of_2 18 rfl rfl)
theorem dX18_of_67 : decode cX18_of 67 = .ok (.iastore, 1) := dk_79 (dk_at dksX18_of_2 19 rfl rfl)
theorem dX18_of_68 : decode cX18_of 68 = .ok (.iload 4, 2) := dk_21 4 (dk_at dksX18_of_2 20 rfl rfl)
theorem dX18_of_70 : decode cX18_of 70 = .ok (.iconst 1, 1) := dk_4 (dk_at dksX18_of_2 22 rfl rfl)
theorem dX18_of_71 : decode cX18_of 71 = .ok (.iadd, 1) := dk_96 (dk_at dksX18_of_2 23 rfl rfl)
theorem dX18_of_72 : decode cX18_of 72 = .ok (.istore 6, 2) := dk_54 6 (dk_at dksX18_of_3 0 rfl rfl)
theorem dX18_of_74 : decode cX18_of 74 = .ok (.iload 6, 2) := dk_21 6 (dk_at dksX18_of_3 2 rfl rfl)
theorem dX18_of_76 : decode cX18_of 76 = .ok (.ifCond .lt 86, 3) := dk_155 0 86 (dk_at dksX18_of_3 4 rfl rfl)
theorem dX18_of_79 : decode cX18_of 79 = .ok (.iload 6, 2) := dk_21 6 (dk_at dksX18_of_3 7 rfl rfl)
theorem dX18_of_81 : decode cX18_of 81 = .ok (.iload 4, 2) := dk_21 4 (dk_at dksX18_of_3 9 rfl rfl)
theorem dX18_of_83 : decode cX18_of 83 = .ok (.if_icmp .gt 33, 3) := dk_163 0 33 (dk_at dksX18_of_3 11 rfl rfl)
theorem dX18_of_86 : decode cX18_of 86 = .ok (.aload_n 2, 1) := dk_44 (dk_at dksX18_of_3 14 rfl rfl)
theorem dX18_of_87 : decode cX18_of 87 = .ok (.iload 6, 2) := dk_21 6 (dk_at dksX18_of_3 15 rfl rfl)
theorem dX18_of_89 : decode cX18_of 89 = .ok (.laload, 1) := dk_47 (dk_at dksX18_of_3 17 rfl rfl)
theorem dX18_of_90 : decode cX18_of 90 = .ok (.iload 5, 2) := dk_21 5 (dk_at dksX18_of_3 18 rfl rfl)
theorem dX18_of_92 : decode cX18_of 92 = .ok (.iconst (-1), 1) := dk_2 (dk_at dksX18_of_3 20 rfl rfl)
theorem dX18_of_93 : decode cX18_of 93 = .ok (.if_icmp .ne 8, 3) := dk_160 0 8 (dk_at dksX18_of_3 21 rfl rfl)
theorem dX18_of_96 : decode cX18_of 96 = .ok (.bipush 100, 2) := dk_16 100 (dk_at dksX18_of_4 0 rfl rfl)
theorem dX18_of_98 : decode cX18_of 98 = .ok (.goto 13, 3) := dk_167 0 13 (dk_at dksX18_of_4 2 rfl rfl)
theorem dX18_of_101 : decode cX18_of 101 = .ok (.bipush 100, 2) := dk_16 100 (dk_at dksX18_of_4 5 rfl rfl)
theorem dX18_of_103 : decode cX18_of 103 = .ok (.aload_n 0, 1) := dk_42 (dk_at dksX18_of_4 7 rfl rfl)
theorem dX18_of_104 : decode cX18_of 104 = .ok (.getfield 9, 3) := dk_180 0 9 (dk_at dksX18_of_4 8 rfl rfl)
theorem dX18_of_107 : decode cX18_of 107 = .ok (.iload 5, 2) := dk_21 5 (dk_at dksX18_of_4 11 rfl rfl)
theorem dX18_of_109 : decode cX18_of 109 = .ok (.iaload, 1) := dk_46 (dk_at dksX18_of_4 13 rfl rfl)
theorem dX18_of_110 : decode cX18_of 110 = .ok (.isub, 1) := dk_100 (dk_at dksX18_of_4 14 rfl rfl)
theorem dX18_of_111 : decode cX18_of 111 = .ok (.i2l, 1) := dk_133 (dk_at dksX18_of_4 15 rfl rfl)
theorem dX18_of_112 : decode cX18_of 112 = .ok (.lmul, 1) := dk_105 (dk_at dksX18_of_4 16 rfl rfl)
theorem dX18_of_113 : decode cX18_of 113 = .ok (.goto 4, 3) := dk_167 0 4 (dk_at dksX18_of_4 17 rfl rfl)
theorem dX18_of_116 : decode cX18_of 116 = .ok (.lconst 0, 1) := dk_9 (dk_at dksX18_of_4 20 rfl rfl)
theorem dX18_of_117 : decode cX18_of 117 = .ok (.lstore 7, 2) := dk_55 7 (dk_at dksX18_of_4 21 rfl rfl)
theorem dX18_of_119 : decode cX18_of 119 = .ok (.aload_n 2, 1) := dk_44 (dk_at dksX18_of_4 23 rfl rfl)
theorem dX18_of_120 : decode cX18_of 120 = .ok (.iload 6, 2) := dk_21 6 (dk_at dksX18_of_5 0 rfl rfl)
theorem dX18_of_122 : decode cX18_of 122 = .ok (.lload 7, 2) := dk_22 7 (dk_at dksX18_of_5 2 rfl rfl)
theorem dX18_of_124 : decode cX18_of 124 = .ok (.iload 6, 2) := dk_21 6 (dk_at dksX18_of_5 4 rfl rfl)
theorem dX18_of_126 : decode cX18_of 126 = .ok (.ifCond .le 27, 3) := dk_158 0 27 (dk_at dksX18_of_5 6 rfl rfl)
theorem dX18_of_129 : decode cX18_of 129 = .ok (.iload 5, 2) := dk_21 5 (dk_at dksX18_of_5 9 rfl rfl)
theorem dX18_of_131 : decode cX18_of 131 = .ok (.iconst (-1), 1) := dk_2 (dk_at dksX18_of_5 11 rfl rfl)
theorem dX18_of_132 : decode cX18_of 132 = .ok (.if_icmp .eq 21, 3) := dk_159 0 21 (dk_at dksX18_of_5 12 rfl rfl)
theorem dX18_of_135 : decode cX18_of 135 = .ok (.aload_n 2, 1) := dk_44 (dk_at dksX18_of_5 15 rfl rfl)
theorem dX18_of_136 : decode cX18_of 136 = .ok (.iload 6, 2) := dk_21 6 (dk_at dksX18_of_5 16 rfl rfl)
theorem dX18_of_138 : decode cX18_of 138 = .ok (.iconst 1, 1) := dk_4 (dk_at dksX18_of_5 18 rfl rfl)
theorem dX18_of_139 : decode cX18_of 139 = .ok (.isub, 1) := dk_100 (dk_at dksX18_of_5 19 rfl rfl)
theorem dX18_of_140 : decode cX18_of 140 = .ok (.laload, 1) := dk_47 (dk_at dksX18_of_5 20 rfl rfl)
theorem dX18_of_141 : decode cX18_of 141 = .ok (.aload_n 0, 1) := dk_42 (dk_at dksX18_of_5 21 rfl rfl)
theorem dX18_of_142 : decode cX18_of 142 = .ok (.getfield 9, 3) := dk_180 0 9 (dk_at dksX18_of_6 0 rfl rfl)
theorem dX18_of_145 : decode cX18_of 145 = .ok (.iload 5, 2) := dk_21 5 (dk_at dksX18_of_6 3 rfl rfl)
theorem dX18_of_147 : decode cX18_of 147 = .ok (.iaload, 1) := dk_46 (dk_at dksX18_of_6 5 rfl rfl)
theorem dX18_of_148 : decode cX18_of 148 = .ok (.i2l, 1) := dk_133 (dk_at dksX18_of_6 6 rfl rfl)
theorem dX18_of_149 : decode cX18_of 149 = .ok (.lmul, 1) := dk_105 (dk_at dksX18_of_6 7 rfl rfl)
theorem dX18_of_150 : decode cX18_of 150 = .ok (.goto 4, 3) := dk_167 0 4 (dk_at dksX18_of_6 8 rfl rfl)
theorem dX18_of_153 : decode cX18_of 153 = .ok (.lconst 0, 1) := dk_9 (dk_at dksX18_of_6 11 rfl rfl)
theorem dX18_of_154 : decode cX18_of 154 = .ok (.ladd, 1) := dk_97 (dk_at dksX18_of_6 12 rfl rfl)
theorem dX18_of_155 : decode cX18_of 155 = .ok (.lastore, 1) := dk_80 (dk_at dksX18_of_6 13 rfl rfl)
theorem dX18_of_156 : decode cX18_of 156 = .ok (.iinc 6 (-1), 3) := dk_132 6 255 (dk_at dksX18_of_6 14 rfl rfl)
theorem dX18_of_159 : decode cX18_of 159 = .ok (.goto (-85), 3) := dk_167 255 171 (dk_at dksX18_of_6 17 rfl rfl)
theorem dX18_of_162 : decode cX18_of 162 = .ok (.iinc 4 1, 3) := dk_132 4 1 (dk_at dksX18_of_6 20 rfl rfl)
theorem dX18_of_165 : decode cX18_of 165 = .ok (.goto (-127), 3) := dk_167 255 129 (dk_at dksX18_of_7 0 rfl rfl)
theorem dX18_of_168 : decode cX18_of 168 = .ok (.aload_n 2, 1) := dk_44 (dk_at dksX18_of_7 3 rfl rfl)
theorem dX18_of_169 : decode cX18_of 169 = .ok (.areturn, 1) := dk_176 (dk_at dksX18_of_7 4 rfl rfl)
abbrev cX18_greatest : ByteArray := prog_3_method_2_code
def yX18_greatest : MethodName := ⟨RX18, "greatest", "([I)I"⟩
def dkwX18_greatest_1 : List UInt8 := [29, 46, 42, 180, 0, 9, 28, 46, 164, 0, 5, 29, 61, 132, 3, 1, 167, 255, 220, 28, 172]
abbrev dktX18_greatest_1 : List UInt8 := dkwX18_greatest_1 ++ []
def dkwX18_greatest_0 : List UInt8 := [2, 61, 3, 62, 29, 6, 162, 0, 37, 43, 29, 46, 158, 0, 25, 28, 2, 159, 0, 18, 42, 180, 0, 9]
abbrev dktX18_greatest_0 : List UInt8 := dkwX18_greatest_0 ++ dktX18_greatest_1
theorem dksX18_greatest_0 : cX18_greatest.data.toList.drop 0 = dktX18_greatest_0 := by decide +kernel
theorem dksX18_greatest_1 : cX18_greatest.data.toList.drop 24 = dktX18_greatest_1 := dk_seg dksX18_greatest_0 24 rfl rfl
theorem dX18_greatest_0 : decode cX18_greatest 0 = .ok (.iconst (-1), 1) := dk_2 (dk_at dksX18_greatest_0 0 rfl rfl)
theorem dX18_greatest_1 : decode cX18_greatest 1 = .ok (.istore_n 2, 1) := dk_61 (dk_at dksX18_greatest_0 1 rfl rfl)
theorem dX18_greatest_2 : decode cX18_greatest 2 = .ok (.iconst 0, 1) := dk_3 (dk_at dksX18_greatest_0 2 rfl rfl)
theorem dX18_greatest_3 : decode cX18_greatest 3 = .ok (.istore_n 3, 1) := dk_62 (dk_at dksX18_greatest_0 3 rfl rfl)
theorem dX18_greatest_4 : decode cX18_greatest 4 = .ok (.iload_n 3, 1) := dk_29 (dk_at dksX18_greatest_0 4 rfl rfl)
theorem dX18_greatest_5 : decode cX18_greatest 5 = .ok (.iconst 3, 1) := dk_6 (dk_at dksX18_greatest_0 5 rfl rfl)
theorem dX18_greatest_6 : decode cX18_greatest 6 = .ok (.if_icmp .ge 37, 3) := dk_162 0 37 (dk_at dksX18_greatest_0 6 rfl rfl)
theorem dX18_greatest_9 : decode cX18_greatest 9 = .ok (.aload_n 1, 1) := dk_43 (dk_at dksX18_greatest_0 9 rfl rfl)
theorem dX18_greatest_10 : decode cX18_greatest 10 = .ok (.iload_n 3, 1) := dk_29 (dk_at dksX18_greatest_0 10 rfl rfl)
theorem dX18_greatest_11 : decode cX18_greatest 11 = .ok (.iaload, 1) := dk_46 (dk_at dksX18_greatest_0 11 rfl rfl)
theorem dX18_greatest_12 : decode cX18_greatest 12 = .ok (.ifCond .le 25, 3) := dk_158 0 25 (dk_at dksX18_greatest_0 12 rfl rfl)
theorem dX18_greatest_15 : decode cX18_greatest 15 = .ok (.iload_n 2, 1) := dk_28 (dk_at dksX18_greatest_0 15 rfl rfl)
theorem dX18_greatest_16 : decode cX18_greatest 16 = .ok (.iconst (-1), 1) := dk_2 (dk_at dksX18_greatest_0 16 rfl rfl)
theorem dX18_greatest_17 : decode cX18_greatest 17 = .ok (.if_icmp .eq 18, 3) := dk_159 0 18 (dk_at dksX18_greatest_0 17 rfl rfl)
theorem dX18_greatest_20 : decode cX18_greatest 20 = .ok (.aload_n 0, 1) := dk_42 (dk_at dksX18_greatest_0 20 rfl rfl)
theorem dX18_greatest_21 : decode cX18_greatest 21 = .ok (.getfield 9, 3) := dk_180 0 9 (dk_at dksX18_greatest_0 21 rfl rfl)
theorem dX18_greatest_24 : decode cX18_greatest 24 = .ok (.iload_n 3, 1) := dk_29 (dk_at dksX18_greatest_1 0 rfl rfl)
theorem dX18_greatest_25 : decode cX18_greatest 25 = .ok (.iaload, 1) := dk_46 (dk_at dksX18_greatest_1 1 rfl rfl)
theorem dX18_greatest_26 : decode cX18_greatest 26 = .ok (.aload_n 0, 1) := dk_42 (dk_at dksX18_greatest_1 2 rfl rfl)
theorem dX18_greatest_27 : decode cX18_greatest 27 = .ok (.getfield 9, 3) := dk_180 0 9 (dk_at dksX18_greatest_1 3 rfl rfl)
theorem dX18_greatest_30 : decode cX18_greatest 30 = .ok (.iload_n 2, 1) := dk_28 (dk_at dksX18_greatest_1 6 rfl rfl)
theorem dX18_greatest_31 : decode cX18_greatest 31 = .ok (.iaload, 1) := dk_46 (dk_at dksX18_greatest_1 7 rfl rfl)
theorem dX18_greatest_32 : decode cX18_greatest 32 = .ok (.if_icmp .le 5, 3) := dk_164 0 5 (dk_at dksX18_greatest_1 8 rfl rfl)
theorem dX18_greatest_35 : decode cX18_greatest 35 = .ok (.iload_n 3, 1) := dk_29 (dk_at dksX18_greatest_1 11 rfl rfl)
theorem dX18_greatest_36 : decode cX18_greatest 36 = .ok (.istore_n 2, 1) := dk_61 (dk_at dksX18_greatest_1 12 rfl rfl)
theorem dX18_greatest_37 : decode cX18_greatest 37 = .ok (.iinc 3 1, 3) := dk_132 3 1 (dk_at dksX18_greatest_1 13 rfl rfl)
theorem dX18_greatest_40 : decode cX18_greatest 40 = .ok (.goto (-36), 3) := dk_167 255 220 (dk_at dksX18_greatest_1 16 rfl rfl)
theorem dX18_greatest_43 : decode cX18_greatest 43 = .ok (.iload_n 2, 1) := dk_28 (dk_at dksX18_greatest_1 19 rfl rfl)
theorem dX18_greatest_44 : decode cX18_greatest 44 = .ok (.ireturn, 1) := dk_172 (dk_at dksX18_greatest_1 20 rfl rfl)
theorem q156 : (Jvm.Cond.initialized "ExamSlips$Answers") ∈ lw_all := lw_g (lw_at lw_m1 33 rfl) rfl
theorem q444 : (Jvm.Cond.selects "ExamSlips$Answers" ({ cls := "java/lang/Object", name := "getClass", desc := "()Ljava/lang/Class;" } : Jvm.MethodName) ({ cls := "java/lang/Object", name := "getClass", desc := "()Ljava/lang/Class;" } : Jvm.MethodName)) ∈ lw_all := lw_g (lw_at lw_m2 81 rfl) rfl
theorem q1004 : (Jvm.Cond.instantiable "ExamSlips$Answers" (2 : Nat)) ∈ lw_all := lw_g (lw_at lw_m4 161 rfl) rfl
theorem q1011 : (Jvm.Cond.instanceMethod ({ cls := "ExamSlips$Answers", name := "<init>", desc := "([II)V" } : Jvm.MethodName)) ∈ lw_all := lw_g (lw_at lw_m4 168 rfl) rfl
theorem q1012 : (Jvm.Cond.code ({ cls := "ExamSlips$Answers", name := "<init>", desc := "([II)V" } : Jvm.MethodName) prog_3_method_1_code (3 : Nat) (Option.none : Option Jvm.ClassFile.FieldType)) ∈ lw_all := lw_g (lw_at lw_m4 169 rfl) rfl
theorem q1013 : (Jvm.Cond.methodLink "ExamSlips$Answers" (3 : Nat) ({ cls := "java/lang/Object", name := "<init>", desc := "()V" } : Jvm.MethodName)) ∈ lw_all := lw_g (lw_at lw_m4 170 rfl) rfl
theorem q1014 : (Jvm.Cond.fieldLink "ExamSlips$Answers" (9 : Nat) "ExamSlips$Answers" "chances" "[I") ∈ lw_all := lw_g (lw_at lw_m4 171 rfl) rfl
theorem q1015 : (Jvm.Cond.fieldLink "ExamSlips$Answers" (15 : Nat) "ExamSlips$Answers" "most" "I") ∈ lw_all := lw_g (lw_at lw_m4 172 rfl) rfl
theorem q1019 : (Jvm.Cond.laysFinal "ExamSlips$Answers" "ExamSlips$Answers" "chances" "[I") ∈ lw_all := lw_g (lw_at lw_m4 176 rfl) rfl
theorem q1020 : (Jvm.Cond.soleField "ExamSlips$Answers" "chances") ∈ lw_all := lw_g (lw_at lw_m4 177 rfl) rfl
theorem q1021 : (Jvm.Cond.laysFinal "ExamSlips$Answers" "ExamSlips$Answers" "most" "I") ∈ lw_all := lw_g (lw_at lw_m4 178 rfl) rfl
theorem q1022 : (Jvm.Cond.soleField "ExamSlips$Answers" "most") ∈ lw_all := lw_g (lw_at lw_m4 179 rfl) rfl
theorem q1023 : (Jvm.Cond.superclass "ExamSlips$Answers" "java/lang/Object") ∈ lw_all := lw_g (lw_at lw_m4 180 rfl) rfl
theorem q1071 : (Jvm.Cond.instanceMethod ({ cls := "ExamSlips$Answers", name := "of", desc := "([I)[J" } : Jvm.MethodName)) ∈ lw_all := lw_g (lw_at lw_m4 228 rfl) rfl
theorem q1072 : (Jvm.Cond.selects "ExamSlips$Answers" ({ cls := "ExamSlips$Answers", name := "of", desc := "([I)[J" } : Jvm.MethodName) ({ cls := "ExamSlips$Answers", name := "of", desc := "([I)[J" } : Jvm.MethodName)) ∈ lw_all := lw_g (lw_at lw_m4 229 rfl) rfl
theorem q1073 : (Jvm.Cond.code ({ cls := "ExamSlips$Answers", name := "of", desc := "([I)[J" } : Jvm.MethodName) prog_3_method_3_code (9 : Nat) (Option.some (Jvm.ClassFile.FieldType.array Jvm.ClassFile.FieldType.long))) ∈ lw_all := lw_g (lw_at lw_m4 230 rfl) rfl
theorem q1074 : (Jvm.Cond.methodLink "ExamSlips$Answers" (19 : Nat) ({ cls := "ExamSlips$Answers", name := "greatest", desc := "([I)I" } : Jvm.MethodName)) ∈ lw_all := lw_g (lw_at lw_m4 231 rfl) rfl
theorem q1075 : (Jvm.Cond.privateMethod ({ cls := "ExamSlips$Answers", name := "greatest", desc := "([I)I" } : Jvm.MethodName)) ∈ lw_tbl := lw_at lw_m4 232 rfl
theorem q1076 : (Jvm.Cond.instanceMethod ({ cls := "ExamSlips$Answers", name := "greatest", desc := "([I)I" } : Jvm.MethodName)) ∈ lw_all := lw_g (lw_at lw_m4 233 rfl) rfl
theorem q1077 : (Jvm.Cond.code ({ cls := "ExamSlips$Answers", name := "greatest", desc := "([I)I" } : Jvm.MethodName) prog_3_method_2_code (4 : Nat) (Option.some Jvm.ClassFile.FieldType.int)) ∈ lw_all := lw_g (lw_at lw_m4 234 rfl) rfl
theorem q2392 : (Jvm.Cond.castable "ExamSlips$Answers" "java/lang/Object") ∈ lw_tbl := lw_at lw_m10 109 rfl
theorem in_X18 : ∀ w ∈ wsX180, w ∈ lw_all := lw_in wsX180 [1019, 1021] (by decide +kernel) (by decide +kernel)

/-! ExamSlips$Share -/
set_option maxRecDepth 100000
def RX19 : String := "ExamSlips$Share"
def TX19 : u_T := fun k => match k with
  | 0 => ("ExamSlips$Share", "upper", "J", true)
  | _ => ("ExamSlips$Share", "lower", "J", true)
def tyX19 : Nat → FieldType := fun k => match k with
  | 0 => .long
  | _ => .long
abbrev wsX190 : List Cond := u_ws RX19 TX19 2
theorem nmX19 : ∀ a, a < 2 → ∀ b, b < 2 → a ≠ b → (TX19 a).2.1 ≠ (TX19 b).2.1 := by decide +kernel
theorem tyX19_ok : ∀ k, k < 2 → parseFieldDescriptor (TX19 k).2.2.1 = some (tyX19 k) := by decide +kernel
abbrev cX19_init : ByteArray := prog_21_method_1_code
def yX19_init : MethodName := ⟨RX19, "<init>", "(JJ)V"⟩
def dkwX19_init_1 : List UInt8 := [181, 0, 19, 177]
abbrev dktX19_init_1 : List UInt8 := dkwX19_init_1 ++ []
def dkwX19_init_0 : List UInt8 := [42, 183, 0, 1, 33, 31, 184, 0, 7, 55, 5, 42, 31, 22, 5, 109, 181, 0, 13, 42, 33, 22, 5, 109]
abbrev dktX19_init_0 : List UInt8 := dkwX19_init_0 ++ dktX19_init_1
theorem dksX19_init_0 : cX19_init.data.toList.drop 0 = dktX19_init_0 := by decide +kernel
theorem dksX19_init_1 : cX19_init.data.toList.drop 24 = dktX19_init_1 := dk_seg dksX19_init_0 24 rfl rfl
theorem dX19_init_0 : decode cX19_init 0 = .ok (.aload_n 0, 1) := dk_42 (dk_at dksX19_init_0 0 rfl rfl)
theorem dX19_init_1 : decode cX19_init 1 = .ok (.invokespecial 1, 3) := dk_183 0 1 (dk_at dksX19_init_0 1 rfl rfl)
theorem dX19_init_4 : decode cX19_init 4 = .ok (.lload_n 3, 1) := dk_33 (dk_at dksX19_init_0 4 rfl rfl)
theorem dX19_init_5 : decode cX19_init 5 = .ok (.lload_n 1, 1) := dk_31 (dk_at dksX19_init_0 5 rfl rfl)
theorem dX19_init_6 : decode cX19_init 6 = .ok (.invokestatic 7, 3) := dk_184 0 7 (dk_at dksX19_init_0 6 rfl rfl)
theorem dX19_init_9 : decode cX19_init 9 = .ok (.lstore 5, 2) := dk_55 5 (dk_at dksX19_init_0 9 rfl rfl)
theorem dX19_init_11 : decode cX19_init 11 = .ok (.aload_n 0, 1) := dk_42 (dk_at dksX19_init_0 11 rfl rfl)
theorem dX19_init_12 : decode cX19_init 12 = .ok (.lload_n 1, 1) := dk_31 (dk_at dksX19_init_0 12 rfl rfl)
theorem dX19_init_13 : decode cX19_init 13 = .ok (.lload 5, 2) := dk_22 5 (dk_at dksX19_init_0 13 rfl rfl)
theorem dX19_init_15 : decode cX19_init 15 = .ok (.ldiv, 1) := dk_109 (dk_at dksX19_init_0 15 rfl rfl)
theorem dX19_init_16 : decode cX19_init 16 = .ok (.putfield 13, 3) := dk_181 0 13 (dk_at dksX19_init_0 16 rfl rfl)
theorem dX19_init_19 : decode cX19_init 19 = .ok (.aload_n 0, 1) := dk_42 (dk_at dksX19_init_0 19 rfl rfl)
theorem dX19_init_20 : decode cX19_init 20 = .ok (.lload_n 3, 1) := dk_33 (dk_at dksX19_init_0 20 rfl rfl)
theorem dX19_init_21 : decode cX19_init 21 = .ok (.lload 5, 2) := dk_22 5 (dk_at dksX19_init_0 21 rfl rfl)
theorem dX19_init_23 : decode cX19_init 23 = .ok (.ldiv, 1) := dk_109 (dk_at dksX19_init_0 23 rfl rfl)
theorem dX19_init_24 : decode cX19_init 24 = .ok (.putfield 19, 3) := dk_181 0 19 (dk_at dksX19_init_1 0 rfl rfl)
theorem dX19_init_27 : decode cX19_init 27 = .ok (.return_, 1) := dk_177 (dk_at dksX19_init_1 3 rfl rfl)
abbrev cX19_part : ByteArray := prog_21_method_2_code
def yX19_part : MethodName := ⟨RX19, "part", "(I)J"⟩
def dkwX19_part_0 : List UInt8 := [27, 154, 0, 10, 42, 180, 0, 13, 167, 0, 7, 42, 180, 0, 19, 173]
abbrev dktX19_part_0 : List UInt8 := dkwX19_part_0 ++ []
theorem dksX19_part_0 : cX19_part.data.toList.drop 0 = dktX19_part_0 := by decide +kernel
theorem dX19_part_0 : decode cX19_part 0 = .ok (.iload_n 1, 1) := dk_27 (dk_at dksX19_part_0 0 rfl rfl)
theorem dX19_part_1 : decode cX19_part 1 = .ok (.ifCond .ne 10, 3) := dk_154 0 10 (dk_at dksX19_part_0 1 rfl rfl)
theorem dX19_part_4 : decode cX19_part 4 = .ok (.aload_n 0, 1) := dk_42 (dk_at dksX19_part_0 4 rfl rfl)
theorem dX19_part_5 : decode cX19_part 5 = .ok (.getfield 13, 3) := dk_180 0 13 (dk_at dksX19_part_0 5 rfl rfl)
theorem dX19_part_8 : decode cX19_part 8 = .ok (.goto 7, 3) := dk_167 0 7 (dk_at dksX19_part_0 8 rfl rfl)
theorem dX19_part_11 : decode cX19_part 11 = .ok (.aload_n 0, 1) := dk_42 (dk_at dksX19_part_0 11 rfl rfl)
theorem dX19_part_12 : decode cX19_part 12 = .ok (.getfield 19, 3) := dk_180 0 19 (dk_at dksX19_part_0 12 rfl rfl)
theorem dX19_part_15 : decode cX19_part 15 = .ok (.lreturn, 1) := dk_173 (dk_at dksX19_part_0 15 rfl rfl)
abbrev cX19_millionths : ByteArray := prog_21_method_3_code
def yX19_millionths : MethodName := ⟨RX19, "millionths", "()I"⟩
def dkwX19_millionths_2 : List UInt8 := [96, 62, 31, 42, 180, 0, 19, 113, 64, 132, 4, 1, 167, 255, 220, 29, 172]
abbrev dktX19_millionths_2 : List UInt8 := dkwX19_millionths_2 ++ []
def dkwX19_millionths_1 : List UInt8 := [21, 4, 16, 6, 162, 0, 35, 31, 20, 0, 22, 105, 64, 16, 10, 29, 104, 31, 42, 180, 0, 19, 109, 136]
abbrev dktX19_millionths_1 : List UInt8 := dkwX19_millionths_1 ++ dktX19_millionths_2
def dkwX19_millionths_0 : List UInt8 := [42, 180, 0, 13, 42, 180, 0, 19, 113, 64, 42, 180, 0, 13, 42, 180, 0, 19, 109, 136, 62, 3, 54, 4]
abbrev dktX19_millionths_0 : List UInt8 := dkwX19_millionths_0 ++ dktX19_millionths_1
theorem dksX19_millionths_0 : cX19_millionths.data.toList.drop 0 = dktX19_millionths_0 := by decide +kernel
theorem dksX19_millionths_1 : cX19_millionths.data.toList.drop 24 = dktX19_millionths_1 := dk_seg dksX19_millionths_0 24 rfl rfl
theorem dksX19_millionths_2 : cX19_millionths.data.toList.drop 48 = dktX19_millionths_2 := dk_seg dksX19_millionths_1 24 rfl rfl
theorem dX19_millionths_0 : decode cX19_millionths 0 = .ok (.aload_n 0, 1) := dk_42 (dk_at dksX19_millionths_0 0 rfl rfl)
theorem dX19_millionths_1 : decode cX19_millionths 1 = .ok (.getfield 13, 3) := dk_180 0 13 (dk_at dksX19_millionths_0 1 rfl rfl)
theorem dX19_millionths_4 : decode cX19_millionths 4 = .ok (.aload_n 0, 1) := dk_42 (dk_at dksX19_millionths_0 4 rfl rfl)
theorem dX19_millionths_5 : decode cX19_millionths 5 = .ok (.getfield 19, 3) := dk_180 0 19 (dk_at dksX19_millionths_0 5 rfl rfl)
theorem dX19_millionths_8 : decode cX19_millionths 8 = .ok (.lrem, 1) := dk_113 (dk_at dksX19_millionths_0 8 rfl rfl)
theorem dX19_millionths_9 : decode cX19_millionths 9 = .ok (.lstore_n 1, 1) := dk_64 (dk_at dksX19_millionths_0 9 rfl rfl)
theorem dX19_millionths_10 : decode cX19_millionths 10 = .ok (.aload_n 0, 1) := dk_42 (dk_at dksX19_millionths_0 10 rfl rfl)
theorem dX19_millionths_11 : decode cX19_millionths 11 = .ok (.getfield 13, 3) := dk_180 0 13 (dk_at dksX19_millionths_0 11 rfl rfl)
theorem dX19_millionths_14 : decode cX19_millionths 14 = .ok (.aload_n 0, 1) := dk_42 (dk_at dksX19_millionths_0 14 rfl rfl)
theorem dX19_millionths_15 : decode cX19_millionths 15 = .ok (.getfield 19, 3) := dk_180 0 19 (dk_at dksX19_millionths_0 15 rfl rfl)
theorem dX19_millionths_18 : decode cX19_millionths 18 = .ok (.ldiv, 1) := dk_109 (dk_at dksX19_millionths_0 18 rfl rfl)
theorem dX19_millionths_19 : decode cX19_millionths 19 = .ok (.l2i, 1) := dk_136 (dk_at dksX19_millionths_0 19 rfl rfl)
theorem dX19_millionths_20 : decode cX19_millionths 20 = .ok (.istore_n 3, 1) := dk_62 (dk_at dksX19_millionths_0 20 rfl rfl)
theorem dX19_millionths_21 : decode cX19_millionths 21 = .ok (.iconst 0, 1) := dk_3 (dk_at dksX19_millionths_0 21 rfl rfl)
theorem dX19_millionths_22 : decode cX19_millionths 22 = .ok (.istore 4, 2) := dk_54 4 (dk_at dksX19_millionths_0 22 rfl rfl)
theorem dX19_millionths_24 : decode cX19_millionths 24 = .ok (.iload 4, 2) := dk_21 4 (dk_at dksX19_millionths_1 0 rfl rfl)
theorem dX19_millionths_26 : decode cX19_millionths 26 = .ok (.bipush 6, 2) := dk_16 6 (dk_at dksX19_millionths_1 2 rfl rfl)
theorem dX19_millionths_28 : decode cX19_millionths 28 = .ok (.if_icmp .ge 35, 3) := dk_162 0 35 (dk_at dksX19_millionths_1 4 rfl rfl)
theorem dX19_millionths_31 : decode cX19_millionths 31 = .ok (.lload_n 1, 1) := dk_31 (dk_at dksX19_millionths_1 7 rfl rfl)
theorem dX19_millionths_32 : decode cX19_millionths 32 = .ok (.ldc2_w 22, 3) := dk_20 0 22 (dk_at dksX19_millionths_1 8 rfl rfl)
theorem dX19_millionths_35 : decode cX19_millionths 35 = .ok (.lmul, 1) := dk_105 (dk_at dksX19_millionths_1 11 rfl rfl)
theorem dX19_millionths_36 : decode cX19_millionths 36 = .ok (.lstore_n 1, 1) := dk_64 (dk_at dksX19_millionths_1 12 rfl rfl)
theorem dX19_millionths_37 : decode cX19_millionths 37 = .ok (.bipush 10, 2) := dk_16 10 (dk_at dksX19_millionths_1 13 rfl rfl)
theorem dX19_millionths_39 : decode cX19_millionths 39 = .ok (.iload_n 3, 1) := dk_29 (dk_at dksX19_millionths_1 15 rfl rfl)
theorem dX19_millionths_40 : decode cX19_millionths 40 = .ok (.imul, 1) := dk_104 (dk_at dksX19_millionths_1 16 rfl rfl)
theorem dX19_millionths_41 : decode cX19_millionths 41 = .ok (.lload_n 1, 1) := dk_31 (dk_at dksX19_millionths_1 17 rfl rfl)
theorem dX19_millionths_42 : decode cX19_millionths 42 = .ok (.aload_n 0, 1) := dk_42 (dk_at dksX19_millionths_1 18 rfl rfl)
theorem dX19_millionths_43 : decode cX19_millionths 43 = .ok (.getfield 19, 3) := dk_180 0 19 (dk_at dksX19_millionths_1 19 rfl rfl)
theorem dX19_millionths_46 : decode cX19_millionths 46 = .ok (.ldiv, 1) := dk_109 (dk_at dksX19_millionths_1 22 rfl rfl)
theorem dX19_millionths_47 : decode cX19_millionths 47 = .ok (.l2i, 1) := dk_136 (dk_at dksX19_millionths_1 23 rfl rfl)
theorem dX19_millionths_48 : decode cX19_millionths 48 = .ok (.iadd, 1) := dk_96 (dk_at dksX19_millionths_2 0 rfl rfl)
theorem dX19_millionths_49 : decode cX19_millionths 49 = .ok (.istore_n 3, 1) := dk_62 (dk_at dksX19_millionths_2 1 rfl rfl)
theorem dX19_millionths_50 : decode cX19_millionths 50 = .ok (.lload_n 1, 1) := dk_31 (dk_at dksX19_millionths_2 2 rfl rfl)
theorem dX19_millionths_51 : decode cX19_millionths 51 = .ok (.aload_n 0, 1) := dk_42 (dk_at dksX19_millionths_2 3 rfl rfl)
theorem dX19_millionths_52 : decode cX19_millionths 52 = .ok (.getfield 19, 3) := dk_180 0 19 (dk_at dksX19_millionths_2 4 rfl rfl)
theorem dX19_millionths_55 : decode cX19_millionths 55 = .ok (.lrem, 1) := dk_113 (dk_at dksX19_millionths_2 7 rfl rfl)
theorem dX19_millionths_56 : decode cX19_millionths 56 = .ok (.lstore_n 1, 1) := dk_64 (dk_at dksX19_millionths_2 8 rfl rfl)
theorem dX19_millionths_57 : decode cX19_millionths 57 = .ok (.iinc 4 1, 3) := dk_132 4 1 (dk_at dksX19_millionths_2 9 rfl rfl)
theorem dX19_millionths_60 : decode cX19_millionths 60 = .ok (.goto (-36), 3) := dk_167 255 220 (dk_at dksX19_millionths_2 12 rfl rfl)
theorem dX19_millionths_63 : decode cX19_millionths 63 = .ok (.iload_n 3, 1) := dk_29 (dk_at dksX19_millionths_2 15 rfl rfl)
theorem dX19_millionths_64 : decode cX19_millionths 64 = .ok (.ireturn, 1) := dk_172 (dk_at dksX19_millionths_2 16 rfl rfl)
theorem q157 : (Jvm.Cond.initialized "ExamSlips$Share") ∈ lw_all := lw_g (lw_at lw_m1 34 rfl) rfl
theorem q462 : (Jvm.Cond.selects "ExamSlips$Share" ({ cls := "java/lang/Object", name := "getClass", desc := "()Ljava/lang/Class;" } : Jvm.MethodName) ({ cls := "java/lang/Object", name := "getClass", desc := "()Ljava/lang/Class;" } : Jvm.MethodName)) ∈ lw_all := lw_g (lw_at lw_m2 99 rfl) rfl
theorem q1079 : (Jvm.Cond.instantiable "ExamSlips$Share" (2 : Nat)) ∈ lw_all := lw_g (lw_at lw_m4 236 rfl) rfl
theorem q1085 : (Jvm.Cond.instanceMethod ({ cls := "ExamSlips$Share", name := "<init>", desc := "(JJ)V" } : Jvm.MethodName)) ∈ lw_all := lw_g (lw_at lw_m5 2 rfl) rfl
theorem q1086 : (Jvm.Cond.code ({ cls := "ExamSlips$Share", name := "<init>", desc := "(JJ)V" } : Jvm.MethodName) prog_21_method_1_code (7 : Nat) (Option.none : Option Jvm.ClassFile.FieldType)) ∈ lw_all := lw_g (lw_at lw_m5 3 rfl) rfl
theorem q1087 : (Jvm.Cond.methodLink "ExamSlips$Share" (1 : Nat) ({ cls := "java/lang/Object", name := "<init>", desc := "()V" } : Jvm.MethodName)) ∈ lw_all := lw_g (lw_at lw_m5 4 rfl) rfl
theorem q1088 : (Jvm.Cond.methodLinkNest "ExamSlips$Share" (7 : Nat) ({ cls := "ExamSlips", name := "common", desc := "(JJ)J" } : Jvm.MethodName) "ExamSlips") ∈ lw_tbl := lw_at lw_m5 5 rfl
theorem q1091 : (Jvm.Cond.fieldLink "ExamSlips$Share" (13 : Nat) "ExamSlips$Share" "upper" "J") ∈ lw_all := lw_g (lw_at lw_m5 8 rfl) rfl
theorem q1093 : (Jvm.Cond.fieldLink "ExamSlips$Share" (19 : Nat) "ExamSlips$Share" "lower" "J") ∈ lw_all := lw_g (lw_at lw_m5 10 rfl) rfl
theorem q1095 : (Jvm.Cond.laysFinal "ExamSlips$Share" "ExamSlips$Share" "upper" "J") ∈ lw_all := lw_g (lw_at lw_m5 12 rfl) rfl
theorem q1096 : (Jvm.Cond.soleField "ExamSlips$Share" "upper") ∈ lw_all := lw_g (lw_at lw_m5 13 rfl) rfl
theorem q1097 : (Jvm.Cond.laysFinal "ExamSlips$Share" "ExamSlips$Share" "lower" "J") ∈ lw_all := lw_g (lw_at lw_m5 14 rfl) rfl
theorem q1098 : (Jvm.Cond.soleField "ExamSlips$Share" "lower") ∈ lw_all := lw_g (lw_at lw_m5 15 rfl) rfl
theorem q1099 : (Jvm.Cond.superclass "ExamSlips$Share" "java/lang/Object") ∈ lw_all := lw_g (lw_at lw_m5 16 rfl) rfl
theorem q1101 : (Jvm.Cond.instanceMethod ({ cls := "ExamSlips$Share", name := "part", desc := "(I)J" } : Jvm.MethodName)) ∈ lw_all := lw_g (lw_at lw_m5 18 rfl) rfl
theorem q1102 : (Jvm.Cond.selects "ExamSlips$Share" ({ cls := "ExamSlips$Share", name := "part", desc := "(I)J" } : Jvm.MethodName) ({ cls := "ExamSlips$Share", name := "part", desc := "(I)J" } : Jvm.MethodName)) ∈ lw_all := lw_g (lw_at lw_m5 19 rfl) rfl
theorem q1103 : (Jvm.Cond.code ({ cls := "ExamSlips$Share", name := "part", desc := "(I)J" } : Jvm.MethodName) prog_21_method_2_code (2 : Nat) (Option.some Jvm.ClassFile.FieldType.long)) ∈ lw_all := lw_g (lw_at lw_m5 20 rfl) rfl
theorem q1138 : (Jvm.Cond.instanceMethod ({ cls := "ExamSlips$Share", name := "millionths", desc := "()I" } : Jvm.MethodName)) ∈ lw_all := lw_g (lw_at lw_m5 55 rfl) rfl
theorem q1139 : (Jvm.Cond.selects "ExamSlips$Share" ({ cls := "ExamSlips$Share", name := "millionths", desc := "()I" } : Jvm.MethodName) ({ cls := "ExamSlips$Share", name := "millionths", desc := "()I" } : Jvm.MethodName)) ∈ lw_all := lw_g (lw_at lw_m5 56 rfl) rfl
theorem q1140 : (Jvm.Cond.code ({ cls := "ExamSlips$Share", name := "millionths", desc := "()I" } : Jvm.MethodName) prog_21_method_3_code (5 : Nat) (Option.some Jvm.ClassFile.FieldType.int)) ∈ lw_all := lw_g (lw_at lw_m5 57 rfl) rfl
theorem q1141 : (Jvm.Cond.constantLong "ExamSlips$Share" (22 : Nat) (10 : Int64)) ∈ lw_all := lw_g (lw_at lw_m5 58 rfl) rfl
theorem q2393 : (Jvm.Cond.castable "ExamSlips$Share" "java/lang/Object") ∈ lw_tbl := lw_at lw_m10 110 rfl
theorem in_X19 : ∀ w ∈ wsX190, w ∈ lw_all := lw_in wsX190 [1095, 1097] (by decide +kernel) (by decide +kernel)

/-! ExamSlips$Schemes -/
set_option maxRecDepth 100000
def RX20 : String := "ExamSlips$Schemes"
def TX20 : u_T := fun k => match k with
  | 0 => ("ExamSlips$Schemes", "row", "[LExamSlips$Question;", true)
  | 1 => ("ExamSlips$Schemes", "passes", "[J", true)
  | 2 => ("ExamSlips$Schemes", "lying", "[J", true)
  | 3 => ("ExamSlips$Schemes", "all", "J", false)
  | _ => ("ExamSlips$Schemes", "this$0", "LExamSlips;", true)
def tyX20 : Nat → FieldType := fun k => match k with
  | 0 => .array (.object "ExamSlips$Question")
  | 1 => .array .long
  | 2 => .array .long
  | 3 => .long
  | _ => .object "ExamSlips"
abbrev wsX200 : List Cond := u_ws RX20 TX20 5
theorem nmX20 : ∀ a, a < 5 → ∀ b, b < 5 → a ≠ b → (TX20 a).2.1 ≠ (TX20 b).2.1 := by decide +kernel
theorem tyX20_ok : ∀ k, k < 5 → parseFieldDescriptor (TX20 k).2.2.1 = some (tyX20 k) := by decide +kernel
abbrev cX20_init : ByteArray := prog_20_method_1_code
def yX20_init : MethodName := ⟨RX20, "<init>", "(LExamSlips;)V"⟩
def dkwX20_init_13 : List UInt8 := [182, 0, 91, 80, 132, 6, 1, 167, 255, 221, 132, 5, 1, 167, 255, 206, 177]
abbrev dktX20_init_13 : List UInt8 := dkwX20_init_13 ++ []
def dkwX20_init_12 : List UInt8 := [96, 29, 163, 0, 32, 42, 180, 0, 15, 21, 5, 16, 21, 104, 21, 6, 96, 42, 21, 5, 21, 6, 21, 4]
abbrev dktX20_init_12 : List UInt8 := dkwX20_init_12 ++ dktX20_init_13
def dkwX20_init_11 : List UInt8 := [183, 0, 84, 21, 4, 182, 0, 87, 3, 54, 5, 21, 5, 29, 163, 0, 50, 3, 54, 6, 21, 5, 21, 6]
abbrev dktX20_init_11 : List UInt8 := dkwX20_init_11 ++ dktX20_init_12
def dkwX20_init_10 : List UInt8 := [184, 0, 72, 54, 4, 42, 187, 0, 78, 89, 43, 182, 0, 80, 43, 180, 0, 28, 180, 0, 69, 4, 46]
abbrev dktX20_init_10 : List UInt8 := dkwX20_init_10 ++ dktX20_init_11
def dkwX20_init_9 : List UInt8 := [132, 5, 1, 167, 255, 168, 132, 4, 255, 167, 255, 154, 29, 43, 180, 0, 28, 180, 0, 69, 3, 46]
abbrev dktX20_init_9 : List UInt8 := dkwX20_init_9 ++ dktX20_init_10
def dkwX20_init_8 : List UInt8 := [21, 4, 21, 5, 21, 6, 21, 7, 182, 0, 66, 79, 132, 7, 1, 167, 255, 207, 132, 6, 1, 167, 255, 186]
abbrev dktX20_init_8 : List UInt8 := dkwX20_init_8 ++ dktX20_init_9
def dkwX20_init_7 : List UInt8 := [42, 21, 4, 21, 5, 21, 6, 21, 7, 182, 0, 62, 21, 4, 29, 160, 0, 7, 3, 167, 0, 15, 42]
abbrev dktX20_init_7 : List UInt8 := dkwX20_init_7 ++ dktX20_init_8
def dkwX20_init_6 : List UInt8 := [21, 6, 96, 29, 21, 4, 100, 163, 0, 64, 3, 54, 7, 21, 7, 16, 16, 162, 0, 48, 43, 180, 0, 58]
abbrev dktX20_init_6 : List UInt8 := dkwX20_init_6 ++ dktX20_init_7
def dkwX20_init_5 : List UInt8 := [54, 4, 21, 4, 155, 0, 103, 3, 54, 5, 21, 5, 29, 21, 4, 100, 163, 0, 85, 3, 54, 6, 21, 5]
abbrev dktX20_init_5 : List UInt8 := dkwX20_init_5 ++ dktX20_init_6
def dkwX20_init_4 : List UInt8 := [167, 255, 199, 42, 29, 189, 0, 22, 181, 0, 48, 44, 3, 42, 180, 0, 48, 3, 29, 184, 0, 52, 29]
abbrev dktX20_init_4 : List UInt8 := dkwX20_init_4 ++ dktX20_init_5
def dkwX20_init_3 : List UInt8 := [29, 43, 180, 0, 28, 180, 0, 32, 21, 4, 182, 0, 38, 192, 0, 22, 83, 132, 3, 1, 132, 4, 1]
abbrev dktX20_init_3 : List UInt8 := dkwX20_init_3 ++ dktX20_init_4
def dkwX20_init_2 : List UInt8 := [180, 0, 28, 180, 0, 32, 21, 4, 182, 0, 38, 192, 0, 22, 180, 0, 44, 153, 0, 6, 167, 0, 24, 44]
abbrev dktX20_init_2 : List UInt8 := dkwX20_init_2 ++ dktX20_init_3
def dkwX20_init_1 : List UInt8 := [181, 0, 19, 16, 20, 189, 0, 22, 77, 3, 62, 3, 54, 4, 21, 4, 43, 182, 0, 24, 162, 0, 54, 43]
abbrev dktX20_init_1 : List UInt8 := dkwX20_init_1 ++ dktX20_init_2
def dkwX20_init_0 : List UInt8 := [42, 43, 181, 0, 3, 42, 183, 0, 9, 42, 17, 1, 185, 188, 11, 181, 0, 15, 42, 17, 1, 185, 188, 11]
abbrev dktX20_init_0 : List UInt8 := dkwX20_init_0 ++ dktX20_init_1
theorem dksX20_init_0 : cX20_init.data.toList.drop 0 = dktX20_init_0 := by decide +kernel
theorem dksX20_init_1 : cX20_init.data.toList.drop 24 = dktX20_init_1 := dk_seg dksX20_init_0 24 rfl rfl
theorem dksX20_init_2 : cX20_init.data.toList.drop 48 = dktX20_init_2 := dk_seg dksX20_init_1 24 rfl rfl
theorem dksX20_init_3 : cX20_init.data.toList.drop 72 = dktX20_init_3 := dk_seg dksX20_init_2 24 rfl rfl
theorem dksX20_init_4 : cX20_init.data.toList.drop 95 = dktX20_init_4 := dk_seg dksX20_init_3 23 rfl rfl
theorem dksX20_init_5 : cX20_init.data.toList.drop 118 = dktX20_init_5 := dk_seg dksX20_init_4 23 rfl rfl
theorem dksX20_init_6 : cX20_init.data.toList.drop 142 = dktX20_init_6 := dk_seg dksX20_init_5 24 rfl rfl
theorem dksX20_init_7 : cX20_init.data.toList.drop 166 = dktX20_init_7 := dk_seg dksX20_init_6 24 rfl rfl
theorem dksX20_init_8 : cX20_init.data.toList.drop 189 = dktX20_init_8 := dk_seg dksX20_init_7 23 rfl rfl
theorem dksX20_init_9 : cX20_init.data.toList.drop 213 = dktX20_init_9 := dk_seg dksX20_init_8 24 rfl rfl
theorem dksX20_init_10 : cX20_init.data.toList.drop 235 = dktX20_init_10 := dk_seg dksX20_init_9 22 rfl rfl
theorem dksX20_init_11 : cX20_init.data.toList.drop 258 = dktX20_init_11 := dk_seg dksX20_init_10 23 rfl rfl
theorem dksX20_init_12 : cX20_init.data.toList.drop 282 = dktX20_init_12 := dk_seg dksX20_init_11 24 rfl rfl
theorem dksX20_init_13 : cX20_init.data.toList.drop 306 = dktX20_init_13 := dk_seg dksX20_init_12 24 rfl rfl
theorem dX20_init_0 : decode cX20_init 0 = .ok (.aload_n 0, 1) := dk_42 (dk_at dksX20_init_0 0 rfl rfl)
theorem dX20_init_1 : decode cX20_init 1 = .ok (.aload_n 1, 1) := dk_43 (dk_at dksX20_init_0 1 rfl rfl)
theorem dX20_init_2 : decode cX20_init 2 = .ok (.putfield 3, 3) := dk_181 0 3 (dk_at dksX20_init_0 2 rfl rfl)
theorem dX20_init_5 : decode cX20_init 5 = .ok (.aload_n 0, 1) := dk_42 (dk_at dksX20_init_0 5 rfl rfl)
theorem dX20_init_6 : decode cX20_init 6 = .ok (.invokespecial 9, 3) := dk_183 0 9 (dk_at dksX20_init_0 6 rfl rfl)
theorem dX20_init_9 : decode cX20_init 9 = .ok (.aload_n 0, 1) := dk_42 (dk_at dksX20_init_0 9 rfl rfl)
theorem dX20_init_10 : decode cX20_init 10 = .ok (.sipush 441, 3) := dk_17 1 185 (dk_at dksX20_init_0 10 rfl rfl)
theorem dX20_init_13 : decode cX20_init 13 = .ok (.newarray .long, 2) := dk_188_11 (dk_at dksX20_init_0 13 rfl rfl)
theorem dX20_init_15 : decode cX20_init 15 = .ok (.putfield 15, 3) := dk_181 0 15 (dk_at dksX20_init_0 15 rfl rfl)
theorem dX20_init_18 : decode cX20_init 18 = .ok (.aload_n 0, 1) := dk_42 (dk_at dksX20_init_0 18 rfl rfl)
theorem dX20_init_19 : decode cX20_init 19 = .ok (.sipush 441, 3) := dk_17 1 185 (dk_at dksX20_init_0 19 rfl rfl)
theorem dX20_init_22 : decode cX20_init 22 = .ok (.newarray .long, 2) := dk_188_11 (dk_at dksX20_init_0 22 rfl rfl)
theorem dX20_init_24 : decode cX20_init 24 = .ok (.putfield 19, 3) := dk_181 0 19 (dk_at dksX20_init_1 0 rfl rfl)
theorem dX20_init_27 : decode cX20_init 27 = .ok (.bipush 20, 2) := dk_16 20 (dk_at dksX20_init_1 3 rfl rfl)
theorem dX20_init_29 : decode cX20_init 29 = .ok (.anewarray 22, 3) := dk_189 0 22 (dk_at dksX20_init_1 5 rfl rfl)
theorem dX20_init_32 : decode cX20_init 32 = .ok (.astore_n 2, 1) := dk_77 (dk_at dksX20_init_1 8 rfl rfl)
theorem dX20_init_33 : decode cX20_init 33 = .ok (.iconst 0, 1) := dk_3 (dk_at dksX20_init_1 9 rfl rfl)
theorem dX20_init_34 : decode cX20_init 34 = .ok (.istore_n 3, 1) := dk_62 (dk_at dksX20_init_1 10 rfl rfl)
theorem dX20_init_35 : decode cX20_init 35 = .ok (.iconst 0, 1) := dk_3 (dk_at dksX20_init_1 11 rfl rfl)
theorem dX20_init_36 : decode cX20_init 36 = .ok (.istore 4, 2) := dk_54 4 (dk_at dksX20_init_1 12 rfl rfl)
theorem dX20_init_38 : decode cX20_init 38 = .ok (.iload 4, 2) := dk_21 4 (dk_at dksX20_init_1 14 rfl rfl)
theorem dX20_init_40 : decode cX20_init 40 = .ok (.aload_n 1, 1) := dk_43 (dk_at dksX20_init_1 16 rfl rfl)
theorem dX20_init_41 : decode cX20_init 41 = .ok (.invokevirtual 24, 3) := dk_182 0 24 (dk_at dksX20_init_1 17 rfl rfl)
theorem dX20_init_44 : decode cX20_init 44 = .ok (.if_icmp .ge 54, 3) := dk_162 0 54 (dk_at dksX20_init_1 20 rfl rfl)
theorem dX20_init_47 : decode cX20_init 47 = .ok (.aload_n 1, 1) := dk_43 (dk_at dksX20_init_1 23 rfl rfl)
theorem dX20_init_48 : decode cX20_init 48 = .ok (.getfield 28, 3) := dk_180 0 28 (dk_at dksX20_init_2 0 rfl rfl)
theorem dX20_init_51 : decode cX20_init 51 = .ok (.getfield 32, 3) := dk_180 0 32 (dk_at dksX20_init_2 3 rfl rfl)
theorem dX20_init_54 : decode cX20_init 54 = .ok (.iload 4, 2) := dk_21 4 (dk_at dksX20_init_2 6 rfl rfl)
theorem dX20_init_56 : decode cX20_init 56 = .ok (.invokevirtual 38, 3) := dk_182 0 38 (dk_at dksX20_init_2 8 rfl rfl)
theorem dX20_init_59 : decode cX20_init 59 = .ok (.checkcast 22, 3) := dk_192 0 22 (dk_at dksX20_init_2 11 rfl rfl)
theorem dX20_init_62 : decode cX20_init 62 = .ok (.getfield 44, 3) := dk_180 0 44 (dk_at dksX20_init_2 14 rfl rfl)
theorem dX20_init_65 : decode cX20_init 65 = .ok (.ifCond .eq 6, 3) := dk_153 0 6 (dk_at dksX20_init_2 17 rfl rfl)
theorem dX20_init_68 : decode cX20_init 68 = .ok (.goto 24, 3) := dk_167 0 24 (dk_at dksX20_init_2 20 rfl rfl)
theorem dX20_init_71 : decode cX20_init 71 = .ok (.aload_n 2, 1) := dk_44 (dk_at dksX20_init_2 23 rfl rfl)
theorem dX20_init_72 : decode cX20_init 72 = .ok (.iload_n 3, 1) := dk_29 (dk_at dksX20_init_3 0 rfl rfl)
theorem dX20_init_73 : decode cX20_init 73 = .ok (.aload_n 1, 1) := dk_43 (dk_at dksX20_init_3 1 rfl rfl)
theorem dX20_init_74 : decode cX20_init 74 = .ok (.getfield 28, 3) := dk_180 0 28 (dk_at dksX20_init_3 2 rfl rfl)
theorem dX20_init_77 : decode cX20_init 77 = .ok (.getfield 32, 3) := dk_180 0 32 (dk_at dksX20_init_3 5 rfl rfl)
theorem dX20_init_80 : decode cX20_init 80 = .ok (.iload 4, 2) := dk_21 4 (dk_at dksX20_init_3 8 rfl rfl)
theorem dX20_init_82 : decode cX20_init 82 = .ok (.invokevirtual 38, 3) := dk_182 0 38 (dk_at dksX20_init_3 10 rfl rfl)
theorem dX20_init_85 : decode cX20_init 85 = .ok (.checkcast 22, 3) := dk_192 0 22 (dk_at dksX20_init_3 13 rfl rfl)
theorem dX20_init_88 : decode cX20_init 88 = .ok (.aastore, 1) := dk_83 (dk_at dksX20_init_3 16 rfl rfl)
theorem dX20_init_89 : decode cX20_init 89 = .ok (.iinc 3 1, 3) := dk_132 3 1 (dk_at dksX20_init_3 17 rfl rfl)
theorem dX20_init_92 : decode cX20_init 92 = .ok (.iinc 4 1, 3) := dk_132 4 1 (dk_at dksX20_init_3 20 rfl rfl)
theorem dX20_init_95 : decode cX20_init 95 = .ok (.goto (-57), 3) := dk_167 255 199 (dk_at dksX20_init_4 0 rfl rfl)
theorem dX20_init_98 : decode cX20_init 98 = .ok (.aload_n 0, 1) := dk_42 (dk_at dksX20_init_4 3 rfl rfl)
theorem dX20_init_99 : decode cX20_init 99 = .ok (.iload_n 3, 1) := dk_29 (dk_at dksX20_init_4 4 rfl rfl)
theorem dX20_init_100 : decode cX20_init 100 = .ok (.anewarray 22, 3) := dk_189 0 22 (dk_at dksX20_init_4 5 rfl rfl)
theorem dX20_init_103 : decode cX20_init 103 = .ok (.putfield 48, 3) := dk_181 0 48 (dk_at dksX20_init_4 8 rfl rfl)
theorem dX20_init_106 : decode cX20_init 106 = .ok (.aload_n 2, 1) := dk_44 (dk_at dksX20_init_4 11 rfl rfl)
theorem dX20_init_107 : decode cX20_init 107 = .ok (.iconst 0, 1) := dk_3 (dk_at dksX20_init_4 12 rfl rfl)
theorem dX20_init_108 : decode cX20_init 108 = .ok (.aload_n 0, 1) := dk_42 (dk_at dksX20_init_4 13 rfl rfl)
theorem dX20_init_109 : decode cX20_init 109 = .ok (.getfield 48, 3) := dk_180 0 48 (dk_at dksX20_init_4 14 rfl rfl)
theorem dX20_init_112 : decode cX20_init 112 = .ok (.iconst 0, 1) := dk_3 (dk_at dksX20_init_4 17 rfl rfl)
theorem dX20_init_113 : decode cX20_init 113 = .ok (.iload_n 3, 1) := dk_29 (dk_at dksX20_init_4 18 rfl rfl)
theorem dX20_init_114 : decode cX20_init 114 = .ok (.invokestatic 52, 3) := dk_184 0 52 (dk_at dksX20_init_4 19 rfl rfl)
theorem dX20_init_117 : decode cX20_init 117 = .ok (.iload_n 3, 1) := dk_29 (dk_at dksX20_init_4 22 rfl rfl)
theorem dX20_init_118 : decode cX20_init 118 = .ok (.istore 4, 2) := dk_54 4 (dk_at dksX20_init_5 0 rfl rfl)
theorem dX20_init_120 : decode cX20_init 120 = .ok (.iload 4, 2) := dk_21 4 (dk_at dksX20_init_5 2 rfl rfl)
theorem dX20_init_122 : decode cX20_init 122 = .ok (.ifCond .lt 103, 3) := dk_155 0 103 (dk_at dksX20_init_5 4 rfl rfl)
theorem dX20_init_125 : decode cX20_init 125 = .ok (.iconst 0, 1) := dk_3 (dk_at dksX20_init_5 7 rfl rfl)
theorem dX20_init_126 : decode cX20_init 126 = .ok (.istore 5, 2) := dk_54 5 (dk_at dksX20_init_5 8 rfl rfl)
theorem dX20_init_128 : decode cX20_init 128 = .ok (.iload 5, 2) := dk_21 5 (dk_at dksX20_init_5 10 rfl rfl)
theorem dX20_init_130 : decode cX20_init 130 = .ok (.iload_n 3, 1) := dk_29 (dk_at dksX20_init_5 12 rfl rfl)
theorem dX20_init_131 : decode cX20_init 131 = .ok (.iload 4, 2) := dk_21 4 (dk_at dksX20_init_5 13 rfl rfl)
theorem dX20_init_133 : decode cX20_init 133 = .ok (.isub, 1) := dk_100 (dk_at dksX20_init_5 15 rfl rfl)
theorem dX20_init_134 : decode cX20_init 134 = .ok (.if_icmp .gt 85, 3) := dk_163 0 85 (dk_at dksX20_init_5 16 rfl rfl)
theorem dX20_init_137 : decode cX20_init 137 = .ok (.iconst 0, 1) := dk_3 (dk_at dksX20_init_5 19 rfl rfl)
theorem dX20_init_138 : decode cX20_init 138 = .ok (.istore 6, 2) := dk_54 6 (dk_at dksX20_init_5 20 rfl rfl)
theorem dX20_init_140 : decode cX20_init 140 = .ok (.iload 5, 2) := dk_21 5 (dk_at dksX20_init_5 22 rfl rfl)
theorem dX20_init_142 : decode cX20_init 142 = .ok (.iload 6, 2) := dk_21 6 (dk_at dksX20_init_6 0 rfl rfl)
theorem dX20_init_144 : decode cX20_init 144 = .ok (.iadd, 1) := dk_96 (dk_at dksX20_init_6 2 rfl rfl)
theorem dX20_init_145 : decode cX20_init 145 = .ok (.iload_n 3, 1) := dk_29 (dk_at dksX20_init_6 3 rfl rfl)
theorem dX20_init_146 : decode cX20_init 146 = .ok (.iload 4, 2) := dk_21 4 (dk_at dksX20_init_6 4 rfl rfl)
theorem dX20_init_148 : decode cX20_init 148 = .ok (.isub, 1) := dk_100 (dk_at dksX20_init_6 6 rfl rfl)
theorem dX20_init_149 : decode cX20_init 149 = .ok (.if_icmp .gt 64, 3) := dk_163 0 64 (dk_at dksX20_init_6 7 rfl rfl)
theorem dX20_init_152 : decode cX20_init 152 = .ok (.iconst 0, 1) := dk_3 (dk_at dksX20_init_6 10 rfl rfl)
theorem dX20_init_153 : decode cX20_init 153 = .ok (.istore 7, 2) := dk_54 7 (dk_at dksX20_init_6 11 rfl rfl)
theorem dX20_init_155 : decode cX20_init 155 = .ok (.iload 7, 2) := dk_21 7 (dk_at dksX20_init_6 13 rfl rfl)
theorem dX20_init_157 : decode cX20_init 157 = .ok (.bipush 16, 2) := dk_16 16 (dk_at dksX20_init_6 15 rfl rfl)
theorem dX20_init_159 : decode cX20_init 159 = .ok (.if_icmp .ge 48, 3) := dk_162 0 48 (dk_at dksX20_init_6 17 rfl rfl)
theorem dX20_init_162 : decode cX20_init 162 = .ok (.aload_n 1, 1) := dk_43 (dk_at dksX20_init_6 20 rfl rfl)
theorem dX20_init_163 : decode cX20_init 163 = .ok (.getfield 58, 3) := dk_180 0 58 (dk_at dksX20_init_6 21 rfl rfl)
theorem dX20_init_166 : decode cX20_init 166 = .ok (.aload_n 0, 1) := dk_42 (dk_at dksX20_init_7 0 rfl rfl)
theorem dX20_init_167 : decode cX20_init 167 = .ok (.iload 4, 2) := dk_21 4 (dk_at dksX20_init_7 1 rfl rfl)
theorem dX20_init_169 : decode cX20_init 169 = .ok (.iload 5, 2) := dk_21 5 (dk_at dksX20_init_7 3 rfl rfl)
theorem dX20_init_171 : decode cX20_init 171 = .ok (.iload 6, 2) := dk_21 6 (dk_at dksX20_init_7 5 rfl rfl)
theorem dX20_init_173 : decode cX20_init 173 = .ok (.iload 7, 2) := dk_21 7 (dk_at dksX20_init_7 7 rfl rfl)
theorem dX20_init_175 : decode cX20_init 175 = .ok (.invokevirtual 62, 3) := dk_182 0 62 (dk_at dksX20_init_7 9 rfl rfl)
theorem dX20_init_178 : decode cX20_init 178 = .ok (.iload 4, 2) := dk_21 4 (dk_at dksX20_init_7 12 rfl rfl)
theorem dX20_init_180 : decode cX20_init 180 = .ok (.iload_n 3, 1) := dk_29 (dk_at dksX20_init_7 14 rfl rfl)
theorem dX20_init_181 : decode cX20_init 181 = .ok (.if_icmp .ne 7, 3) := dk_160 0 7 (dk_at dksX20_init_7 15 rfl rfl)
theorem dX20_init_184 : decode cX20_init 184 = .ok (.iconst 0, 1) := dk_3 (dk_at dksX20_init_7 18 rfl rfl)
theorem dX20_init_185 : decode cX20_init 185 = .ok (.goto 15, 3) := dk_167 0 15 (dk_at dksX20_init_7 19 rfl rfl)
theorem dX20_init_188 : decode cX20_init 188 = .ok (.aload_n 0, 1) := dk_42 (dk_at dksX20_init_7 22 rfl rfl)
theorem dX20_init_189 : decode cX20_init 189 = .ok (.iload 4, 2) := dk_21 4 (dk_at dksX20_init_8 0 rfl rfl)
theorem dX20_init_191 : decode cX20_init 191 = .ok (.iload 5, 2) := dk_21 5 (dk_at dksX20_init_8 2 rfl rfl)
theorem dX20_init_193 : decode cX20_init 193 = .ok (.iload 6, 2) := dk_21 6 (dk_at dksX20_init_8 4 rfl rfl)
theorem dX20_init_195 : decode cX20_init 195 = .ok (.iload 7, 2) := dk_21 7 (dk_at dksX20_init_8 6 rfl rfl)
theorem dX20_init_197 : decode cX20_init 197 = .ok (.invokevirtual 66, 3) := dk_182 0 66 (dk_at dksX20_init_8 8 rfl rfl)
theorem dX20_init_200 : decode cX20_init 200 = .ok (.iastore, 1) := dk_79 (dk_at dksX20_init_8 11 rfl rfl)
theorem dX20_init_201 : decode cX20_init 201 = .ok (.iinc 7 1, 3) := dk_132 7 1 (dk_at dksX20_init_8 12 rfl rfl)
theorem dX20_init_204 : decode cX20_init 204 = .ok (.goto (-49), 3) := dk_167 255 207 (dk_at dksX20_init_8 15 rfl rfl)
theorem dX20_init_207 : decode cX20_init 207 = .ok (.iinc 6 1, 3) := dk_132 6 1 (dk_at dksX20_init_8 18 rfl rfl)
theorem dX20_init_210 : decode cX20_init 210 = .ok (.goto (-70), 3) := dk_167 255 186 (dk_at dksX20_init_8 21 rfl rfl)
theorem dX20_init_213 : decode cX20_init 213 = .ok (.iinc 5 1, 3) := dk_132 5 1 (dk_at dksX20_init_9 0 rfl rfl)
theorem dX20_init_216 : decode cX20_init 216 = .ok (.goto (-88), 3) := dk_167 255 168 (dk_at dksX20_init_9 3 rfl rfl)
theorem dX20_init_219 : decode cX20_init 219 = .ok (.iinc 4 (-1), 3) := dk_132 4 255 (dk_at dksX20_init_9 6 rfl rfl)
theorem dX20_init_222 : decode cX20_init 222 = .ok (.goto (-102), 3) := dk_167 255 154 (dk_at dksX20_init_9 9 rfl rfl)
theorem dX20_init_225 : decode cX20_init 225 = .ok (.iload_n 3, 1) := dk_29 (dk_at dksX20_init_9 12 rfl rfl)
theorem dX20_init_226 : decode cX20_init 226 = .ok (.aload_n 1, 1) := dk_43 (dk_at dksX20_init_9 13 rfl rfl)
theorem dX20_init_227 : decode cX20_init 227 = .ok (.getfield 28, 3) := dk_180 0 28 (dk_at dksX20_init_9 14 rfl rfl)
theorem dX20_init_230 : decode cX20_init 230 = .ok (.getfield 69, 3) := dk_180 0 69 (dk_at dksX20_init_9 17 rfl rfl)
theorem dX20_init_233 : decode cX20_init 233 = .ok (.iconst 0, 1) := dk_3 (dk_at dksX20_init_9 20 rfl rfl)
theorem dX20_init_234 : decode cX20_init 234 = .ok (.iaload, 1) := dk_46 (dk_at dksX20_init_9 21 rfl rfl)
theorem dX20_init_235 : decode cX20_init 235 = .ok (.invokestatic 72, 3) := dk_184 0 72 (dk_at dksX20_init_10 0 rfl rfl)
theorem dX20_init_238 : decode cX20_init 238 = .ok (.istore 4, 2) := dk_54 4 (dk_at dksX20_init_10 3 rfl rfl)
theorem dX20_init_240 : decode cX20_init 240 = .ok (.aload_n 0, 1) := dk_42 (dk_at dksX20_init_10 5 rfl rfl)
theorem dX20_init_241 : decode cX20_init 241 = .ok (.new 78, 3) := dk_187 0 78 (dk_at dksX20_init_10 6 rfl rfl)
theorem dX20_init_244 : decode cX20_init 244 = .ok (.dup, 1) := dk_89 (dk_at dksX20_init_10 9 rfl rfl)
theorem dX20_init_245 : decode cX20_init 245 = .ok (.aload_n 1, 1) := dk_43 (dk_at dksX20_init_10 10 rfl rfl)
theorem dX20_init_246 : decode cX20_init 246 = .ok (.invokevirtual 80, 3) := dk_182 0 80 (dk_at dksX20_init_10 11 rfl rfl)
theorem dX20_init_249 : decode cX20_init 249 = .ok (.aload_n 1, 1) := dk_43 (dk_at dksX20_init_10 14 rfl rfl)
theorem dX20_init_250 : decode cX20_init 250 = .ok (.getfield 28, 3) := dk_180 0 28 (dk_at dksX20_init_10 15 rfl rfl)
theorem dX20_init_253 : decode cX20_init 253 = .ok (.getfield 69, 3) := dk_180 0 69 (dk_at dksX20_init_10 18 rfl rfl)
theorem dX20_init_256 : decode cX20_init 256 = .ok (.iconst 1, 1) := dk_4 (dk_at dksX20_init_10 21 rfl rfl)
theorem dX20_init_257 : decode cX20_init 257 = .ok (.iaload, 1) := dk_46 (dk_at dksX20_init_10 22 rfl rfl)
theorem dX20_init_258 : decode cX20_init 258 = .ok (.invokespecial 84, 3) := dk_183 0 84 (dk_at dksX20_init_11 0 rfl rfl)
theorem dX20_init_261 : decode cX20_init 261 = .ok (.iload 4, 2) := dk_21 4 (dk_at dksX20_init_11 3 rfl rfl)
theorem dX20_init_263 : decode cX20_init 263 = .ok (.invokevirtual 87, 3) := dk_182 0 87 (dk_at dksX20_init_11 5 rfl rfl)
theorem dX20_init_266 : decode cX20_init 266 = .ok (.iconst 0, 1) := dk_3 (dk_at dksX20_init_11 8 rfl rfl)
theorem dX20_init_267 : decode cX20_init 267 = .ok (.istore 5, 2) := dk_54 5 (dk_at dksX20_init_11 9 rfl rfl)
theorem dX20_init_269 : decode cX20_init 269 = .ok (.iload 5, 2) := dk_21 5 (dk_at dksX20_init_11 11 rfl rfl)
theorem dX20_init_271 : decode cX20_init 271 = .ok (.iload_n 3, 1) := dk_29 (dk_at dksX20_init_11 13 rfl rfl)
theorem dX20_init_272 : decode cX20_init 272 = .ok (.if_icmp .gt 50, 3) := dk_163 0 50 (dk_at dksX20_init_11 14 rfl rfl)
theorem dX20_init_275 : decode cX20_init 275 = .ok (.iconst 0, 1) := dk_3 (dk_at dksX20_init_11 17 rfl rfl)
theorem dX20_init_276 : decode cX20_init 276 = .ok (.istore 6, 2) := dk_54 6 (dk_at dksX20_init_11 18 rfl rfl)
theorem dX20_init_278 : decode cX20_init 278 = .ok (.iload 5, 2) := dk_21 5 (dk_at dksX20_init_11 20 rfl rfl)
theorem dX20_init_280 : decode cX20_init 280 = .ok (.iload 6, 2) := dk_21 6 (dk_at dksX20_init_11 22 rfl rfl)
theorem dX20_init_282 : decode cX20_init 282 = .ok (.iadd, 1) := dk_96 (dk_at dksX20_init_12 0 rfl rfl)
theorem dX20_init_283 : decode cX20_init 283 = .ok (.iload_n 3, 1) := dk_29 (dk_at dksX20_init_12 1 rfl rfl)
theorem dX20_init_284 : decode cX20_init 284 = .ok (.if_icmp .gt 32, 3) := dk_163 0 32 (dk_at dksX20_init_12 2 rfl rfl)
theorem dX20_init_287 : decode cX20_init 287 = .ok (.aload_n 0, 1) := dk_42 (dk_at dksX20_init_12 5 rfl rfl)
theorem dX20_init_288 : decode cX20_init 288 = .ok (.getfield 15, 3) := dk_180 0 15 (dk_at dksX20_init_12 6 rfl rfl)
theorem dX20_init_291 : decode cX20_init 291 = .ok (.iload 5, 2) := dk_21 5 (dk_at dksX20_init_12 9 rfl rfl)
theorem dX20_init_293 : decode cX20_init 293 = .ok (.bipush 21, 2) := dk_16 21 (dk_at dksX20_init_12 11 rfl rfl)
theorem dX20_init_295 : decode cX20_init 295 = .ok (.imul, 1) := dk_104 (dk_at dksX20_init_12 13 rfl rfl)
theorem dX20_init_296 : decode cX20_init 296 = .ok (.iload 6, 2) := dk_21 6 (dk_at dksX20_init_12 14 rfl rfl)
theorem dX20_init_298 : decode cX20_init 298 = .ok (.iadd, 1) := dk_96 (dk_at dksX20_init_12 16 rfl rfl)
theorem dX20_init_299 : decode cX20_init 299 = .ok (.aload_n 0, 1) := dk_42 (dk_at dksX20_init_12 17 rfl rfl)
theorem dX20_init_300 : decode cX20_init 300 = .ok (.iload 5, 2) := dk_21 5 (dk_at dksX20_init_12 18 rfl rfl)
theorem dX20_init_302 : decode cX20_init 302 = .ok (.iload 6, 2) := dk_21 6 (dk_at dksX20_init_12 20 rfl rfl)
theorem dX20_init_304 : decode cX20_init 304 = .ok (.iload 4, 2) := dk_21 4 (dk_at dksX20_init_12 22 rfl rfl)
theorem dX20_init_306 : decode cX20_init 306 = .ok (.invokevirtual 91, 3) := dk_182 0 91 (dk_at dksX20_init_13 0 rfl rfl)
theorem dX20_init_309 : decode cX20_init 309 = .ok (.lastore, 1) := dk_80 (dk_at dksX20_init_13 3 rfl rfl)
theorem dX20_init_310 : decode cX20_init 310 = .ok (.iinc 6 1, 3) := dk_132 6 1 (dk_at dksX20_init_13 4 rfl rfl)
theorem dX20_init_313 : decode cX20_init 313 = .ok (.goto (-35), 3) := dk_167 255 221 (dk_at dksX20_init_13 7 rfl rfl)
theorem dX20_init_316 : decode cX20_init 316 = .ok (.iinc 5 1, 3) := dk_132 5 1 (dk_at dksX20_init_13 10 rfl rfl)
theorem dX20_init_319 : decode cX20_init 319 = .ok (.goto (-50), 3) := dk_167 255 206 (dk_at dksX20_init_13 13 rfl rfl)
theorem dX20_init_322 : decode cX20_init 322 = .ok (.return_, 1) := dk_177 (dk_at dksX20_init_13 16 rfl rfl)
abbrev cX20_at : ByteArray := prog_20_method_3_code
def yX20_at : MethodName := ⟨RX20, "at", "(IIII)I"⟩
def dkwX20_at_0 : List UInt8 := [27, 16, 21, 104, 28, 96, 16, 21, 104, 29, 96, 16, 16, 104, 21, 4, 96, 172]
abbrev dktX20_at_0 : List UInt8 := dkwX20_at_0 ++ []
theorem dksX20_at_0 : cX20_at.data.toList.drop 0 = dktX20_at_0 := by decide +kernel
theorem dX20_at_0 : decode cX20_at 0 = .ok (.iload_n 1, 1) := dk_27 (dk_at dksX20_at_0 0 rfl rfl)
theorem dX20_at_1 : decode cX20_at 1 = .ok (.bipush 21, 2) := dk_16 21 (dk_at dksX20_at_0 1 rfl rfl)
theorem dX20_at_3 : decode cX20_at 3 = .ok (.imul, 1) := dk_104 (dk_at dksX20_at_0 3 rfl rfl)
theorem dX20_at_4 : decode cX20_at 4 = .ok (.iload_n 2, 1) := dk_28 (dk_at dksX20_at_0 4 rfl rfl)
theorem dX20_at_5 : decode cX20_at 5 = .ok (.iadd, 1) := dk_96 (dk_at dksX20_at_0 5 rfl rfl)
theorem dX20_at_6 : decode cX20_at 6 = .ok (.bipush 21, 2) := dk_16 21 (dk_at dksX20_at_0 6 rfl rfl)
theorem dX20_at_8 : decode cX20_at 8 = .ok (.imul, 1) := dk_104 (dk_at dksX20_at_0 8 rfl rfl)
theorem dX20_at_9 : decode cX20_at 9 = .ok (.iload_n 3, 1) := dk_29 (dk_at dksX20_at_0 9 rfl rfl)
theorem dX20_at_10 : decode cX20_at 10 = .ok (.iadd, 1) := dk_96 (dk_at dksX20_at_0 10 rfl rfl)
theorem dX20_at_11 : decode cX20_at 11 = .ok (.bipush 16, 2) := dk_16 16 (dk_at dksX20_at_0 11 rfl rfl)
theorem dX20_at_13 : decode cX20_at 13 = .ok (.imul, 1) := dk_104 (dk_at dksX20_at_0 13 rfl rfl)
theorem dX20_at_14 : decode cX20_at 14 = .ok (.iload 4, 2) := dk_21 4 (dk_at dksX20_at_0 14 rfl rfl)
theorem dX20_at_16 : decode cX20_at 16 = .ok (.iadd, 1) := dk_96 (dk_at dksX20_at_0 16 rfl rfl)
theorem dX20_at_17 : decode cX20_at 17 = .ok (.ireturn, 1) := dk_172 (dk_at dksX20_at_0 17 rfl rfl)
abbrev cX20_least : ByteArray := prog_20_method_8_code
def yX20_least : MethodName := ⟨RX20, "least", "(IIII)I"⟩
def dkwX20_least_1 : List UInt8 := [182, 0, 128, 184, 0, 72, 54, 5, 132, 6, 1, 167, 255, 229, 21, 5, 172]
abbrev dktX20_least_1 : List UInt8 := dkwX20_least_1 ++ []
def dkwX20_least_0 : List UInt8 := [18, 120, 54, 5, 3, 54, 6, 21, 6, 6, 162, 0, 27, 21, 5, 42, 27, 21, 6, 28, 29, 21, 4]
abbrev dktX20_least_0 : List UInt8 := dkwX20_least_0 ++ dktX20_least_1
theorem dksX20_least_0 : cX20_least.data.toList.drop 0 = dktX20_least_0 := by decide +kernel
theorem dksX20_least_1 : cX20_least.data.toList.drop 23 = dktX20_least_1 := dk_seg dksX20_least_0 23 rfl rfl
theorem dX20_least_0 : decode cX20_least 0 = .ok (.ldc 120, 2) := dk_18 120 (dk_at dksX20_least_0 0 rfl rfl)
theorem dX20_least_2 : decode cX20_least 2 = .ok (.istore 5, 2) := dk_54 5 (dk_at dksX20_least_0 2 rfl rfl)
theorem dX20_least_4 : decode cX20_least 4 = .ok (.iconst 0, 1) := dk_3 (dk_at dksX20_least_0 4 rfl rfl)
theorem dX20_least_5 : decode cX20_least 5 = .ok (.istore 6, 2) := dk_54 6 (dk_at dksX20_least_0 5 rfl rfl)
theorem dX20_least_7 : decode cX20_least 7 = .ok (.iload 6, 2) := dk_21 6 (dk_at dksX20_least_0 7 rfl rfl)
theorem dX20_least_9 : decode cX20_least 9 = .ok (.iconst 3, 1) := dk_6 (dk_at dksX20_least_0 9 rfl rfl)
theorem dX20_least_10 : decode cX20_least 10 = .ok (.if_icmp .ge 27, 3) := dk_162 0 27 (dk_at dksX20_least_0 10 rfl rfl)
theorem dX20_least_13 : decode cX20_least 13 = .ok (.iload 5, 2) := dk_21 5 (dk_at dksX20_least_0 13 rfl rfl)
theorem dX20_least_15 : decode cX20_least 15 = .ok (.aload_n 0, 1) := dk_42 (dk_at dksX20_least_0 15 rfl rfl)
theorem dX20_least_16 : decode cX20_least 16 = .ok (.iload_n 1, 1) := dk_27 (dk_at dksX20_least_0 16 rfl rfl)
theorem dX20_least_17 : decode cX20_least 17 = .ok (.iload 6, 2) := dk_21 6 (dk_at dksX20_least_0 17 rfl rfl)
theorem dX20_least_19 : decode cX20_least 19 = .ok (.iload_n 2, 1) := dk_28 (dk_at dksX20_least_0 19 rfl rfl)
theorem dX20_least_20 : decode cX20_least 20 = .ok (.iload_n 3, 1) := dk_29 (dk_at dksX20_least_0 20 rfl rfl)
theorem dX20_least_21 : decode cX20_least 21 = .ok (.iload 4, 2) := dk_21 4 (dk_at dksX20_least_0 21 rfl rfl)
theorem dX20_least_23 : decode cX20_least 23 = .ok (.invokevirtual 128, 3) := dk_182 0 128 (dk_at dksX20_least_1 0 rfl rfl)
theorem dX20_least_26 : decode cX20_least 26 = .ok (.invokestatic 72, 3) := dk_184 0 72 (dk_at dksX20_least_1 3 rfl rfl)
theorem dX20_least_29 : decode cX20_least 29 = .ok (.istore 5, 2) := dk_54 5 (dk_at dksX20_least_1 6 rfl rfl)
theorem dX20_least_31 : decode cX20_least 31 = .ok (.iinc 6 1, 3) := dk_132 6 1 (dk_at dksX20_least_1 8 rfl rfl)
theorem dX20_least_34 : decode cX20_least 34 = .ok (.goto (-27), 3) := dk_167 255 229 (dk_at dksX20_least_1 11 rfl rfl)
theorem dX20_least_37 : decode cX20_least 37 = .ok (.iload 5, 2) := dk_21 5 (dk_at dksX20_least_1 14 rfl rfl)
theorem dX20_least_39 : decode cX20_least 39 = .ok (.ireturn, 1) := dk_172 (dk_at dksX20_least_1 16 rfl rfl)
abbrev cX20_with : ByteArray := prog_20_method_7_code
def yX20_with : MethodName := ⟨RX20, "with", "(IIIII)I"⟩
def dkwX20_with_4 : List UInt8 := [182, 0, 62, 46, 96, 172]
abbrev dktX20_with_4 : List UInt8 := dkwX20_with_4 ++ []
def dkwX20_with_3 : List UInt8 := [180, 0, 3, 180, 0, 58, 42, 27, 4, 96, 21, 6, 21, 7, 42, 27, 28, 21, 5, 182, 0, 125]
abbrev dktX20_with_3 : List UInt8 := dkwX20_with_3 ++ dktX20_with_4
def dkwX20_with_2 : List UInt8 := [180, 0, 48, 190, 27, 100, 4, 100, 164, 0, 6, 18, 120, 172, 42, 27, 28, 21, 5, 182, 0, 121, 42]
abbrev dktX20_with_2 : List UInt8 := dkwX20_with_2 ++ dktX20_with_3
def dkwX20_with_1 : List UInt8 := [167, 0, 4, 3, 100, 54, 7, 21, 6, 155, 0, 25, 21, 7, 155, 0, 20, 21, 6, 21, 7, 96, 42]
abbrev dktX20_with_1 : List UInt8 := dkwX20_with_1 ++ dktX20_with_2
def dkwX20_with_0 : List UInt8 := [29, 28, 4, 160, 0, 7, 4, 167, 0, 4, 3, 100, 54, 6, 21, 4, 28, 5, 160, 0, 7, 4]
abbrev dktX20_with_0 : List UInt8 := dkwX20_with_0 ++ dktX20_with_1
theorem dksX20_with_0 : cX20_with.data.toList.drop 0 = dktX20_with_0 := by decide +kernel
theorem dksX20_with_1 : cX20_with.data.toList.drop 22 = dktX20_with_1 := dk_seg dksX20_with_0 22 rfl rfl
theorem dksX20_with_2 : cX20_with.data.toList.drop 45 = dktX20_with_2 := dk_seg dksX20_with_1 23 rfl rfl
theorem dksX20_with_3 : cX20_with.data.toList.drop 68 = dktX20_with_3 := dk_seg dksX20_with_2 23 rfl rfl
theorem dksX20_with_4 : cX20_with.data.toList.drop 90 = dktX20_with_4 := dk_seg dksX20_with_3 22 rfl rfl
theorem dX20_with_0 : decode cX20_with 0 = .ok (.iload_n 3, 1) := dk_29 (dk_at dksX20_with_0 0 rfl rfl)
theorem dX20_with_1 : decode cX20_with 1 = .ok (.iload_n 2, 1) := dk_28 (dk_at dksX20_with_0 1 rfl rfl)
theorem dX20_with_2 : decode cX20_with 2 = .ok (.iconst 1, 1) := dk_4 (dk_at dksX20_with_0 2 rfl rfl)
theorem dX20_with_3 : decode cX20_with 3 = .ok (.if_icmp .ne 7, 3) := dk_160 0 7 (dk_at dksX20_with_0 3 rfl rfl)
theorem dX20_with_6 : decode cX20_with 6 = .ok (.iconst 1, 1) := dk_4 (dk_at dksX20_with_0 6 rfl rfl)
theorem dX20_with_7 : decode cX20_with 7 = .ok (.goto 4, 3) := dk_167 0 4 (dk_at dksX20_with_0 7 rfl rfl)
theorem dX20_with_10 : decode cX20_with 10 = .ok (.iconst 0, 1) := dk_3 (dk_at dksX20_with_0 10 rfl rfl)
theorem dX20_with_11 : decode cX20_with 11 = .ok (.isub, 1) := dk_100 (dk_at dksX20_with_0 11 rfl rfl)
theorem dX20_with_12 : decode cX20_with 12 = .ok (.istore 6, 2) := dk_54 6 (dk_at dksX20_with_0 12 rfl rfl)
theorem dX20_with_14 : decode cX20_with 14 = .ok (.iload 4, 2) := dk_21 4 (dk_at dksX20_with_0 14 rfl rfl)
theorem dX20_with_16 : decode cX20_with 16 = .ok (.iload_n 2, 1) := dk_28 (dk_at dksX20_with_0 16 rfl rfl)
theorem dX20_with_17 : decode cX20_with 17 = .ok (.iconst 2, 1) := dk_5 (dk_at dksX20_with_0 17 rfl rfl)
theorem dX20_with_18 : decode cX20_with 18 = .ok (.if_icmp .ne 7, 3) := dk_160 0 7 (dk_at dksX20_with_0 18 rfl rfl)
theorem dX20_with_21 : decode cX20_with 21 = .ok (.iconst 1, 1) := dk_4 (dk_at dksX20_with_0 21 rfl rfl)
theorem dX20_with_22 : decode cX20_with 22 = .ok (.goto 4, 3) := dk_167 0 4 (dk_at dksX20_with_1 0 rfl rfl)
theorem dX20_with_25 : decode cX20_with 25 = .ok (.iconst 0, 1) := dk_3 (dk_at dksX20_with_1 3 rfl rfl)
theorem dX20_with_26 : decode cX20_with 26 = .ok (.isub, 1) := dk_100 (dk_at dksX20_with_1 4 rfl rfl)
theorem dX20_with_27 : decode cX20_with 27 = .ok (.istore 7, 2) := dk_54 7 (dk_at dksX20_with_1 5 rfl rfl)
theorem dX20_with_29 : decode cX20_with 29 = .ok (.iload 6, 2) := dk_21 6 (dk_at dksX20_with_1 7 rfl rfl)
theorem dX20_with_31 : decode cX20_with 31 = .ok (.ifCond .lt 25, 3) := dk_155 0 25 (dk_at dksX20_with_1 9 rfl rfl)
theorem dX20_with_34 : decode cX20_with 34 = .ok (.iload 7, 2) := dk_21 7 (dk_at dksX20_with_1 12 rfl rfl)
theorem dX20_with_36 : decode cX20_with 36 = .ok (.ifCond .lt 20, 3) := dk_155 0 20 (dk_at dksX20_with_1 14 rfl rfl)
theorem dX20_with_39 : decode cX20_with 39 = .ok (.iload 6, 2) := dk_21 6 (dk_at dksX20_with_1 17 rfl rfl)
theorem dX20_with_41 : decode cX20_with 41 = .ok (.iload 7, 2) := dk_21 7 (dk_at dksX20_with_1 19 rfl rfl)
theorem dX20_with_43 : decode cX20_with 43 = .ok (.iadd, 1) := dk_96 (dk_at dksX20_with_1 21 rfl rfl)
theorem dX20_with_44 : decode cX20_with 44 = .ok (.aload_n 0, 1) := dk_42 (dk_at dksX20_with_1 22 rfl rfl)
theorem dX20_with_45 : decode cX20_with 45 = .ok (.getfield 48, 3) := dk_180 0 48 (dk_at dksX20_with_2 0 rfl rfl)
theorem dX20_with_48 : decode cX20_with 48 = .ok (.arraylength, 1) := dk_190 (dk_at dksX20_with_2 3 rfl rfl)
theorem dX20_with_49 : decode cX20_with 49 = .ok (.iload_n 1, 1) := dk_27 (dk_at dksX20_with_2 4 rfl rfl)
theorem dX20_with_50 : decode cX20_with 50 = .ok (.isub, 1) := dk_100 (dk_at dksX20_with_2 5 rfl rfl)
theorem dX20_with_51 : decode cX20_with 51 = .ok (.iconst 1, 1) := dk_4 (dk_at dksX20_with_2 6 rfl rfl)
theorem dX20_with_52 : decode cX20_with 52 = .ok (.isub, 1) := dk_100 (dk_at dksX20_with_2 7 rfl rfl)
theorem dX20_with_53 : decode cX20_with 53 = .ok (.if_icmp .le 6, 3) := dk_164 0 6 (dk_at dksX20_with_2 8 rfl rfl)
theorem dX20_with_56 : decode cX20_with 56 = .ok (.ldc 120, 2) := dk_18 120 (dk_at dksX20_with_2 11 rfl rfl)
theorem dX20_with_58 : decode cX20_with 58 = .ok (.ireturn, 1) := dk_172 (dk_at dksX20_with_2 13 rfl rfl)
theorem dX20_with_59 : decode cX20_with 59 = .ok (.aload_n 0, 1) := dk_42 (dk_at dksX20_with_2 14 rfl rfl)
theorem dX20_with_60 : decode cX20_with 60 = .ok (.iload_n 1, 1) := dk_27 (dk_at dksX20_with_2 15 rfl rfl)
theorem dX20_with_61 : decode cX20_with 61 = .ok (.iload_n 2, 1) := dk_28 (dk_at dksX20_with_2 16 rfl rfl)
theorem dX20_with_62 : decode cX20_with 62 = .ok (.iload 5, 2) := dk_21 5 (dk_at dksX20_with_2 17 rfl rfl)
theorem dX20_with_64 : decode cX20_with 64 = .ok (.invokevirtual 121, 3) := dk_182 0 121 (dk_at dksX20_with_2 19 rfl rfl)
theorem dX20_with_67 : decode cX20_with 67 = .ok (.aload_n 0, 1) := dk_42 (dk_at dksX20_with_2 22 rfl rfl)
theorem dX20_with_68 : decode cX20_with 68 = .ok (.getfield 3, 3) := dk_180 0 3 (dk_at dksX20_with_3 0 rfl rfl)
theorem dX20_with_71 : decode cX20_with 71 = .ok (.getfield 58, 3) := dk_180 0 58 (dk_at dksX20_with_3 3 rfl rfl)
theorem dX20_with_74 : decode cX20_with 74 = .ok (.aload_n 0, 1) := dk_42 (dk_at dksX20_with_3 6 rfl rfl)
theorem dX20_with_75 : decode cX20_with 75 = .ok (.iload_n 1, 1) := dk_27 (dk_at dksX20_with_3 7 rfl rfl)
theorem dX20_with_76 : decode cX20_with 76 = .ok (.iconst 1, 1) := dk_4 (dk_at dksX20_with_3 8 rfl rfl)
theorem dX20_with_77 : decode cX20_with 77 = .ok (.iadd, 1) := dk_96 (dk_at dksX20_with_3 9 rfl rfl)
theorem dX20_with_78 : decode cX20_with 78 = .ok (.iload 6, 2) := dk_21 6 (dk_at dksX20_with_3 10 rfl rfl)
theorem dX20_with_80 : decode cX20_with 80 = .ok (.iload 7, 2) := dk_21 7 (dk_at dksX20_with_3 12 rfl rfl)
theorem dX20_with_82 : decode cX20_with 82 = .ok (.aload_n 0, 1) := dk_42 (dk_at dksX20_with_3 14 rfl rfl)
theorem dX20_with_83 : decode cX20_with 83 = .ok (.iload_n 1, 1) := dk_27 (dk_at dksX20_with_3 15 rfl rfl)
theorem dX20_with_84 : decode cX20_with 84 = .ok (.iload_n 2, 1) := dk_28 (dk_at dksX20_with_3 16 rfl rfl)
theorem dX20_with_85 : decode cX20_with 85 = .ok (.iload 5, 2) := dk_21 5 (dk_at dksX20_with_3 17 rfl rfl)
theorem dX20_with_87 : decode cX20_with 87 = .ok (.invokevirtual 125, 3) := dk_182 0 125 (dk_at dksX20_with_3 19 rfl rfl)
theorem dX20_with_90 : decode cX20_with 90 = .ok (.invokevirtual 62, 3) := dk_182 0 62 (dk_at dksX20_with_4 0 rfl rfl)
theorem dX20_with_93 : decode cX20_with 93 = .ok (.iaload, 1) := dk_46 (dk_at dksX20_with_4 3 rfl rfl)
theorem dX20_with_94 : decode cX20_with 94 = .ok (.iadd, 1) := dk_96 (dk_at dksX20_with_4 4 rfl rfl)
theorem dX20_with_95 : decode cX20_with 95 = .ok (.ireturn, 1) := dk_172 (dk_at dksX20_with_4 5 rfl rfl)
abbrev cX20_cost : ByteArray := prog_20_method_5_code
def yX20_cost : MethodName := ⟨RX20, "cost", "(III)I"⟩
def dkwX20_cost_3 : List UInt8 := [54, 5, 132, 6, 1, 167, 255, 224, 21, 5, 172]
abbrev dktX20_cost_3 : List UInt8 := dkwX20_cost_3 ++ []
def dkwX20_cost_2 : List UInt8 := [163, 0, 32, 21, 5, 42, 180, 0, 3, 42, 180, 0, 48, 27, 50, 21, 6, 21, 4, 3, 182, 0, 116, 96]
abbrev dktX20_cost_2 : List UInt8 := dkwX20_cost_2 ++ dktX20_cost_3
def dkwX20_cost_1 : List UInt8 := [122, 4, 126, 4, 160, 0, 7, 4, 167, 0, 4, 3, 54, 4, 3, 54, 5, 4, 54, 6, 21, 6, 28]
abbrev dktX20_cost_1 : List UInt8 := dkwX20_cost_1 ++ dktX20_cost_2
def dkwX20_cost_0 : List UInt8 := [42, 180, 0, 48, 27, 50, 180, 0, 113, 158, 0, 26, 29, 42, 180, 0, 48, 27, 50, 180, 0, 113, 4, 100]
abbrev dktX20_cost_0 : List UInt8 := dkwX20_cost_0 ++ dktX20_cost_1
theorem dksX20_cost_0 : cX20_cost.data.toList.drop 0 = dktX20_cost_0 := by decide +kernel
theorem dksX20_cost_1 : cX20_cost.data.toList.drop 24 = dktX20_cost_1 := dk_seg dksX20_cost_0 24 rfl rfl
theorem dksX20_cost_2 : cX20_cost.data.toList.drop 47 = dktX20_cost_2 := dk_seg dksX20_cost_1 23 rfl rfl
theorem dksX20_cost_3 : cX20_cost.data.toList.drop 71 = dktX20_cost_3 := dk_seg dksX20_cost_2 24 rfl rfl
theorem dX20_cost_0 : decode cX20_cost 0 = .ok (.aload_n 0, 1) := dk_42 (dk_at dksX20_cost_0 0 rfl rfl)
theorem dX20_cost_1 : decode cX20_cost 1 = .ok (.getfield 48, 3) := dk_180 0 48 (dk_at dksX20_cost_0 1 rfl rfl)
theorem dX20_cost_4 : decode cX20_cost 4 = .ok (.iload_n 1, 1) := dk_27 (dk_at dksX20_cost_0 4 rfl rfl)
theorem dX20_cost_5 : decode cX20_cost 5 = .ok (.aaload, 1) := dk_50 (dk_at dksX20_cost_0 5 rfl rfl)
theorem dX20_cost_6 : decode cX20_cost 6 = .ok (.getfield 113, 3) := dk_180 0 113 (dk_at dksX20_cost_0 6 rfl rfl)
theorem dX20_cost_9 : decode cX20_cost 9 = .ok (.ifCond .le 26, 3) := dk_158 0 26 (dk_at dksX20_cost_0 9 rfl rfl)
theorem dX20_cost_12 : decode cX20_cost 12 = .ok (.iload_n 3, 1) := dk_29 (dk_at dksX20_cost_0 12 rfl rfl)
theorem dX20_cost_13 : decode cX20_cost 13 = .ok (.aload_n 0, 1) := dk_42 (dk_at dksX20_cost_0 13 rfl rfl)
theorem dX20_cost_14 : decode cX20_cost 14 = .ok (.getfield 48, 3) := dk_180 0 48 (dk_at dksX20_cost_0 14 rfl rfl)
theorem dX20_cost_17 : decode cX20_cost 17 = .ok (.iload_n 1, 1) := dk_27 (dk_at dksX20_cost_0 17 rfl rfl)
theorem dX20_cost_18 : decode cX20_cost 18 = .ok (.aaload, 1) := dk_50 (dk_at dksX20_cost_0 18 rfl rfl)
theorem dX20_cost_19 : decode cX20_cost 19 = .ok (.getfield 113, 3) := dk_180 0 113 (dk_at dksX20_cost_0 19 rfl rfl)
theorem dX20_cost_22 : decode cX20_cost 22 = .ok (.iconst 1, 1) := dk_4 (dk_at dksX20_cost_0 22 rfl rfl)
theorem dX20_cost_23 : decode cX20_cost 23 = .ok (.isub, 1) := dk_100 (dk_at dksX20_cost_0 23 rfl rfl)
theorem dX20_cost_24 : decode cX20_cost 24 = .ok (.ishr, 1) := dk_122 (dk_at dksX20_cost_1 0 rfl rfl)
theorem dX20_cost_25 : decode cX20_cost 25 = .ok (.iconst 1, 1) := dk_4 (dk_at dksX20_cost_1 1 rfl rfl)
theorem dX20_cost_26 : decode cX20_cost 26 = .ok (.iand, 1) := dk_126 (dk_at dksX20_cost_1 2 rfl rfl)
theorem dX20_cost_27 : decode cX20_cost 27 = .ok (.iconst 1, 1) := dk_4 (dk_at dksX20_cost_1 3 rfl rfl)
theorem dX20_cost_28 : decode cX20_cost 28 = .ok (.if_icmp .ne 7, 3) := dk_160 0 7 (dk_at dksX20_cost_1 4 rfl rfl)
theorem dX20_cost_31 : decode cX20_cost 31 = .ok (.iconst 1, 1) := dk_4 (dk_at dksX20_cost_1 7 rfl rfl)
theorem dX20_cost_32 : decode cX20_cost 32 = .ok (.goto 4, 3) := dk_167 0 4 (dk_at dksX20_cost_1 8 rfl rfl)
theorem dX20_cost_35 : decode cX20_cost 35 = .ok (.iconst 0, 1) := dk_3 (dk_at dksX20_cost_1 11 rfl rfl)
theorem dX20_cost_36 : decode cX20_cost 36 = .ok (.istore 4, 2) := dk_54 4 (dk_at dksX20_cost_1 12 rfl rfl)
theorem dX20_cost_38 : decode cX20_cost 38 = .ok (.iconst 0, 1) := dk_3 (dk_at dksX20_cost_1 14 rfl rfl)
theorem dX20_cost_39 : decode cX20_cost 39 = .ok (.istore 5, 2) := dk_54 5 (dk_at dksX20_cost_1 15 rfl rfl)
theorem dX20_cost_41 : decode cX20_cost 41 = .ok (.iconst 1, 1) := dk_4 (dk_at dksX20_cost_1 17 rfl rfl)
theorem dX20_cost_42 : decode cX20_cost 42 = .ok (.istore 6, 2) := dk_54 6 (dk_at dksX20_cost_1 18 rfl rfl)
theorem dX20_cost_44 : decode cX20_cost 44 = .ok (.iload 6, 2) := dk_21 6 (dk_at dksX20_cost_1 20 rfl rfl)
theorem dX20_cost_46 : decode cX20_cost 46 = .ok (.iload_n 2, 1) := dk_28 (dk_at dksX20_cost_1 22 rfl rfl)
theorem dX20_cost_47 : decode cX20_cost 47 = .ok (.if_icmp .gt 32, 3) := dk_163 0 32 (dk_at dksX20_cost_2 0 rfl rfl)
theorem dX20_cost_50 : decode cX20_cost 50 = .ok (.iload 5, 2) := dk_21 5 (dk_at dksX20_cost_2 3 rfl rfl)
theorem dX20_cost_52 : decode cX20_cost 52 = .ok (.aload_n 0, 1) := dk_42 (dk_at dksX20_cost_2 5 rfl rfl)
theorem dX20_cost_53 : decode cX20_cost 53 = .ok (.getfield 3, 3) := dk_180 0 3 (dk_at dksX20_cost_2 6 rfl rfl)
theorem dX20_cost_56 : decode cX20_cost 56 = .ok (.aload_n 0, 1) := dk_42 (dk_at dksX20_cost_2 9 rfl rfl)
theorem dX20_cost_57 : decode cX20_cost 57 = .ok (.getfield 48, 3) := dk_180 0 48 (dk_at dksX20_cost_2 10 rfl rfl)
theorem dX20_cost_60 : decode cX20_cost 60 = .ok (.iload_n 1, 1) := dk_27 (dk_at dksX20_cost_2 13 rfl rfl)
theorem dX20_cost_61 : decode cX20_cost 61 = .ok (.aaload, 1) := dk_50 (dk_at dksX20_cost_2 14 rfl rfl)
theorem dX20_cost_62 : decode cX20_cost 62 = .ok (.iload 6, 2) := dk_21 6 (dk_at dksX20_cost_2 15 rfl rfl)
theorem dX20_cost_64 : decode cX20_cost 64 = .ok (.iload 4, 2) := dk_21 4 (dk_at dksX20_cost_2 17 rfl rfl)
theorem dX20_cost_66 : decode cX20_cost 66 = .ok (.iconst 0, 1) := dk_3 (dk_at dksX20_cost_2 19 rfl rfl)
theorem dX20_cost_67 : decode cX20_cost 67 = .ok (.invokevirtual 116, 3) := dk_182 0 116 (dk_at dksX20_cost_2 20 rfl rfl)
theorem dX20_cost_70 : decode cX20_cost 70 = .ok (.iadd, 1) := dk_96 (dk_at dksX20_cost_2 23 rfl rfl)
theorem dX20_cost_71 : decode cX20_cost 71 = .ok (.istore 5, 2) := dk_54 5 (dk_at dksX20_cost_3 0 rfl rfl)
theorem dX20_cost_73 : decode cX20_cost 73 = .ok (.iinc 6 1, 3) := dk_132 6 1 (dk_at dksX20_cost_3 2 rfl rfl)
theorem dX20_cost_76 : decode cX20_cost 76 = .ok (.goto (-32), 3) := dk_167 255 224 (dk_at dksX20_cost_3 5 rfl rfl)
theorem dX20_cost_79 : decode cX20_cost 79 = .ok (.iload 5, 2) := dk_21 5 (dk_at dksX20_cost_3 8 rfl rfl)
theorem dX20_cost_81 : decode cX20_cost 81 = .ok (.ireturn, 1) := dk_172 (dk_at dksX20_cost_3 10 rfl rfl)
abbrev cX20_after : ByteArray := prog_20_method_6_code
def yX20_after : MethodName := ⟨RX20, "after", "(III)I"⟩
def dkwX20_after_1 : List UInt8 := [180, 0, 113, 4, 100, 120, 128, 167, 0, 4, 29, 172]
abbrev dktX20_after_1 : List UInt8 := dkwX20_after_1 ++ []
def dkwX20_after_0 : List UInt8 := [28, 158, 0, 33, 42, 180, 0, 48, 27, 50, 180, 0, 113, 158, 0, 21, 29, 4, 42, 180, 0, 48, 27, 50]
abbrev dktX20_after_0 : List UInt8 := dkwX20_after_0 ++ dktX20_after_1
theorem dksX20_after_0 : cX20_after.data.toList.drop 0 = dktX20_after_0 := by decide +kernel
theorem dksX20_after_1 : cX20_after.data.toList.drop 24 = dktX20_after_1 := dk_seg dksX20_after_0 24 rfl rfl
theorem dX20_after_0 : decode cX20_after 0 = .ok (.iload_n 2, 1) := dk_28 (dk_at dksX20_after_0 0 rfl rfl)
theorem dX20_after_1 : decode cX20_after 1 = .ok (.ifCond .le 33, 3) := dk_158 0 33 (dk_at dksX20_after_0 1 rfl rfl)
theorem dX20_after_4 : decode cX20_after 4 = .ok (.aload_n 0, 1) := dk_42 (dk_at dksX20_after_0 4 rfl rfl)
theorem dX20_after_5 : decode cX20_after 5 = .ok (.getfield 48, 3) := dk_180 0 48 (dk_at dksX20_after_0 5 rfl rfl)
theorem dX20_after_8 : decode cX20_after 8 = .ok (.iload_n 1, 1) := dk_27 (dk_at dksX20_after_0 8 rfl rfl)
theorem dX20_after_9 : decode cX20_after 9 = .ok (.aaload, 1) := dk_50 (dk_at dksX20_after_0 9 rfl rfl)
theorem dX20_after_10 : decode cX20_after 10 = .ok (.getfield 113, 3) := dk_180 0 113 (dk_at dksX20_after_0 10 rfl rfl)
theorem dX20_after_13 : decode cX20_after 13 = .ok (.ifCond .le 21, 3) := dk_158 0 21 (dk_at dksX20_after_0 13 rfl rfl)
theorem dX20_after_16 : decode cX20_after 16 = .ok (.iload_n 3, 1) := dk_29 (dk_at dksX20_after_0 16 rfl rfl)
theorem dX20_after_17 : decode cX20_after 17 = .ok (.iconst 1, 1) := dk_4 (dk_at dksX20_after_0 17 rfl rfl)
theorem dX20_after_18 : decode cX20_after 18 = .ok (.aload_n 0, 1) := dk_42 (dk_at dksX20_after_0 18 rfl rfl)
theorem dX20_after_19 : decode cX20_after 19 = .ok (.getfield 48, 3) := dk_180 0 48 (dk_at dksX20_after_0 19 rfl rfl)
theorem dX20_after_22 : decode cX20_after 22 = .ok (.iload_n 1, 1) := dk_27 (dk_at dksX20_after_0 22 rfl rfl)
theorem dX20_after_23 : decode cX20_after 23 = .ok (.aaload, 1) := dk_50 (dk_at dksX20_after_0 23 rfl rfl)
theorem dX20_after_24 : decode cX20_after 24 = .ok (.getfield 113, 3) := dk_180 0 113 (dk_at dksX20_after_1 0 rfl rfl)
theorem dX20_after_27 : decode cX20_after 27 = .ok (.iconst 1, 1) := dk_4 (dk_at dksX20_after_1 3 rfl rfl)
theorem dX20_after_28 : decode cX20_after 28 = .ok (.isub, 1) := dk_100 (dk_at dksX20_after_1 4 rfl rfl)
theorem dX20_after_29 : decode cX20_after 29 = .ok (.ishl, 1) := dk_120 (dk_at dksX20_after_1 5 rfl rfl)
theorem dX20_after_30 : decode cX20_after 30 = .ok (.ior, 1) := dk_128 (dk_at dksX20_after_1 6 rfl rfl)
theorem dX20_after_31 : decode cX20_after 31 = .ok (.goto 4, 3) := dk_167 0 4 (dk_at dksX20_after_1 7 rfl rfl)
theorem dX20_after_34 : decode cX20_after 34 = .ok (.iload_n 3, 1) := dk_29 (dk_at dksX20_after_1 10 rfl rfl)
theorem dX20_after_35 : decode cX20_after 35 = .ok (.ireturn, 1) := dk_172 (dk_at dksX20_after_1 11 rfl rfl)
abbrev cX20_lie : ByteArray := prog_20_method_2_code
def yX20_lie : MethodName := ⟨RX20, "lie", "(LExamSlips$Answers;I)V"⟩
def dkwX20_lie_6 : List UInt8 := [132, 4, 1, 167, 255, 163, 132, 3, 1, 167, 255, 149, 177]
abbrev dktX20_lie_6 : List UInt8 := dkwX20_lie_6 ++ []
def dkwX20_lie_5 : List UInt8 := [55, 6, 132, 8, 1, 167, 255, 235, 42, 180, 0, 19, 29, 16, 21, 104, 21, 4, 96, 22, 6, 80]
abbrev dktX20_lie_5 : List UInt8 := dkwX20_lie_5 ++ dktX20_lie_6
def dkwX20_lie_4 : List UInt8 := [180, 0, 69, 5, 46, 54, 8, 21, 8, 25, 5, 190, 162, 0, 19, 22, 6, 25, 5, 21, 8, 47, 97]
abbrev dktX20_lie_4 : List UInt8 := dkwX20_lie_4 ++ dktX20_lie_5
def dkwX20_lie_3 : List UInt8 := [89, 4, 29, 79, 89, 5, 21, 4, 79, 182, 0, 109, 58, 5, 9, 55, 6, 42, 180, 0, 3, 180, 0, 28]
abbrev dktX20_lie_3 : List UInt8 := dkwX20_lie_3 ++ dktX20_lie_4
def dkwX20_lie_2 : List UInt8 := [3, 54, 4, 29, 21, 4, 96, 28, 163, 0, 91, 43, 6, 188, 10, 89, 3, 28, 29, 100, 21, 4, 100, 79]
abbrev dktX20_lie_2 : List UInt8 := dkwX20_lie_2 ++ dktX20_lie_3
def dkwX20_lie_1 : List UInt8 := [89, 180, 0, 99, 20, 0, 107, 105, 181, 0, 99, 132, 3, 1, 167, 255, 233, 3, 62, 29, 28, 163, 0, 108]
abbrev dktX20_lie_1 : List UInt8 := dkwX20_lie_1 ++ dktX20_lie_2
def dkwX20_lie_0 : List UInt8 := [42, 42, 180, 0, 48, 190, 28, 184, 0, 95, 181, 0, 99, 3, 62, 29, 43, 180, 0, 103, 162, 0, 21, 42]
abbrev dktX20_lie_0 : List UInt8 := dkwX20_lie_0 ++ dktX20_lie_1
theorem dksX20_lie_0 : cX20_lie.data.toList.drop 0 = dktX20_lie_0 := by decide +kernel
theorem dksX20_lie_1 : cX20_lie.data.toList.drop 24 = dktX20_lie_1 := dk_seg dksX20_lie_0 24 rfl rfl
theorem dksX20_lie_2 : cX20_lie.data.toList.drop 48 = dktX20_lie_2 := dk_seg dksX20_lie_1 24 rfl rfl
theorem dksX20_lie_3 : cX20_lie.data.toList.drop 72 = dktX20_lie_3 := dk_seg dksX20_lie_2 24 rfl rfl
theorem dksX20_lie_4 : cX20_lie.data.toList.drop 96 = dktX20_lie_4 := dk_seg dksX20_lie_3 24 rfl rfl
theorem dksX20_lie_5 : cX20_lie.data.toList.drop 119 = dktX20_lie_5 := dk_seg dksX20_lie_4 23 rfl rfl
theorem dksX20_lie_6 : cX20_lie.data.toList.drop 141 = dktX20_lie_6 := dk_seg dksX20_lie_5 22 rfl rfl
theorem dX20_lie_0 : decode cX20_lie 0 = .ok (.aload_n 0, 1) := dk_42 (dk_at dksX20_lie_0 0 rfl rfl)
theorem dX20_lie_1 : decode cX20_lie 1 = .ok (.aload_n 0, 1) := dk_42 (dk_at dksX20_lie_0 1 rfl rfl)
theorem dX20_lie_2 : decode cX20_lie 2 = .ok (.getfield 48, 3) := dk_180 0 48 (dk_at dksX20_lie_0 2 rfl rfl)
theorem dX20_lie_5 : decode cX20_lie 5 = .ok (.arraylength, 1) := dk_190 (dk_at dksX20_lie_0 5 rfl rfl)
theorem dX20_lie_6 : decode cX20_lie 6 = .ok (.iload_n 2, 1) := dk_28 (dk_at dksX20_lie_0 6 rfl rfl)
theorem dX20_lie_7 : decode cX20_lie 7 = .ok (.invokestatic 95, 3) := dk_184 0 95 (dk_at dksX20_lie_0 7 rfl rfl)
theorem dX20_lie_10 : decode cX20_lie 10 = .ok (.putfield 99, 3) := dk_181 0 99 (dk_at dksX20_lie_0 10 rfl rfl)
theorem dX20_lie_13 : decode cX20_lie 13 = .ok (.iconst 0, 1) := dk_3 (dk_at dksX20_lie_0 13 rfl rfl)
theorem dX20_lie_14 : decode cX20_lie 14 = .ok (.istore_n 3, 1) := dk_62 (dk_at dksX20_lie_0 14 rfl rfl)
theorem dX20_lie_15 : decode cX20_lie 15 = .ok (.iload_n 3, 1) := dk_29 (dk_at dksX20_lie_0 15 rfl rfl)
theorem dX20_lie_16 : decode cX20_lie 16 = .ok (.aload_n 1, 1) := dk_43 (dk_at dksX20_lie_0 16 rfl rfl)
theorem dX20_lie_17 : decode cX20_lie 17 = .ok (.getfield 103, 3) := dk_180 0 103 (dk_at dksX20_lie_0 17 rfl rfl)
theorem dX20_lie_20 : decode cX20_lie 20 = .ok (.if_icmp .ge 21, 3) := dk_162 0 21 (dk_at dksX20_lie_0 20 rfl rfl)
theorem dX20_lie_23 : decode cX20_lie 23 = .ok (.aload_n 0, 1) := dk_42 (dk_at dksX20_lie_0 23 rfl rfl)
theorem dX20_lie_24 : decode cX20_lie 24 = .ok (.dup, 1) := dk_89 (dk_at dksX20_lie_1 0 rfl rfl)
theorem dX20_lie_25 : decode cX20_lie 25 = .ok (.getfield 99, 3) := dk_180 0 99 (dk_at dksX20_lie_1 1 rfl rfl)
theorem dX20_lie_28 : decode cX20_lie 28 = .ok (.ldc2_w 107, 3) := dk_20 0 107 (dk_at dksX20_lie_1 4 rfl rfl)
theorem dX20_lie_31 : decode cX20_lie 31 = .ok (.lmul, 1) := dk_105 (dk_at dksX20_lie_1 7 rfl rfl)
theorem dX20_lie_32 : decode cX20_lie 32 = .ok (.putfield 99, 3) := dk_181 0 99 (dk_at dksX20_lie_1 8 rfl rfl)
theorem dX20_lie_35 : decode cX20_lie 35 = .ok (.iinc 3 1, 3) := dk_132 3 1 (dk_at dksX20_lie_1 11 rfl rfl)
theorem dX20_lie_38 : decode cX20_lie 38 = .ok (.goto (-23), 3) := dk_167 255 233 (dk_at dksX20_lie_1 14 rfl rfl)
theorem dX20_lie_41 : decode cX20_lie 41 = .ok (.iconst 0, 1) := dk_3 (dk_at dksX20_lie_1 17 rfl rfl)
theorem dX20_lie_42 : decode cX20_lie 42 = .ok (.istore_n 3, 1) := dk_62 (dk_at dksX20_lie_1 18 rfl rfl)
theorem dX20_lie_43 : decode cX20_lie 43 = .ok (.iload_n 3, 1) := dk_29 (dk_at dksX20_lie_1 19 rfl rfl)
theorem dX20_lie_44 : decode cX20_lie 44 = .ok (.iload_n 2, 1) := dk_28 (dk_at dksX20_lie_1 20 rfl rfl)
theorem dX20_lie_45 : decode cX20_lie 45 = .ok (.if_icmp .gt 108, 3) := dk_163 0 108 (dk_at dksX20_lie_1 21 rfl rfl)
theorem dX20_lie_48 : decode cX20_lie 48 = .ok (.iconst 0, 1) := dk_3 (dk_at dksX20_lie_2 0 rfl rfl)
theorem dX20_lie_49 : decode cX20_lie 49 = .ok (.istore 4, 2) := dk_54 4 (dk_at dksX20_lie_2 1 rfl rfl)
theorem dX20_lie_51 : decode cX20_lie 51 = .ok (.iload_n 3, 1) := dk_29 (dk_at dksX20_lie_2 3 rfl rfl)
theorem dX20_lie_52 : decode cX20_lie 52 = .ok (.iload 4, 2) := dk_21 4 (dk_at dksX20_lie_2 4 rfl rfl)
theorem dX20_lie_54 : decode cX20_lie 54 = .ok (.iadd, 1) := dk_96 (dk_at dksX20_lie_2 6 rfl rfl)
theorem dX20_lie_55 : decode cX20_lie 55 = .ok (.iload_n 2, 1) := dk_28 (dk_at dksX20_lie_2 7 rfl rfl)
theorem dX20_lie_56 : decode cX20_lie 56 = .ok (.if_icmp .gt 91, 3) := dk_163 0 91 (dk_at dksX20_lie_2 8 rfl rfl)
theorem dX20_lie_59 : decode cX20_lie 59 = .ok (.aload_n 1, 1) := dk_43 (dk_at dksX20_lie_2 11 rfl rfl)
theorem dX20_lie_60 : decode cX20_lie 60 = .ok (.iconst 3, 1) := dk_6 (dk_at dksX20_lie_2 12 rfl rfl)
theorem dX20_lie_61 : decode cX20_lie 61 = .ok (.newarray .int, 2) := dk_188_10 (dk_at dksX20_lie_2 13 rfl rfl)
theorem dX20_lie_63 : decode cX20_lie 63 = .ok (.dup, 1) := dk_89 (dk_at dksX20_lie_2 15 rfl rfl)
theorem dX20_lie_64 : decode cX20_lie 64 = .ok (.iconst 0, 1) := dk_3 (dk_at dksX20_lie_2 16 rfl rfl)
theorem dX20_lie_65 : decode cX20_lie 65 = .ok (.iload_n 2, 1) := dk_28 (dk_at dksX20_lie_2 17 rfl rfl)
theorem dX20_lie_66 : decode cX20_lie 66 = .ok (.iload_n 3, 1) := dk_29 (dk_at dksX20_lie_2 18 rfl rfl)
theorem dX20_lie_67 : decode cX20_lie 67 = .ok (.isub, 1) := dk_100 (dk_at dksX20_lie_2 19 rfl rfl)
theorem dX20_lie_68 : decode cX20_lie 68 = .ok (.iload 4, 2) := dk_21 4 (dk_at dksX20_lie_2 20 rfl rfl)
theorem dX20_lie_70 : decode cX20_lie 70 = .ok (.isub, 1) := dk_100 (dk_at dksX20_lie_2 22 rfl rfl)
theorem dX20_lie_71 : decode cX20_lie 71 = .ok (.iastore, 1) := dk_79 (dk_at dksX20_lie_2 23 rfl rfl)
theorem dX20_lie_72 : decode cX20_lie 72 = .ok (.dup, 1) := dk_89 (dk_at dksX20_lie_3 0 rfl rfl)
theorem dX20_lie_73 : decode cX20_lie 73 = .ok (.iconst 1, 1) := dk_4 (dk_at dksX20_lie_3 1 rfl rfl)
theorem dX20_lie_74 : decode cX20_lie 74 = .ok (.iload_n 3, 1) := dk_29 (dk_at dksX20_lie_3 2 rfl rfl)
theorem dX20_lie_75 : decode cX20_lie 75 = .ok (.iastore, 1) := dk_79 (dk_at dksX20_lie_3 3 rfl rfl)
theorem dX20_lie_76 : decode cX20_lie 76 = .ok (.dup, 1) := dk_89 (dk_at dksX20_lie_3 4 rfl rfl)
theorem dX20_lie_77 : decode cX20_lie 77 = .ok (.iconst 2, 1) := dk_5 (dk_at dksX20_lie_3 5 rfl rfl)
theorem dX20_lie_78 : decode cX20_lie 78 = .ok (.iload 4, 2) := dk_21 4 (dk_at dksX20_lie_3 6 rfl rfl)
theorem dX20_lie_80 : decode cX20_lie 80 = .ok (.iastore, 1) := dk_79 (dk_at dksX20_lie_3 8 rfl rfl)
theorem dX20_lie_81 : decode cX20_lie 81 = .ok (.invokevirtual 109, 3) := dk_182 0 109 (dk_at dksX20_lie_3 9 rfl rfl)
theorem dX20_lie_84 : decode cX20_lie 84 = .ok (.astore 5, 2) := dk_58 5 (dk_at dksX20_lie_3 12 rfl rfl)
theorem dX20_lie_86 : decode cX20_lie 86 = .ok (.lconst 0, 1) := dk_9 (dk_at dksX20_lie_3 14 rfl rfl)
theorem dX20_lie_87 : decode cX20_lie 87 = .ok (.lstore 6, 2) := dk_55 6 (dk_at dksX20_lie_3 15 rfl rfl)
theorem dX20_lie_89 : decode cX20_lie 89 = .ok (.aload_n 0, 1) := dk_42 (dk_at dksX20_lie_3 17 rfl rfl)
theorem dX20_lie_90 : decode cX20_lie 90 = .ok (.getfield 3, 3) := dk_180 0 3 (dk_at dksX20_lie_3 18 rfl rfl)
theorem dX20_lie_93 : decode cX20_lie 93 = .ok (.getfield 28, 3) := dk_180 0 28 (dk_at dksX20_lie_3 21 rfl rfl)
theorem dX20_lie_96 : decode cX20_lie 96 = .ok (.getfield 69, 3) := dk_180 0 69 (dk_at dksX20_lie_4 0 rfl rfl)
theorem dX20_lie_99 : decode cX20_lie 99 = .ok (.iconst 2, 1) := dk_5 (dk_at dksX20_lie_4 3 rfl rfl)
theorem dX20_lie_100 : decode cX20_lie 100 = .ok (.iaload, 1) := dk_46 (dk_at dksX20_lie_4 4 rfl rfl)
theorem dX20_lie_101 : decode cX20_lie 101 = .ok (.istore 8, 2) := dk_54 8 (dk_at dksX20_lie_4 5 rfl rfl)
theorem dX20_lie_103 : decode cX20_lie 103 = .ok (.iload 8, 2) := dk_21 8 (dk_at dksX20_lie_4 7 rfl rfl)
theorem dX20_lie_105 : decode cX20_lie 105 = .ok (.aload 5, 2) := dk_25 5 (dk_at dksX20_lie_4 9 rfl rfl)
theorem dX20_lie_107 : decode cX20_lie 107 = .ok (.arraylength, 1) := dk_190 (dk_at dksX20_lie_4 11 rfl rfl)
theorem dX20_lie_108 : decode cX20_lie 108 = .ok (.if_icmp .ge 19, 3) := dk_162 0 19 (dk_at dksX20_lie_4 12 rfl rfl)
theorem dX20_lie_111 : decode cX20_lie 111 = .ok (.lload 6, 2) := dk_22 6 (dk_at dksX20_lie_4 15 rfl rfl)
theorem dX20_lie_113 : decode cX20_lie 113 = .ok (.aload 5, 2) := dk_25 5 (dk_at dksX20_lie_4 17 rfl rfl)
theorem dX20_lie_115 : decode cX20_lie 115 = .ok (.iload 8, 2) := dk_21 8 (dk_at dksX20_lie_4 19 rfl rfl)
theorem dX20_lie_117 : decode cX20_lie 117 = .ok (.laload, 1) := dk_47 (dk_at dksX20_lie_4 21 rfl rfl)
theorem dX20_lie_118 : decode cX20_lie 118 = .ok (.ladd, 1) := dk_97 (dk_at dksX20_lie_4 22 rfl rfl)
theorem dX20_lie_119 : decode cX20_lie 119 = .ok (.lstore 6, 2) := dk_55 6 (dk_at dksX20_lie_5 0 rfl rfl)
theorem dX20_lie_121 : decode cX20_lie 121 = .ok (.iinc 8 1, 3) := dk_132 8 1 (dk_at dksX20_lie_5 2 rfl rfl)
theorem dX20_lie_124 : decode cX20_lie 124 = .ok (.goto (-21), 3) := dk_167 255 235 (dk_at dksX20_lie_5 5 rfl rfl)
theorem dX20_lie_127 : decode cX20_lie 127 = .ok (.aload_n 0, 1) := dk_42 (dk_at dksX20_lie_5 8 rfl rfl)
theorem dX20_lie_128 : decode cX20_lie 128 = .ok (.getfield 19, 3) := dk_180 0 19 (dk_at dksX20_lie_5 9 rfl rfl)
theorem dX20_lie_131 : decode cX20_lie 131 = .ok (.iload_n 3, 1) := dk_29 (dk_at dksX20_lie_5 12 rfl rfl)
theorem dX20_lie_132 : decode cX20_lie 132 = .ok (.bipush 21, 2) := dk_16 21 (dk_at dksX20_lie_5 13 rfl rfl)
theorem dX20_lie_134 : decode cX20_lie 134 = .ok (.imul, 1) := dk_104 (dk_at dksX20_lie_5 15 rfl rfl)
theorem dX20_lie_135 : decode cX20_lie 135 = .ok (.iload 4, 2) := dk_21 4 (dk_at dksX20_lie_5 16 rfl rfl)
theorem dX20_lie_137 : decode cX20_lie 137 = .ok (.iadd, 1) := dk_96 (dk_at dksX20_lie_5 18 rfl rfl)
theorem dX20_lie_138 : decode cX20_lie 138 = .ok (.lload 6, 2) := dk_22 6 (dk_at dksX20_lie_5 19 rfl rfl)
theorem dX20_lie_140 : decode cX20_lie 140 = .ok (.lastore, 1) := dk_80 (dk_at dksX20_lie_5 21 rfl rfl)
theorem dX20_lie_141 : decode cX20_lie 141 = .ok (.iinc 4 1, 3) := dk_132 4 1 (dk_at dksX20_lie_6 0 rfl rfl)
theorem dX20_lie_144 : decode cX20_lie 144 = .ok (.goto (-93), 3) := dk_167 255 163 (dk_at dksX20_lie_6 3 rfl rfl)
theorem dX20_lie_147 : decode cX20_lie 147 = .ok (.iinc 3 1, 3) := dk_132 3 1 (dk_at dksX20_lie_6 6 rfl rfl)
theorem dX20_lie_150 : decode cX20_lie 150 = .ok (.goto (-107), 3) := dk_167 255 149 (dk_at dksX20_lie_6 9 rfl rfl)
theorem dX20_lie_153 : decode cX20_lie 153 = .ok (.return_, 1) := dk_177 (dk_at dksX20_lie_6 12 rfl rfl)
abbrev cX20_weigh : ByteArray := prog_20_method_4_code
def yX20_weigh : MethodName := ⟨RX20, "weigh", "(III)J"⟩
def dkwX20_weigh_4 : List UInt8 := [167, 255, 169, 22, 4, 173]
abbrev dktX20_weigh_4 : List UInt8 := dkwX20_weigh_4 ++ []
def dkwX20_weigh_3 : List UInt8 := [21, 6, 16, 21, 104, 21, 7, 96, 47, 105, 97, 55, 4, 132, 7, 1, 167, 255, 188, 132, 6, 1]
abbrev dktX20_weigh_3 : List UInt8 := dkwX20_weigh_3 ++ dktX20_weigh_4
def dkwX20_weigh_2 : List UInt8 := [42, 180, 0, 48, 190, 27, 100, 28, 100, 29, 21, 6, 100, 21, 7, 100, 184, 0, 95, 105, 42, 180, 0, 19]
abbrev dktX20_weigh_2 : List UInt8 := dkwX20_weigh_2 ++ dktX20_weigh_3
def dkwX20_weigh_1 : List UInt8 := [21, 6, 100, 184, 0, 72, 163, 0, 61, 22, 4, 27, 21, 6, 184, 0, 95, 28, 21, 7, 184, 0, 95, 105]
abbrev dktX20_weigh_1 : List UInt8 := dkwX20_weigh_1 ++ dktX20_weigh_2
def dkwX20_weigh_0 : List UInt8 := [9, 55, 4, 3, 54, 6, 21, 6, 27, 29, 184, 0, 72, 163, 0, 83, 3, 54, 7, 21, 7, 28, 29]
abbrev dktX20_weigh_0 : List UInt8 := dkwX20_weigh_0 ++ dktX20_weigh_1
theorem dksX20_weigh_0 : cX20_weigh.data.toList.drop 0 = dktX20_weigh_0 := by decide +kernel
theorem dksX20_weigh_1 : cX20_weigh.data.toList.drop 23 = dktX20_weigh_1 := dk_seg dksX20_weigh_0 23 rfl rfl
theorem dksX20_weigh_2 : cX20_weigh.data.toList.drop 47 = dktX20_weigh_2 := dk_seg dksX20_weigh_1 24 rfl rfl
theorem dksX20_weigh_3 : cX20_weigh.data.toList.drop 71 = dktX20_weigh_3 := dk_seg dksX20_weigh_2 24 rfl rfl
theorem dksX20_weigh_4 : cX20_weigh.data.toList.drop 93 = dktX20_weigh_4 := dk_seg dksX20_weigh_3 22 rfl rfl
theorem dX20_weigh_0 : decode cX20_weigh 0 = .ok (.lconst 0, 1) := dk_9 (dk_at dksX20_weigh_0 0 rfl rfl)
theorem dX20_weigh_1 : decode cX20_weigh 1 = .ok (.lstore 4, 2) := dk_55 4 (dk_at dksX20_weigh_0 1 rfl rfl)
theorem dX20_weigh_3 : decode cX20_weigh 3 = .ok (.iconst 0, 1) := dk_3 (dk_at dksX20_weigh_0 3 rfl rfl)
theorem dX20_weigh_4 : decode cX20_weigh 4 = .ok (.istore 6, 2) := dk_54 6 (dk_at dksX20_weigh_0 4 rfl rfl)
theorem dX20_weigh_6 : decode cX20_weigh 6 = .ok (.iload 6, 2) := dk_21 6 (dk_at dksX20_weigh_0 6 rfl rfl)
theorem dX20_weigh_8 : decode cX20_weigh 8 = .ok (.iload_n 1, 1) := dk_27 (dk_at dksX20_weigh_0 8 rfl rfl)
theorem dX20_weigh_9 : decode cX20_weigh 9 = .ok (.iload_n 3, 1) := dk_29 (dk_at dksX20_weigh_0 9 rfl rfl)
theorem dX20_weigh_10 : decode cX20_weigh 10 = .ok (.invokestatic 72, 3) := dk_184 0 72 (dk_at dksX20_weigh_0 10 rfl rfl)
theorem dX20_weigh_13 : decode cX20_weigh 13 = .ok (.if_icmp .gt 83, 3) := dk_163 0 83 (dk_at dksX20_weigh_0 13 rfl rfl)
theorem dX20_weigh_16 : decode cX20_weigh 16 = .ok (.iconst 0, 1) := dk_3 (dk_at dksX20_weigh_0 16 rfl rfl)
theorem dX20_weigh_17 : decode cX20_weigh 17 = .ok (.istore 7, 2) := dk_54 7 (dk_at dksX20_weigh_0 17 rfl rfl)
theorem dX20_weigh_19 : decode cX20_weigh 19 = .ok (.iload 7, 2) := dk_21 7 (dk_at dksX20_weigh_0 19 rfl rfl)
theorem dX20_weigh_21 : decode cX20_weigh 21 = .ok (.iload_n 2, 1) := dk_28 (dk_at dksX20_weigh_0 21 rfl rfl)
theorem dX20_weigh_22 : decode cX20_weigh 22 = .ok (.iload_n 3, 1) := dk_29 (dk_at dksX20_weigh_0 22 rfl rfl)
theorem dX20_weigh_23 : decode cX20_weigh 23 = .ok (.iload 6, 2) := dk_21 6 (dk_at dksX20_weigh_1 0 rfl rfl)
theorem dX20_weigh_25 : decode cX20_weigh 25 = .ok (.isub, 1) := dk_100 (dk_at dksX20_weigh_1 2 rfl rfl)
theorem dX20_weigh_26 : decode cX20_weigh 26 = .ok (.invokestatic 72, 3) := dk_184 0 72 (dk_at dksX20_weigh_1 3 rfl rfl)
theorem dX20_weigh_29 : decode cX20_weigh 29 = .ok (.if_icmp .gt 61, 3) := dk_163 0 61 (dk_at dksX20_weigh_1 6 rfl rfl)
theorem dX20_weigh_32 : decode cX20_weigh 32 = .ok (.lload 4, 2) := dk_22 4 (dk_at dksX20_weigh_1 9 rfl rfl)
theorem dX20_weigh_34 : decode cX20_weigh 34 = .ok (.iload_n 1, 1) := dk_27 (dk_at dksX20_weigh_1 11 rfl rfl)
theorem dX20_weigh_35 : decode cX20_weigh 35 = .ok (.iload 6, 2) := dk_21 6 (dk_at dksX20_weigh_1 12 rfl rfl)
theorem dX20_weigh_37 : decode cX20_weigh 37 = .ok (.invokestatic 95, 3) := dk_184 0 95 (dk_at dksX20_weigh_1 14 rfl rfl)
theorem dX20_weigh_40 : decode cX20_weigh 40 = .ok (.iload_n 2, 1) := dk_28 (dk_at dksX20_weigh_1 17 rfl rfl)
theorem dX20_weigh_41 : decode cX20_weigh 41 = .ok (.iload 7, 2) := dk_21 7 (dk_at dksX20_weigh_1 18 rfl rfl)
theorem dX20_weigh_43 : decode cX20_weigh 43 = .ok (.invokestatic 95, 3) := dk_184 0 95 (dk_at dksX20_weigh_1 20 rfl rfl)
theorem dX20_weigh_46 : decode cX20_weigh 46 = .ok (.lmul, 1) := dk_105 (dk_at dksX20_weigh_1 23 rfl rfl)
theorem dX20_weigh_47 : decode cX20_weigh 47 = .ok (.aload_n 0, 1) := dk_42 (dk_at dksX20_weigh_2 0 rfl rfl)
theorem dX20_weigh_48 : decode cX20_weigh 48 = .ok (.getfield 48, 3) := dk_180 0 48 (dk_at dksX20_weigh_2 1 rfl rfl)
theorem dX20_weigh_51 : decode cX20_weigh 51 = .ok (.arraylength, 1) := dk_190 (dk_at dksX20_weigh_2 4 rfl rfl)
theorem dX20_weigh_52 : decode cX20_weigh 52 = .ok (.iload_n 1, 1) := dk_27 (dk_at dksX20_weigh_2 5 rfl rfl)
theorem dX20_weigh_53 : decode cX20_weigh 53 = .ok (.isub, 1) := dk_100 (dk_at dksX20_weigh_2 6 rfl rfl)
theorem dX20_weigh_54 : decode cX20_weigh 54 = .ok (.iload_n 2, 1) := dk_28 (dk_at dksX20_weigh_2 7 rfl rfl)
theorem dX20_weigh_55 : decode cX20_weigh 55 = .ok (.isub, 1) := dk_100 (dk_at dksX20_weigh_2 8 rfl rfl)
theorem dX20_weigh_56 : decode cX20_weigh 56 = .ok (.iload_n 3, 1) := dk_29 (dk_at dksX20_weigh_2 9 rfl rfl)
theorem dX20_weigh_57 : decode cX20_weigh 57 = .ok (.iload 6, 2) := dk_21 6 (dk_at dksX20_weigh_2 10 rfl rfl)
theorem dX20_weigh_59 : decode cX20_weigh 59 = .ok (.isub, 1) := dk_100 (dk_at dksX20_weigh_2 12 rfl rfl)
theorem dX20_weigh_60 : decode cX20_weigh 60 = .ok (.iload 7, 2) := dk_21 7 (dk_at dksX20_weigh_2 13 rfl rfl)
theorem dX20_weigh_62 : decode cX20_weigh 62 = .ok (.isub, 1) := dk_100 (dk_at dksX20_weigh_2 15 rfl rfl)
theorem dX20_weigh_63 : decode cX20_weigh 63 = .ok (.invokestatic 95, 3) := dk_184 0 95 (dk_at dksX20_weigh_2 16 rfl rfl)
theorem dX20_weigh_66 : decode cX20_weigh 66 = .ok (.lmul, 1) := dk_105 (dk_at dksX20_weigh_2 19 rfl rfl)
theorem dX20_weigh_67 : decode cX20_weigh 67 = .ok (.aload_n 0, 1) := dk_42 (dk_at dksX20_weigh_2 20 rfl rfl)
theorem dX20_weigh_68 : decode cX20_weigh 68 = .ok (.getfield 19, 3) := dk_180 0 19 (dk_at dksX20_weigh_2 21 rfl rfl)
theorem dX20_weigh_71 : decode cX20_weigh 71 = .ok (.iload 6, 2) := dk_21 6 (dk_at dksX20_weigh_3 0 rfl rfl)
theorem dX20_weigh_73 : decode cX20_weigh 73 = .ok (.bipush 21, 2) := dk_16 21 (dk_at dksX20_weigh_3 2 rfl rfl)
theorem dX20_weigh_75 : decode cX20_weigh 75 = .ok (.imul, 1) := dk_104 (dk_at dksX20_weigh_3 4 rfl rfl)
theorem dX20_weigh_76 : decode cX20_weigh 76 = .ok (.iload 7, 2) := dk_21 7 (dk_at dksX20_weigh_3 5 rfl rfl)
theorem dX20_weigh_78 : decode cX20_weigh 78 = .ok (.iadd, 1) := dk_96 (dk_at dksX20_weigh_3 7 rfl rfl)
theorem dX20_weigh_79 : decode cX20_weigh 79 = .ok (.laload, 1) := dk_47 (dk_at dksX20_weigh_3 8 rfl rfl)
theorem dX20_weigh_80 : decode cX20_weigh 80 = .ok (.lmul, 1) := dk_105 (dk_at dksX20_weigh_3 9 rfl rfl)
theorem dX20_weigh_81 : decode cX20_weigh 81 = .ok (.ladd, 1) := dk_97 (dk_at dksX20_weigh_3 10 rfl rfl)
theorem dX20_weigh_82 : decode cX20_weigh 82 = .ok (.lstore 4, 2) := dk_55 4 (dk_at dksX20_weigh_3 11 rfl rfl)
theorem dX20_weigh_84 : decode cX20_weigh 84 = .ok (.iinc 7 1, 3) := dk_132 7 1 (dk_at dksX20_weigh_3 13 rfl rfl)
theorem dX20_weigh_87 : decode cX20_weigh 87 = .ok (.goto (-68), 3) := dk_167 255 188 (dk_at dksX20_weigh_3 16 rfl rfl)
theorem dX20_weigh_90 : decode cX20_weigh 90 = .ok (.iinc 6 1, 3) := dk_132 6 1 (dk_at dksX20_weigh_3 19 rfl rfl)
theorem dX20_weigh_93 : decode cX20_weigh 93 = .ok (.goto (-87), 3) := dk_167 255 169 (dk_at dksX20_weigh_4 0 rfl rfl)
theorem dX20_weigh_96 : decode cX20_weigh 96 = .ok (.lload 4, 2) := dk_22 4 (dk_at dksX20_weigh_4 3 rfl rfl)
theorem dX20_weigh_98 : decode cX20_weigh 98 = .ok (.lreturn, 1) := dk_173 (dk_at dksX20_weigh_4 5 rfl rfl)
abbrev cX20_hours : ByteArray := prog_20_method_13_code
def yX20_hours : MethodName := ⟨RX20, "hours", "(I)I"⟩
def dkwX20_hours_3 : List UInt8 := [132, 6, 1, 167, 255, 207, 132, 5, 1, 167, 255, 188, 21, 4, 172]
abbrev dktX20_hours_3 : List UInt8 := dkwX20_hours_3 ++ []
def dkwX20_hours_2 : List UInt8 := [21, 6, 96, 47, 32, 148, 154, 0, 18, 21, 4, 42, 21, 5, 21, 6, 182, 0, 134, 184, 0, 72, 54, 4]
abbrev dktX20_hours_2 : List UInt8 := dkwX20_hours_2 ++ dktX20_hours_3
def dkwX20_hours_1 : List UInt8 := [54, 6, 21, 5, 21, 6, 96, 42, 180, 0, 48, 190, 163, 0, 42, 42, 180, 0, 15, 21, 5, 16, 21, 104]
abbrev dktX20_hours_1 : List UInt8 := dkwX20_hours_1 ++ dktX20_hours_2
def dkwX20_hours_0 : List UInt8 := [42, 27, 182, 0, 141, 65, 18, 120, 54, 4, 3, 54, 5, 21, 5, 42, 180, 0, 48, 190, 163, 0, 64, 3]
abbrev dktX20_hours_0 : List UInt8 := dkwX20_hours_0 ++ dktX20_hours_1
theorem dksX20_hours_0 : cX20_hours.data.toList.drop 0 = dktX20_hours_0 := by decide +kernel
theorem dksX20_hours_1 : cX20_hours.data.toList.drop 24 = dktX20_hours_1 := dk_seg dksX20_hours_0 24 rfl rfl
theorem dksX20_hours_2 : cX20_hours.data.toList.drop 48 = dktX20_hours_2 := dk_seg dksX20_hours_1 24 rfl rfl
theorem dksX20_hours_3 : cX20_hours.data.toList.drop 72 = dktX20_hours_3 := dk_seg dksX20_hours_2 24 rfl rfl
theorem dX20_hours_0 : decode cX20_hours 0 = .ok (.aload_n 0, 1) := dk_42 (dk_at dksX20_hours_0 0 rfl rfl)
theorem dX20_hours_1 : decode cX20_hours 1 = .ok (.iload_n 1, 1) := dk_27 (dk_at dksX20_hours_0 1 rfl rfl)
theorem dX20_hours_2 : decode cX20_hours 2 = .ok (.invokevirtual 141, 3) := dk_182 0 141 (dk_at dksX20_hours_0 2 rfl rfl)
theorem dX20_hours_5 : decode cX20_hours 5 = .ok (.lstore_n 2, 1) := dk_65 (dk_at dksX20_hours_0 5 rfl rfl)
theorem dX20_hours_6 : decode cX20_hours 6 = .ok (.ldc 120, 2) := dk_18 120 (dk_at dksX20_hours_0 6 rfl rfl)
theorem dX20_hours_8 : decode cX20_hours 8 = .ok (.istore 4, 2) := dk_54 4 (dk_at dksX20_hours_0 8 rfl rfl)
theorem dX20_hours_10 : decode cX20_hours 10 = .ok (.iconst 0, 1) := dk_3 (dk_at dksX20_hours_0 10 rfl rfl)
theorem dX20_hours_11 : decode cX20_hours 11 = .ok (.istore 5, 2) := dk_54 5 (dk_at dksX20_hours_0 11 rfl rfl)
theorem dX20_hours_13 : decode cX20_hours 13 = .ok (.iload 5, 2) := dk_21 5 (dk_at dksX20_hours_0 13 rfl rfl)
theorem dX20_hours_15 : decode cX20_hours 15 = .ok (.aload_n 0, 1) := dk_42 (dk_at dksX20_hours_0 15 rfl rfl)
theorem dX20_hours_16 : decode cX20_hours 16 = .ok (.getfield 48, 3) := dk_180 0 48 (dk_at dksX20_hours_0 16 rfl rfl)
theorem dX20_hours_19 : decode cX20_hours 19 = .ok (.arraylength, 1) := dk_190 (dk_at dksX20_hours_0 19 rfl rfl)
theorem dX20_hours_20 : decode cX20_hours 20 = .ok (.if_icmp .gt 64, 3) := dk_163 0 64 (dk_at dksX20_hours_0 20 rfl rfl)
theorem dX20_hours_23 : decode cX20_hours 23 = .ok (.iconst 0, 1) := dk_3 (dk_at dksX20_hours_0 23 rfl rfl)
theorem dX20_hours_24 : decode cX20_hours 24 = .ok (.istore 6, 2) := dk_54 6 (dk_at dksX20_hours_1 0 rfl rfl)
theorem dX20_hours_26 : decode cX20_hours 26 = .ok (.iload 5, 2) := dk_21 5 (dk_at dksX20_hours_1 2 rfl rfl)
theorem dX20_hours_28 : decode cX20_hours 28 = .ok (.iload 6, 2) := dk_21 6 (dk_at dksX20_hours_1 4 rfl rfl)
theorem dX20_hours_30 : decode cX20_hours 30 = .ok (.iadd, 1) := dk_96 (dk_at dksX20_hours_1 6 rfl rfl)
theorem dX20_hours_31 : decode cX20_hours 31 = .ok (.aload_n 0, 1) := dk_42 (dk_at dksX20_hours_1 7 rfl rfl)
theorem dX20_hours_32 : decode cX20_hours 32 = .ok (.getfield 48, 3) := dk_180 0 48 (dk_at dksX20_hours_1 8 rfl rfl)
theorem dX20_hours_35 : decode cX20_hours 35 = .ok (.arraylength, 1) := dk_190 (dk_at dksX20_hours_1 11 rfl rfl)
theorem dX20_hours_36 : decode cX20_hours 36 = .ok (.if_icmp .gt 42, 3) := dk_163 0 42 (dk_at dksX20_hours_1 12 rfl rfl)
theorem dX20_hours_39 : decode cX20_hours 39 = .ok (.aload_n 0, 1) := dk_42 (dk_at dksX20_hours_1 15 rfl rfl)
theorem dX20_hours_40 : decode cX20_hours 40 = .ok (.getfield 15, 3) := dk_180 0 15 (dk_at dksX20_hours_1 16 rfl rfl)
theorem dX20_hours_43 : decode cX20_hours 43 = .ok (.iload 5, 2) := dk_21 5 (dk_at dksX20_hours_1 19 rfl rfl)
theorem dX20_hours_45 : decode cX20_hours 45 = .ok (.bipush 21, 2) := dk_16 21 (dk_at dksX20_hours_1 21 rfl rfl)
theorem dX20_hours_47 : decode cX20_hours 47 = .ok (.imul, 1) := dk_104 (dk_at dksX20_hours_1 23 rfl rfl)
theorem dX20_hours_48 : decode cX20_hours 48 = .ok (.iload 6, 2) := dk_21 6 (dk_at dksX20_hours_2 0 rfl rfl)
theorem dX20_hours_50 : decode cX20_hours 50 = .ok (.iadd, 1) := dk_96 (dk_at dksX20_hours_2 2 rfl rfl)
theorem dX20_hours_51 : decode cX20_hours 51 = .ok (.laload, 1) := dk_47 (dk_at dksX20_hours_2 3 rfl rfl)
theorem dX20_hours_52 : decode cX20_hours 52 = .ok (.lload_n 2, 1) := dk_32 (dk_at dksX20_hours_2 4 rfl rfl)
theorem dX20_hours_53 : decode cX20_hours 53 = .ok (.lcmp, 1) := dk_148 (dk_at dksX20_hours_2 5 rfl rfl)
theorem dX20_hours_54 : decode cX20_hours 54 = .ok (.ifCond .ne 18, 3) := dk_154 0 18 (dk_at dksX20_hours_2 6 rfl rfl)
theorem dX20_hours_57 : decode cX20_hours 57 = .ok (.iload 4, 2) := dk_21 4 (dk_at dksX20_hours_2 9 rfl rfl)
theorem dX20_hours_59 : decode cX20_hours 59 = .ok (.aload_n 0, 1) := dk_42 (dk_at dksX20_hours_2 11 rfl rfl)
theorem dX20_hours_60 : decode cX20_hours 60 = .ok (.iload 5, 2) := dk_21 5 (dk_at dksX20_hours_2 12 rfl rfl)
theorem dX20_hours_62 : decode cX20_hours 62 = .ok (.iload 6, 2) := dk_21 6 (dk_at dksX20_hours_2 14 rfl rfl)
theorem dX20_hours_64 : decode cX20_hours 64 = .ok (.invokevirtual 134, 3) := dk_182 0 134 (dk_at dksX20_hours_2 16 rfl rfl)
theorem dX20_hours_67 : decode cX20_hours 67 = .ok (.invokestatic 72, 3) := dk_184 0 72 (dk_at dksX20_hours_2 19 rfl rfl)
theorem dX20_hours_70 : decode cX20_hours 70 = .ok (.istore 4, 2) := dk_54 4 (dk_at dksX20_hours_2 22 rfl rfl)
theorem dX20_hours_72 : decode cX20_hours 72 = .ok (.iinc 6 1, 3) := dk_132 6 1 (dk_at dksX20_hours_3 0 rfl rfl)
theorem dX20_hours_75 : decode cX20_hours 75 = .ok (.goto (-49), 3) := dk_167 255 207 (dk_at dksX20_hours_3 3 rfl rfl)
theorem dX20_hours_78 : decode cX20_hours 78 = .ok (.iinc 5 1, 3) := dk_132 5 1 (dk_at dksX20_hours_3 6 rfl rfl)
theorem dX20_hours_81 : decode cX20_hours 81 = .ok (.goto (-68), 3) := dk_167 255 188 (dk_at dksX20_hours_3 9 rfl rfl)
theorem dX20_hours_84 : decode cX20_hours 84 = .ok (.iload 4, 2) := dk_21 4 (dk_at dksX20_hours_3 12 rfl rfl)
theorem dX20_hours_86 : decode cX20_hours 86 = .ok (.ireturn, 1) := dk_172 (dk_at dksX20_hours_3 14 rfl rfl)
abbrev cX20_most : ByteArray := prog_20_method_12_code
def yX20_most : MethodName := ⟨RX20, "most", "(I)J"⟩
def dkwX20_most_3 : List UInt8 := [132, 4, 1, 167, 255, 191, 32, 173]
abbrev dktX20_most_3 : List UInt8 := dkwX20_most_3 ++ []
def dkwX20_most_2 : List UInt8 := [180, 0, 15, 21, 4, 16, 21, 104, 21, 5, 96, 47, 184, 0, 137, 65, 132, 5, 1, 167, 255, 210]
abbrev dktX20_most_2 : List UInt8 := dkwX20_most_2 ++ dktX20_most_3
def dkwX20_most_1 : List UInt8 := [96, 42, 180, 0, 48, 190, 163, 0, 39, 42, 21, 4, 21, 5, 182, 0, 134, 27, 163, 0, 21, 32, 42]
abbrev dktX20_most_1 : List UInt8 := dkwX20_most_1 ++ dktX20_most_2
def dkwX20_most_0 : List UInt8 := [20, 0, 132, 65, 3, 54, 4, 21, 4, 42, 180, 0, 48, 190, 163, 0, 61, 3, 54, 5, 21, 4, 21, 5]
abbrev dktX20_most_0 : List UInt8 := dkwX20_most_0 ++ dktX20_most_1
theorem dksX20_most_0 : cX20_most.data.toList.drop 0 = dktX20_most_0 := by decide +kernel
theorem dksX20_most_1 : cX20_most.data.toList.drop 24 = dktX20_most_1 := dk_seg dksX20_most_0 24 rfl rfl
theorem dksX20_most_2 : cX20_most.data.toList.drop 47 = dktX20_most_2 := dk_seg dksX20_most_1 23 rfl rfl
theorem dksX20_most_3 : cX20_most.data.toList.drop 69 = dktX20_most_3 := dk_seg dksX20_most_2 22 rfl rfl
theorem dX20_most_0 : decode cX20_most 0 = .ok (.ldc2_w 132, 3) := dk_20 0 132 (dk_at dksX20_most_0 0 rfl rfl)
theorem dX20_most_3 : decode cX20_most 3 = .ok (.lstore_n 2, 1) := dk_65 (dk_at dksX20_most_0 3 rfl rfl)
theorem dX20_most_4 : decode cX20_most 4 = .ok (.iconst 0, 1) := dk_3 (dk_at dksX20_most_0 4 rfl rfl)
theorem dX20_most_5 : decode cX20_most 5 = .ok (.istore 4, 2) := dk_54 4 (dk_at dksX20_most_0 5 rfl rfl)
theorem dX20_most_7 : decode cX20_most 7 = .ok (.iload 4, 2) := dk_21 4 (dk_at dksX20_most_0 7 rfl rfl)
theorem dX20_most_9 : decode cX20_most 9 = .ok (.aload_n 0, 1) := dk_42 (dk_at dksX20_most_0 9 rfl rfl)
theorem dX20_most_10 : decode cX20_most 10 = .ok (.getfield 48, 3) := dk_180 0 48 (dk_at dksX20_most_0 10 rfl rfl)
theorem dX20_most_13 : decode cX20_most 13 = .ok (.arraylength, 1) := dk_190 (dk_at dksX20_most_0 13 rfl rfl)
theorem dX20_most_14 : decode cX20_most 14 = .ok (.if_icmp .gt 61, 3) := dk_163 0 61 (dk_at dksX20_most_0 14 rfl rfl)
theorem dX20_most_17 : decode cX20_most 17 = .ok (.iconst 0, 1) := dk_3 (dk_at dksX20_most_0 17 rfl rfl)
theorem dX20_most_18 : decode cX20_most 18 = .ok (.istore 5, 2) := dk_54 5 (dk_at dksX20_most_0 18 rfl rfl)
theorem dX20_most_20 : decode cX20_most 20 = .ok (.iload 4, 2) := dk_21 4 (dk_at dksX20_most_0 20 rfl rfl)
theorem dX20_most_22 : decode cX20_most 22 = .ok (.iload 5, 2) := dk_21 5 (dk_at dksX20_most_0 22 rfl rfl)
theorem dX20_most_24 : decode cX20_most 24 = .ok (.iadd, 1) := dk_96 (dk_at dksX20_most_1 0 rfl rfl)
theorem dX20_most_25 : decode cX20_most 25 = .ok (.aload_n 0, 1) := dk_42 (dk_at dksX20_most_1 1 rfl rfl)
theorem dX20_most_26 : decode cX20_most 26 = .ok (.getfield 48, 3) := dk_180 0 48 (dk_at dksX20_most_1 2 rfl rfl)
theorem dX20_most_29 : decode cX20_most 29 = .ok (.arraylength, 1) := dk_190 (dk_at dksX20_most_1 5 rfl rfl)
theorem dX20_most_30 : decode cX20_most 30 = .ok (.if_icmp .gt 39, 3) := dk_163 0 39 (dk_at dksX20_most_1 6 rfl rfl)
theorem dX20_most_33 : decode cX20_most 33 = .ok (.aload_n 0, 1) := dk_42 (dk_at dksX20_most_1 9 rfl rfl)
theorem dX20_most_34 : decode cX20_most 34 = .ok (.iload 4, 2) := dk_21 4 (dk_at dksX20_most_1 10 rfl rfl)
theorem dX20_most_36 : decode cX20_most 36 = .ok (.iload 5, 2) := dk_21 5 (dk_at dksX20_most_1 12 rfl rfl)
theorem dX20_most_38 : decode cX20_most 38 = .ok (.invokevirtual 134, 3) := dk_182 0 134 (dk_at dksX20_most_1 14 rfl rfl)
theorem dX20_most_41 : decode cX20_most 41 = .ok (.iload_n 1, 1) := dk_27 (dk_at dksX20_most_1 17 rfl rfl)
theorem dX20_most_42 : decode cX20_most 42 = .ok (.if_icmp .gt 21, 3) := dk_163 0 21 (dk_at dksX20_most_1 18 rfl rfl)
theorem dX20_most_45 : decode cX20_most 45 = .ok (.lload_n 2, 1) := dk_32 (dk_at dksX20_most_1 21 rfl rfl)
theorem dX20_most_46 : decode cX20_most 46 = .ok (.aload_n 0, 1) := dk_42 (dk_at dksX20_most_1 22 rfl rfl)
theorem dX20_most_47 : decode cX20_most 47 = .ok (.getfield 15, 3) := dk_180 0 15 (dk_at dksX20_most_2 0 rfl rfl)
theorem dX20_most_50 : decode cX20_most 50 = .ok (.iload 4, 2) := dk_21 4 (dk_at dksX20_most_2 3 rfl rfl)
theorem dX20_most_52 : decode cX20_most 52 = .ok (.bipush 21, 2) := dk_16 21 (dk_at dksX20_most_2 5 rfl rfl)
theorem dX20_most_54 : decode cX20_most 54 = .ok (.imul, 1) := dk_104 (dk_at dksX20_most_2 7 rfl rfl)
theorem dX20_most_55 : decode cX20_most 55 = .ok (.iload 5, 2) := dk_21 5 (dk_at dksX20_most_2 8 rfl rfl)
theorem dX20_most_57 : decode cX20_most 57 = .ok (.iadd, 1) := dk_96 (dk_at dksX20_most_2 10 rfl rfl)
theorem dX20_most_58 : decode cX20_most 58 = .ok (.laload, 1) := dk_47 (dk_at dksX20_most_2 11 rfl rfl)
theorem dX20_most_59 : decode cX20_most 59 = .ok (.invokestatic 137, 3) := dk_184 0 137 (dk_at dksX20_most_2 12 rfl rfl)
theorem dX20_most_62 : decode cX20_most 62 = .ok (.lstore_n 2, 1) := dk_65 (dk_at dksX20_most_2 15 rfl rfl)
theorem dX20_most_63 : decode cX20_most 63 = .ok (.iinc 5 1, 3) := dk_132 5 1 (dk_at dksX20_most_2 16 rfl rfl)
theorem dX20_most_66 : decode cX20_most 66 = .ok (.goto (-46), 3) := dk_167 255 210 (dk_at dksX20_most_2 19 rfl rfl)
theorem dX20_most_69 : decode cX20_most 69 = .ok (.iinc 4 1, 3) := dk_132 4 1 (dk_at dksX20_most_3 0 rfl rfl)
theorem dX20_most_72 : decode cX20_most 72 = .ok (.goto (-65), 3) := dk_167 255 191 (dk_at dksX20_most_3 3 rfl rfl)
theorem dX20_most_75 : decode cX20_most 75 = .ok (.lload_n 2, 1) := dk_32 (dk_at dksX20_most_3 6 rfl rfl)
theorem dX20_most_76 : decode cX20_most 76 = .ok (.lreturn, 1) := dk_173 (dk_at dksX20_most_3 7 rfl rfl)
abbrev cX20_hoursOf : ByteArray := prog_20_method_11_code
def yX20_hoursOf : MethodName := ⟨RX20, "hoursOf", "(II)I"⟩
def dkwX20_hoursOf_0 : List UInt8 := [42, 180, 0, 3, 180, 0, 58, 42, 3, 27, 28, 3, 182, 0, 62, 46, 172]
abbrev dktX20_hoursOf_0 : List UInt8 := dkwX20_hoursOf_0 ++ []
theorem dksX20_hoursOf_0 : cX20_hoursOf.data.toList.drop 0 = dktX20_hoursOf_0 := by decide +kernel
theorem dX20_hoursOf_0 : decode cX20_hoursOf 0 = .ok (.aload_n 0, 1) := dk_42 (dk_at dksX20_hoursOf_0 0 rfl rfl)
theorem dX20_hoursOf_1 : decode cX20_hoursOf 1 = .ok (.getfield 3, 3) := dk_180 0 3 (dk_at dksX20_hoursOf_0 1 rfl rfl)
theorem dX20_hoursOf_4 : decode cX20_hoursOf 4 = .ok (.getfield 58, 3) := dk_180 0 58 (dk_at dksX20_hoursOf_0 4 rfl rfl)
theorem dX20_hoursOf_7 : decode cX20_hoursOf 7 = .ok (.aload_n 0, 1) := dk_42 (dk_at dksX20_hoursOf_0 7 rfl rfl)
theorem dX20_hoursOf_8 : decode cX20_hoursOf 8 = .ok (.iconst 0, 1) := dk_3 (dk_at dksX20_hoursOf_0 8 rfl rfl)
theorem dX20_hoursOf_9 : decode cX20_hoursOf 9 = .ok (.iload_n 1, 1) := dk_27 (dk_at dksX20_hoursOf_0 9 rfl rfl)
theorem dX20_hoursOf_10 : decode cX20_hoursOf 10 = .ok (.iload_n 2, 1) := dk_28 (dk_at dksX20_hoursOf_0 10 rfl rfl)
theorem dX20_hoursOf_11 : decode cX20_hoursOf 11 = .ok (.iconst 0, 1) := dk_3 (dk_at dksX20_hoursOf_0 11 rfl rfl)
theorem dX20_hoursOf_12 : decode cX20_hoursOf 12 = .ok (.invokevirtual 62, 3) := dk_182 0 62 (dk_at dksX20_hoursOf_0 12 rfl rfl)
theorem dX20_hoursOf_15 : decode cX20_hoursOf 15 = .ok (.iaload, 1) := dk_46 (dk_at dksX20_hoursOf_0 15 rfl rfl)
theorem dX20_hoursOf_16 : decode cX20_hoursOf 16 = .ok (.ireturn, 1) := dk_172 (dk_at dksX20_hoursOf_0 16 rfl rfl)
abbrev cX20_first : ByteArray := prog_20_method_14_code
def yX20_first : MethodName := ⟨RX20, "first", "(I)[I"⟩
def dkwX20_first_5 : List UInt8 := [132, 6, 1, 167, 255, 157, 25, 5, 176]
abbrev dktX20_first_5 : List UInt8 := dkwX20_first_5 ++ []
def dkwX20_first_4 : List UInt8 := [198, 0, 14, 42, 25, 8, 25, 5, 182, 0, 152, 153, 0, 7, 25, 8, 58, 5, 132, 7, 1, 167, 255, 176]
abbrev dktX20_first_4 : List UInt8 := dkwX20_first_4 ++ dktX20_first_5
def dkwX20_first_3 : List UInt8 := [182, 0, 134, 21, 4, 159, 0, 6, 167, 0, 33, 42, 21, 6, 21, 7, 182, 0, 148, 58, 8, 25, 5]
abbrev dktX20_first_3 : List UInt8 := dkwX20_first_3 ++ dktX20_first_4
def dkwX20_first_2 : List UInt8 := [180, 0, 15, 21, 6, 16, 21, 104, 21, 7, 96, 47, 32, 148, 154, 0, 49, 42, 21, 6, 21, 7]
abbrev dktX20_first_2 : List UInt8 := dkwX20_first_2 ++ dktX20_first_3
def dkwX20_first_1 : List UInt8 := [180, 0, 48, 190, 163, 0, 95, 3, 54, 7, 21, 6, 21, 7, 96, 42, 180, 0, 48, 190, 163, 0, 73, 42]
abbrev dktX20_first_1 : List UInt8 := dkwX20_first_1 ++ dktX20_first_2
def dkwX20_first_0 : List UInt8 := [42, 27, 182, 0, 141, 65, 42, 27, 182, 0, 144, 54, 4, 1, 58, 5, 3, 54, 6, 21, 6, 42]
abbrev dktX20_first_0 : List UInt8 := dkwX20_first_0 ++ dktX20_first_1
theorem dksX20_first_0 : cX20_first.data.toList.drop 0 = dktX20_first_0 := by decide +kernel
theorem dksX20_first_1 : cX20_first.data.toList.drop 22 = dktX20_first_1 := dk_seg dksX20_first_0 22 rfl rfl
theorem dksX20_first_2 : cX20_first.data.toList.drop 46 = dktX20_first_2 := dk_seg dksX20_first_1 24 rfl rfl
theorem dksX20_first_3 : cX20_first.data.toList.drop 68 = dktX20_first_3 := dk_seg dksX20_first_2 22 rfl rfl
theorem dksX20_first_4 : cX20_first.data.toList.drop 91 = dktX20_first_4 := dk_seg dksX20_first_3 23 rfl rfl
theorem dksX20_first_5 : cX20_first.data.toList.drop 115 = dktX20_first_5 := dk_seg dksX20_first_4 24 rfl rfl
theorem dX20_first_0 : decode cX20_first 0 = .ok (.aload_n 0, 1) := dk_42 (dk_at dksX20_first_0 0 rfl rfl)
theorem dX20_first_1 : decode cX20_first 1 = .ok (.iload_n 1, 1) := dk_27 (dk_at dksX20_first_0 1 rfl rfl)
theorem dX20_first_2 : decode cX20_first 2 = .ok (.invokevirtual 141, 3) := dk_182 0 141 (dk_at dksX20_first_0 2 rfl rfl)
theorem dX20_first_5 : decode cX20_first 5 = .ok (.lstore_n 2, 1) := dk_65 (dk_at dksX20_first_0 5 rfl rfl)
theorem dX20_first_6 : decode cX20_first 6 = .ok (.aload_n 0, 1) := dk_42 (dk_at dksX20_first_0 6 rfl rfl)
theorem dX20_first_7 : decode cX20_first 7 = .ok (.iload_n 1, 1) := dk_27 (dk_at dksX20_first_0 7 rfl rfl)
theorem dX20_first_8 : decode cX20_first 8 = .ok (.invokevirtual 144, 3) := dk_182 0 144 (dk_at dksX20_first_0 8 rfl rfl)
theorem dX20_first_11 : decode cX20_first 11 = .ok (.istore 4, 2) := dk_54 4 (dk_at dksX20_first_0 11 rfl rfl)
theorem dX20_first_13 : decode cX20_first 13 = .ok (.aconst_null, 1) := dk_1 (dk_at dksX20_first_0 13 rfl rfl)
theorem dX20_first_14 : decode cX20_first 14 = .ok (.astore 5, 2) := dk_58 5 (dk_at dksX20_first_0 14 rfl rfl)
theorem dX20_first_16 : decode cX20_first 16 = .ok (.iconst 0, 1) := dk_3 (dk_at dksX20_first_0 16 rfl rfl)
theorem dX20_first_17 : decode cX20_first 17 = .ok (.istore 6, 2) := dk_54 6 (dk_at dksX20_first_0 17 rfl rfl)
theorem dX20_first_19 : decode cX20_first 19 = .ok (.iload 6, 2) := dk_21 6 (dk_at dksX20_first_0 19 rfl rfl)
theorem dX20_first_21 : decode cX20_first 21 = .ok (.aload_n 0, 1) := dk_42 (dk_at dksX20_first_0 21 rfl rfl)
theorem dX20_first_22 : decode cX20_first 22 = .ok (.getfield 48, 3) := dk_180 0 48 (dk_at dksX20_first_1 0 rfl rfl)
theorem dX20_first_25 : decode cX20_first 25 = .ok (.arraylength, 1) := dk_190 (dk_at dksX20_first_1 3 rfl rfl)
theorem dX20_first_26 : decode cX20_first 26 = .ok (.if_icmp .gt 95, 3) := dk_163 0 95 (dk_at dksX20_first_1 4 rfl rfl)
theorem dX20_first_29 : decode cX20_first 29 = .ok (.iconst 0, 1) := dk_3 (dk_at dksX20_first_1 7 rfl rfl)
theorem dX20_first_30 : decode cX20_first 30 = .ok (.istore 7, 2) := dk_54 7 (dk_at dksX20_first_1 8 rfl rfl)
theorem dX20_first_32 : decode cX20_first 32 = .ok (.iload 6, 2) := dk_21 6 (dk_at dksX20_first_1 10 rfl rfl)
theorem dX20_first_34 : decode cX20_first 34 = .ok (.iload 7, 2) := dk_21 7 (dk_at dksX20_first_1 12 rfl rfl)
theorem dX20_first_36 : decode cX20_first 36 = .ok (.iadd, 1) := dk_96 (dk_at dksX20_first_1 14 rfl rfl)
theorem dX20_first_37 : decode cX20_first 37 = .ok (.aload_n 0, 1) := dk_42 (dk_at dksX20_first_1 15 rfl rfl)
theorem dX20_first_38 : decode cX20_first 38 = .ok (.getfield 48, 3) := dk_180 0 48 (dk_at dksX20_first_1 16 rfl rfl)
theorem dX20_first_41 : decode cX20_first 41 = .ok (.arraylength, 1) := dk_190 (dk_at dksX20_first_1 19 rfl rfl)
theorem dX20_first_42 : decode cX20_first 42 = .ok (.if_icmp .gt 73, 3) := dk_163 0 73 (dk_at dksX20_first_1 20 rfl rfl)
theorem dX20_first_45 : decode cX20_first 45 = .ok (.aload_n 0, 1) := dk_42 (dk_at dksX20_first_1 23 rfl rfl)
theorem dX20_first_46 : decode cX20_first 46 = .ok (.getfield 15, 3) := dk_180 0 15 (dk_at dksX20_first_2 0 rfl rfl)
theorem dX20_first_49 : decode cX20_first 49 = .ok (.iload 6, 2) := dk_21 6 (dk_at dksX20_first_2 3 rfl rfl)
theorem dX20_first_51 : decode cX20_first 51 = .ok (.bipush 21, 2) := dk_16 21 (dk_at dksX20_first_2 5 rfl rfl)
theorem dX20_first_53 : decode cX20_first 53 = .ok (.imul, 1) := dk_104 (dk_at dksX20_first_2 7 rfl rfl)
theorem dX20_first_54 : decode cX20_first 54 = .ok (.iload 7, 2) := dk_21 7 (dk_at dksX20_first_2 8 rfl rfl)
theorem dX20_first_56 : decode cX20_first 56 = .ok (.iadd, 1) := dk_96 (dk_at dksX20_first_2 10 rfl rfl)
theorem dX20_first_57 : decode cX20_first 57 = .ok (.laload, 1) := dk_47 (dk_at dksX20_first_2 11 rfl rfl)
theorem dX20_first_58 : decode cX20_first 58 = .ok (.lload_n 2, 1) := dk_32 (dk_at dksX20_first_2 12 rfl rfl)
theorem dX20_first_59 : decode cX20_first 59 = .ok (.lcmp, 1) := dk_148 (dk_at dksX20_first_2 13 rfl rfl)
theorem dX20_first_60 : decode cX20_first 60 = .ok (.ifCond .ne 49, 3) := dk_154 0 49 (dk_at dksX20_first_2 14 rfl rfl)
theorem dX20_first_63 : decode cX20_first 63 = .ok (.aload_n 0, 1) := dk_42 (dk_at dksX20_first_2 17 rfl rfl)
theorem dX20_first_64 : decode cX20_first 64 = .ok (.iload 6, 2) := dk_21 6 (dk_at dksX20_first_2 18 rfl rfl)
theorem dX20_first_66 : decode cX20_first 66 = .ok (.iload 7, 2) := dk_21 7 (dk_at dksX20_first_2 20 rfl rfl)
theorem dX20_first_68 : decode cX20_first 68 = .ok (.invokevirtual 134, 3) := dk_182 0 134 (dk_at dksX20_first_3 0 rfl rfl)
theorem dX20_first_71 : decode cX20_first 71 = .ok (.iload 4, 2) := dk_21 4 (dk_at dksX20_first_3 3 rfl rfl)
theorem dX20_first_73 : decode cX20_first 73 = .ok (.if_icmp .eq 6, 3) := dk_159 0 6 (dk_at dksX20_first_3 5 rfl rfl)
theorem dX20_first_76 : decode cX20_first 76 = .ok (.goto 33, 3) := dk_167 0 33 (dk_at dksX20_first_3 8 rfl rfl)
theorem dX20_first_79 : decode cX20_first 79 = .ok (.aload_n 0, 1) := dk_42 (dk_at dksX20_first_3 11 rfl rfl)
theorem dX20_first_80 : decode cX20_first 80 = .ok (.iload 6, 2) := dk_21 6 (dk_at dksX20_first_3 12 rfl rfl)
theorem dX20_first_82 : decode cX20_first 82 = .ok (.iload 7, 2) := dk_21 7 (dk_at dksX20_first_3 14 rfl rfl)
theorem dX20_first_84 : decode cX20_first 84 = .ok (.invokevirtual 148, 3) := dk_182 0 148 (dk_at dksX20_first_3 16 rfl rfl)
theorem dX20_first_87 : decode cX20_first 87 = .ok (.astore 8, 2) := dk_58 8 (dk_at dksX20_first_3 19 rfl rfl)
theorem dX20_first_89 : decode cX20_first 89 = .ok (.aload 5, 2) := dk_25 5 (dk_at dksX20_first_3 21 rfl rfl)
theorem dX20_first_91 : decode cX20_first 91 = .ok (.ifnull 14, 3) := dk_198 0 14 (dk_at dksX20_first_4 0 rfl rfl)
theorem dX20_first_94 : decode cX20_first 94 = .ok (.aload_n 0, 1) := dk_42 (dk_at dksX20_first_4 3 rfl rfl)
theorem dX20_first_95 : decode cX20_first 95 = .ok (.aload 8, 2) := dk_25 8 (dk_at dksX20_first_4 4 rfl rfl)
theorem dX20_first_97 : decode cX20_first 97 = .ok (.aload 5, 2) := dk_25 5 (dk_at dksX20_first_4 6 rfl rfl)
theorem dX20_first_99 : decode cX20_first 99 = .ok (.invokevirtual 152, 3) := dk_182 0 152 (dk_at dksX20_first_4 8 rfl rfl)
theorem dX20_first_102 : decode cX20_first 102 = .ok (.ifCond .eq 7, 3) := dk_153 0 7 (dk_at dksX20_first_4 11 rfl rfl)
theorem dX20_first_105 : decode cX20_first 105 = .ok (.aload 8, 2) := dk_25 8 (dk_at dksX20_first_4 14 rfl rfl)
theorem dX20_first_107 : decode cX20_first 107 = .ok (.astore 5, 2) := dk_58 5 (dk_at dksX20_first_4 16 rfl rfl)
theorem dX20_first_109 : decode cX20_first 109 = .ok (.iinc 7 1, 3) := dk_132 7 1 (dk_at dksX20_first_4 18 rfl rfl)
theorem dX20_first_112 : decode cX20_first 112 = .ok (.goto (-80), 3) := dk_167 255 176 (dk_at dksX20_first_4 21 rfl rfl)
theorem dX20_first_115 : decode cX20_first 115 = .ok (.iinc 6 1, 3) := dk_132 6 1 (dk_at dksX20_first_5 0 rfl rfl)
theorem dX20_first_118 : decode cX20_first 118 = .ok (.goto (-99), 3) := dk_167 255 157 (dk_at dksX20_first_5 3 rfl rfl)
theorem dX20_first_121 : decode cX20_first 121 = .ok (.aload 5, 2) := dk_25 5 (dk_at dksX20_first_5 6 rfl rfl)
theorem dX20_first_123 : decode cX20_first 123 = .ok (.areturn, 1) := dk_176 (dk_at dksX20_first_5 8 rfl rfl)
abbrev cX20_rowOf : ByteArray := prog_20_method_9_code
def yX20_rowOf : MethodName := ⟨RX20, "rowOf", "(II)[I"⟩
def dkwX20_rowOf_5 : List UInt8 := [21, 6, 182, 0, 125, 54, 6, 132, 7, 1, 167, 255, 150, 45, 176]
abbrev dktX20_rowOf_5 : List UInt8 := dkwX20_rowOf_5 ++ []
def dkwX20_rowOf_4 : List UInt8 := [54, 4, 21, 5, 21, 8, 5, 160, 0, 7, 4, 167, 0, 4, 3, 100, 54, 5, 42, 21, 7, 21, 8]
abbrev dktX20_rowOf_4 : List UInt8 := dkwX20_rowOf_4 ++ dktX20_rowOf_5
def dkwX20_rowOf_3 : List UInt8 := [167, 255, 216, 45, 21, 7, 21, 8, 79, 21, 4, 21, 8, 4, 160, 0, 7, 4, 167, 0, 4, 3, 100]
abbrev dktX20_rowOf_3 : List UInt8 := dkwX20_rowOf_3 ++ dktX20_rowOf_4
def dkwX20_rowOf_2 : List UInt8 := [180, 0, 58, 42, 21, 7, 21, 4, 21, 5, 21, 6, 182, 0, 62, 46, 159, 0, 9, 132, 8, 1]
abbrev dktX20_rowOf_2 : List UInt8 := dkwX20_rowOf_2 ++ dktX20_rowOf_3
def dkwX20_rowOf_1 : List UInt8 := [162, 0, 105, 3, 54, 8, 42, 21, 7, 21, 8, 21, 4, 21, 5, 21, 6, 182, 0, 128, 42, 180, 0, 3]
abbrev dktX20_rowOf_1 : List UInt8 := dkwX20_rowOf_1 ++ dktX20_rowOf_2
def dkwX20_rowOf_0 : List UInt8 := [42, 180, 0, 48, 190, 188, 10, 78, 27, 54, 4, 28, 54, 5, 3, 54, 6, 3, 54, 7, 21, 7, 45, 190]
abbrev dktX20_rowOf_0 : List UInt8 := dkwX20_rowOf_0 ++ dktX20_rowOf_1
theorem dksX20_rowOf_0 : cX20_rowOf.data.toList.drop 0 = dktX20_rowOf_0 := by decide +kernel
theorem dksX20_rowOf_1 : cX20_rowOf.data.toList.drop 24 = dktX20_rowOf_1 := dk_seg dksX20_rowOf_0 24 rfl rfl
theorem dksX20_rowOf_2 : cX20_rowOf.data.toList.drop 48 = dktX20_rowOf_2 := dk_seg dksX20_rowOf_1 24 rfl rfl
theorem dksX20_rowOf_3 : cX20_rowOf.data.toList.drop 70 = dktX20_rowOf_3 := dk_seg dksX20_rowOf_2 22 rfl rfl
theorem dksX20_rowOf_4 : cX20_rowOf.data.toList.drop 93 = dktX20_rowOf_4 := dk_seg dksX20_rowOf_3 23 rfl rfl
theorem dksX20_rowOf_5 : cX20_rowOf.data.toList.drop 116 = dktX20_rowOf_5 := dk_seg dksX20_rowOf_4 23 rfl rfl
theorem dX20_rowOf_0 : decode cX20_rowOf 0 = .ok (.aload_n 0, 1) := dk_42 (dk_at dksX20_rowOf_0 0 rfl rfl)
theorem dX20_rowOf_1 : decode cX20_rowOf 1 = .ok (.getfield 48, 3) := dk_180 0 48 (dk_at dksX20_rowOf_0 1 rfl rfl)
theorem dX20_rowOf_4 : decode cX20_rowOf 4 = .ok (.arraylength, 1) := dk_190 (dk_at dksX20_rowOf_0 4 rfl rfl)
theorem dX20_rowOf_5 : decode cX20_rowOf 5 = .ok (.newarray .int, 2) := dk_188_10 (dk_at dksX20_rowOf_0 5 rfl rfl)
theorem dX20_rowOf_7 : decode cX20_rowOf 7 = .ok (.astore_n 3, 1) := dk_78 (dk_at dksX20_rowOf_0 7 rfl rfl)
theorem dX20_rowOf_8 : decode cX20_rowOf 8 = .ok (.iload_n 1, 1) := dk_27 (dk_at dksX20_rowOf_0 8 rfl rfl)
theorem dX20_rowOf_9 : decode cX20_rowOf 9 = .ok (.istore 4, 2) := dk_54 4 (dk_at dksX20_rowOf_0 9 rfl rfl)
theorem dX20_rowOf_11 : decode cX20_rowOf 11 = .ok (.iload_n 2, 1) := dk_28 (dk_at dksX20_rowOf_0 11 rfl rfl)
theorem dX20_rowOf_12 : decode cX20_rowOf 12 = .ok (.istore 5, 2) := dk_54 5 (dk_at dksX20_rowOf_0 12 rfl rfl)
theorem dX20_rowOf_14 : decode cX20_rowOf 14 = .ok (.iconst 0, 1) := dk_3 (dk_at dksX20_rowOf_0 14 rfl rfl)
theorem dX20_rowOf_15 : decode cX20_rowOf 15 = .ok (.istore 6, 2) := dk_54 6 (dk_at dksX20_rowOf_0 15 rfl rfl)
theorem dX20_rowOf_17 : decode cX20_rowOf 17 = .ok (.iconst 0, 1) := dk_3 (dk_at dksX20_rowOf_0 17 rfl rfl)
theorem dX20_rowOf_18 : decode cX20_rowOf 18 = .ok (.istore 7, 2) := dk_54 7 (dk_at dksX20_rowOf_0 18 rfl rfl)
theorem dX20_rowOf_20 : decode cX20_rowOf 20 = .ok (.iload 7, 2) := dk_21 7 (dk_at dksX20_rowOf_0 20 rfl rfl)
theorem dX20_rowOf_22 : decode cX20_rowOf 22 = .ok (.aload_n 3, 1) := dk_45 (dk_at dksX20_rowOf_0 22 rfl rfl)
theorem dX20_rowOf_23 : decode cX20_rowOf 23 = .ok (.arraylength, 1) := dk_190 (dk_at dksX20_rowOf_0 23 rfl rfl)
theorem dX20_rowOf_24 : decode cX20_rowOf 24 = .ok (.if_icmp .ge 105, 3) := dk_162 0 105 (dk_at dksX20_rowOf_1 0 rfl rfl)
theorem dX20_rowOf_27 : decode cX20_rowOf 27 = .ok (.iconst 0, 1) := dk_3 (dk_at dksX20_rowOf_1 3 rfl rfl)
theorem dX20_rowOf_28 : decode cX20_rowOf 28 = .ok (.istore 8, 2) := dk_54 8 (dk_at dksX20_rowOf_1 4 rfl rfl)
theorem dX20_rowOf_30 : decode cX20_rowOf 30 = .ok (.aload_n 0, 1) := dk_42 (dk_at dksX20_rowOf_1 6 rfl rfl)
theorem dX20_rowOf_31 : decode cX20_rowOf 31 = .ok (.iload 7, 2) := dk_21 7 (dk_at dksX20_rowOf_1 7 rfl rfl)
theorem dX20_rowOf_33 : decode cX20_rowOf 33 = .ok (.iload 8, 2) := dk_21 8 (dk_at dksX20_rowOf_1 9 rfl rfl)
theorem dX20_rowOf_35 : decode cX20_rowOf 35 = .ok (.iload 4, 2) := dk_21 4 (dk_at dksX20_rowOf_1 11 rfl rfl)
theorem dX20_rowOf_37 : decode cX20_rowOf 37 = .ok (.iload 5, 2) := dk_21 5 (dk_at dksX20_rowOf_1 13 rfl rfl)
theorem dX20_rowOf_39 : decode cX20_rowOf 39 = .ok (.iload 6, 2) := dk_21 6 (dk_at dksX20_rowOf_1 15 rfl rfl)
theorem dX20_rowOf_41 : decode cX20_rowOf 41 = .ok (.invokevirtual 128, 3) := dk_182 0 128 (dk_at dksX20_rowOf_1 17 rfl rfl)
theorem dX20_rowOf_44 : decode cX20_rowOf 44 = .ok (.aload_n 0, 1) := dk_42 (dk_at dksX20_rowOf_1 20 rfl rfl)
theorem dX20_rowOf_45 : decode cX20_rowOf 45 = .ok (.getfield 3, 3) := dk_180 0 3 (dk_at dksX20_rowOf_1 21 rfl rfl)
theorem dX20_rowOf_48 : decode cX20_rowOf 48 = .ok (.getfield 58, 3) := dk_180 0 58 (dk_at dksX20_rowOf_2 0 rfl rfl)
theorem dX20_rowOf_51 : decode cX20_rowOf 51 = .ok (.aload_n 0, 1) := dk_42 (dk_at dksX20_rowOf_2 3 rfl rfl)
theorem dX20_rowOf_52 : decode cX20_rowOf 52 = .ok (.iload 7, 2) := dk_21 7 (dk_at dksX20_rowOf_2 4 rfl rfl)
theorem dX20_rowOf_54 : decode cX20_rowOf 54 = .ok (.iload 4, 2) := dk_21 4 (dk_at dksX20_rowOf_2 6 rfl rfl)
theorem dX20_rowOf_56 : decode cX20_rowOf 56 = .ok (.iload 5, 2) := dk_21 5 (dk_at dksX20_rowOf_2 8 rfl rfl)
theorem dX20_rowOf_58 : decode cX20_rowOf 58 = .ok (.iload 6, 2) := dk_21 6 (dk_at dksX20_rowOf_2 10 rfl rfl)
theorem dX20_rowOf_60 : decode cX20_rowOf 60 = .ok (.invokevirtual 62, 3) := dk_182 0 62 (dk_at dksX20_rowOf_2 12 rfl rfl)
theorem dX20_rowOf_63 : decode cX20_rowOf 63 = .ok (.iaload, 1) := dk_46 (dk_at dksX20_rowOf_2 15 rfl rfl)
theorem dX20_rowOf_64 : decode cX20_rowOf 64 = .ok (.if_icmp .eq 9, 3) := dk_159 0 9 (dk_at dksX20_rowOf_2 16 rfl rfl)
theorem dX20_rowOf_67 : decode cX20_rowOf 67 = .ok (.iinc 8 1, 3) := dk_132 8 1 (dk_at dksX20_rowOf_2 19 rfl rfl)
theorem dX20_rowOf_70 : decode cX20_rowOf 70 = .ok (.goto (-40), 3) := dk_167 255 216 (dk_at dksX20_rowOf_3 0 rfl rfl)
theorem dX20_rowOf_73 : decode cX20_rowOf 73 = .ok (.aload_n 3, 1) := dk_45 (dk_at dksX20_rowOf_3 3 rfl rfl)
theorem dX20_rowOf_74 : decode cX20_rowOf 74 = .ok (.iload 7, 2) := dk_21 7 (dk_at dksX20_rowOf_3 4 rfl rfl)
theorem dX20_rowOf_76 : decode cX20_rowOf 76 = .ok (.iload 8, 2) := dk_21 8 (dk_at dksX20_rowOf_3 6 rfl rfl)
theorem dX20_rowOf_78 : decode cX20_rowOf 78 = .ok (.iastore, 1) := dk_79 (dk_at dksX20_rowOf_3 8 rfl rfl)
theorem dX20_rowOf_79 : decode cX20_rowOf 79 = .ok (.iload 4, 2) := dk_21 4 (dk_at dksX20_rowOf_3 9 rfl rfl)
theorem dX20_rowOf_81 : decode cX20_rowOf 81 = .ok (.iload 8, 2) := dk_21 8 (dk_at dksX20_rowOf_3 11 rfl rfl)
theorem dX20_rowOf_83 : decode cX20_rowOf 83 = .ok (.iconst 1, 1) := dk_4 (dk_at dksX20_rowOf_3 13 rfl rfl)
theorem dX20_rowOf_84 : decode cX20_rowOf 84 = .ok (.if_icmp .ne 7, 3) := dk_160 0 7 (dk_at dksX20_rowOf_3 14 rfl rfl)
theorem dX20_rowOf_87 : decode cX20_rowOf 87 = .ok (.iconst 1, 1) := dk_4 (dk_at dksX20_rowOf_3 17 rfl rfl)
theorem dX20_rowOf_88 : decode cX20_rowOf 88 = .ok (.goto 4, 3) := dk_167 0 4 (dk_at dksX20_rowOf_3 18 rfl rfl)
theorem dX20_rowOf_91 : decode cX20_rowOf 91 = .ok (.iconst 0, 1) := dk_3 (dk_at dksX20_rowOf_3 21 rfl rfl)
theorem dX20_rowOf_92 : decode cX20_rowOf 92 = .ok (.isub, 1) := dk_100 (dk_at dksX20_rowOf_3 22 rfl rfl)
theorem dX20_rowOf_93 : decode cX20_rowOf 93 = .ok (.istore 4, 2) := dk_54 4 (dk_at dksX20_rowOf_4 0 rfl rfl)
theorem dX20_rowOf_95 : decode cX20_rowOf 95 = .ok (.iload 5, 2) := dk_21 5 (dk_at dksX20_rowOf_4 2 rfl rfl)
theorem dX20_rowOf_97 : decode cX20_rowOf 97 = .ok (.iload 8, 2) := dk_21 8 (dk_at dksX20_rowOf_4 4 rfl rfl)
theorem dX20_rowOf_99 : decode cX20_rowOf 99 = .ok (.iconst 2, 1) := dk_5 (dk_at dksX20_rowOf_4 6 rfl rfl)
theorem dX20_rowOf_100 : decode cX20_rowOf 100 = .ok (.if_icmp .ne 7, 3) := dk_160 0 7 (dk_at dksX20_rowOf_4 7 rfl rfl)
theorem dX20_rowOf_103 : decode cX20_rowOf 103 = .ok (.iconst 1, 1) := dk_4 (dk_at dksX20_rowOf_4 10 rfl rfl)
theorem dX20_rowOf_104 : decode cX20_rowOf 104 = .ok (.goto 4, 3) := dk_167 0 4 (dk_at dksX20_rowOf_4 11 rfl rfl)
theorem dX20_rowOf_107 : decode cX20_rowOf 107 = .ok (.iconst 0, 1) := dk_3 (dk_at dksX20_rowOf_4 14 rfl rfl)
theorem dX20_rowOf_108 : decode cX20_rowOf 108 = .ok (.isub, 1) := dk_100 (dk_at dksX20_rowOf_4 15 rfl rfl)
theorem dX20_rowOf_109 : decode cX20_rowOf 109 = .ok (.istore 5, 2) := dk_54 5 (dk_at dksX20_rowOf_4 16 rfl rfl)
theorem dX20_rowOf_111 : decode cX20_rowOf 111 = .ok (.aload_n 0, 1) := dk_42 (dk_at dksX20_rowOf_4 18 rfl rfl)
theorem dX20_rowOf_112 : decode cX20_rowOf 112 = .ok (.iload 7, 2) := dk_21 7 (dk_at dksX20_rowOf_4 19 rfl rfl)
theorem dX20_rowOf_114 : decode cX20_rowOf 114 = .ok (.iload 8, 2) := dk_21 8 (dk_at dksX20_rowOf_4 21 rfl rfl)
theorem dX20_rowOf_116 : decode cX20_rowOf 116 = .ok (.iload 6, 2) := dk_21 6 (dk_at dksX20_rowOf_5 0 rfl rfl)
theorem dX20_rowOf_118 : decode cX20_rowOf 118 = .ok (.invokevirtual 125, 3) := dk_182 0 125 (dk_at dksX20_rowOf_5 2 rfl rfl)
theorem dX20_rowOf_121 : decode cX20_rowOf 121 = .ok (.istore 6, 2) := dk_54 6 (dk_at dksX20_rowOf_5 5 rfl rfl)
theorem dX20_rowOf_123 : decode cX20_rowOf 123 = .ok (.iinc 7 1, 3) := dk_132 7 1 (dk_at dksX20_rowOf_5 7 rfl rfl)
theorem dX20_rowOf_126 : decode cX20_rowOf 126 = .ok (.goto (-106), 3) := dk_167 255 150 (dk_at dksX20_rowOf_5 10 rfl rfl)
theorem dX20_rowOf_129 : decode cX20_rowOf 129 = .ok (.aload_n 3, 1) := dk_45 (dk_at dksX20_rowOf_5 13 rfl rfl)
theorem dX20_rowOf_130 : decode cX20_rowOf 130 = .ok (.areturn, 1) := dk_176 (dk_at dksX20_rowOf_5 14 rfl rfl)
abbrev cX20_isAhead : ByteArray := prog_20_method_10_code
def yX20_isAhead : MethodName := ⟨RX20, "isAhead", "([I[I)Z"⟩
def dkwX20_isAhead_1 : List UInt8 := [162, 0, 7, 4, 167, 0, 4, 3, 172, 132, 3, 1, 167, 255, 223, 3, 172]
abbrev dktX20_isAhead_1 : List UInt8 := dkwX20_isAhead_1 ++ []
def dkwX20_isAhead_0 : List UInt8 := [3, 62, 29, 43, 190, 162, 0, 33, 43, 29, 46, 44, 29, 46, 159, 0, 18, 43, 29, 46, 44, 29, 46]
abbrev dktX20_isAhead_0 : List UInt8 := dkwX20_isAhead_0 ++ dktX20_isAhead_1
theorem dksX20_isAhead_0 : cX20_isAhead.data.toList.drop 0 = dktX20_isAhead_0 := by decide +kernel
theorem dksX20_isAhead_1 : cX20_isAhead.data.toList.drop 23 = dktX20_isAhead_1 := dk_seg dksX20_isAhead_0 23 rfl rfl
theorem dX20_isAhead_0 : decode cX20_isAhead 0 = .ok (.iconst 0, 1) := dk_3 (dk_at dksX20_isAhead_0 0 rfl rfl)
theorem dX20_isAhead_1 : decode cX20_isAhead 1 = .ok (.istore_n 3, 1) := dk_62 (dk_at dksX20_isAhead_0 1 rfl rfl)
theorem dX20_isAhead_2 : decode cX20_isAhead 2 = .ok (.iload_n 3, 1) := dk_29 (dk_at dksX20_isAhead_0 2 rfl rfl)
theorem dX20_isAhead_3 : decode cX20_isAhead 3 = .ok (.aload_n 1, 1) := dk_43 (dk_at dksX20_isAhead_0 3 rfl rfl)
theorem dX20_isAhead_4 : decode cX20_isAhead 4 = .ok (.arraylength, 1) := dk_190 (dk_at dksX20_isAhead_0 4 rfl rfl)
theorem dX20_isAhead_5 : decode cX20_isAhead 5 = .ok (.if_icmp .ge 33, 3) := dk_162 0 33 (dk_at dksX20_isAhead_0 5 rfl rfl)
theorem dX20_isAhead_8 : decode cX20_isAhead 8 = .ok (.aload_n 1, 1) := dk_43 (dk_at dksX20_isAhead_0 8 rfl rfl)
theorem dX20_isAhead_9 : decode cX20_isAhead 9 = .ok (.iload_n 3, 1) := dk_29 (dk_at dksX20_isAhead_0 9 rfl rfl)
theorem dX20_isAhead_10 : decode cX20_isAhead 10 = .ok (.iaload, 1) := dk_46 (dk_at dksX20_isAhead_0 10 rfl rfl)
theorem dX20_isAhead_11 : decode cX20_isAhead 11 = .ok (.aload_n 2, 1) := dk_44 (dk_at dksX20_isAhead_0 11 rfl rfl)
theorem dX20_isAhead_12 : decode cX20_isAhead 12 = .ok (.iload_n 3, 1) := dk_29 (dk_at dksX20_isAhead_0 12 rfl rfl)
theorem dX20_isAhead_13 : decode cX20_isAhead 13 = .ok (.iaload, 1) := dk_46 (dk_at dksX20_isAhead_0 13 rfl rfl)
theorem dX20_isAhead_14 : decode cX20_isAhead 14 = .ok (.if_icmp .eq 18, 3) := dk_159 0 18 (dk_at dksX20_isAhead_0 14 rfl rfl)
theorem dX20_isAhead_17 : decode cX20_isAhead 17 = .ok (.aload_n 1, 1) := dk_43 (dk_at dksX20_isAhead_0 17 rfl rfl)
theorem dX20_isAhead_18 : decode cX20_isAhead 18 = .ok (.iload_n 3, 1) := dk_29 (dk_at dksX20_isAhead_0 18 rfl rfl)
theorem dX20_isAhead_19 : decode cX20_isAhead 19 = .ok (.iaload, 1) := dk_46 (dk_at dksX20_isAhead_0 19 rfl rfl)
theorem dX20_isAhead_20 : decode cX20_isAhead 20 = .ok (.aload_n 2, 1) := dk_44 (dk_at dksX20_isAhead_0 20 rfl rfl)
theorem dX20_isAhead_21 : decode cX20_isAhead 21 = .ok (.iload_n 3, 1) := dk_29 (dk_at dksX20_isAhead_0 21 rfl rfl)
theorem dX20_isAhead_22 : decode cX20_isAhead 22 = .ok (.iaload, 1) := dk_46 (dk_at dksX20_isAhead_0 22 rfl rfl)
theorem dX20_isAhead_23 : decode cX20_isAhead 23 = .ok (.if_icmp .ge 7, 3) := dk_162 0 7 (dk_at dksX20_isAhead_1 0 rfl rfl)
theorem dX20_isAhead_26 : decode cX20_isAhead 26 = .ok (.iconst 1, 1) := dk_4 (dk_at dksX20_isAhead_1 3 rfl rfl)
theorem dX20_isAhead_27 : decode cX20_isAhead 27 = .ok (.goto 4, 3) := dk_167 0 4 (dk_at dksX20_isAhead_1 4 rfl rfl)
theorem dX20_isAhead_30 : decode cX20_isAhead 30 = .ok (.iconst 0, 1) := dk_3 (dk_at dksX20_isAhead_1 7 rfl rfl)
theorem dX20_isAhead_31 : decode cX20_isAhead 31 = .ok (.ireturn, 1) := dk_172 (dk_at dksX20_isAhead_1 8 rfl rfl)
theorem dX20_isAhead_32 : decode cX20_isAhead 32 = .ok (.iinc 3 1, 3) := dk_132 3 1 (dk_at dksX20_isAhead_1 9 rfl rfl)
theorem dX20_isAhead_35 : decode cX20_isAhead 35 = .ok (.goto (-33), 3) := dk_167 255 223 (dk_at dksX20_isAhead_1 12 rfl rfl)
theorem dX20_isAhead_38 : decode cX20_isAhead 38 = .ok (.iconst 0, 1) := dk_3 (dk_at dksX20_isAhead_1 15 rfl rfl)
theorem dX20_isAhead_39 : decode cX20_isAhead 39 = .ok (.ireturn, 1) := dk_172 (dk_at dksX20_isAhead_1 16 rfl rfl)
abbrev cX20_levelOf : ByteArray := prog_20_method_15_code
def yX20_levelOf : MethodName := ⟨RX20, "levelOf", "([II)I"⟩
def dkwX20_levelOf_1 : List UInt8 := [43, 29, 46, 172, 132, 3, 1, 167, 255, 227, 2, 172]
abbrev dktX20_levelOf_1 : List UInt8 := dkwX20_levelOf_1 ++ []
def dkwX20_levelOf_0 : List UInt8 := [3, 62, 29, 42, 180, 0, 48, 190, 162, 0, 26, 42, 180, 0, 48, 29, 50, 180, 0, 156, 28, 160, 0, 7]
abbrev dktX20_levelOf_0 : List UInt8 := dkwX20_levelOf_0 ++ dktX20_levelOf_1
theorem dksX20_levelOf_0 : cX20_levelOf.data.toList.drop 0 = dktX20_levelOf_0 := by decide +kernel
theorem dksX20_levelOf_1 : cX20_levelOf.data.toList.drop 24 = dktX20_levelOf_1 := dk_seg dksX20_levelOf_0 24 rfl rfl
theorem dX20_levelOf_0 : decode cX20_levelOf 0 = .ok (.iconst 0, 1) := dk_3 (dk_at dksX20_levelOf_0 0 rfl rfl)
theorem dX20_levelOf_1 : decode cX20_levelOf 1 = .ok (.istore_n 3, 1) := dk_62 (dk_at dksX20_levelOf_0 1 rfl rfl)
theorem dX20_levelOf_2 : decode cX20_levelOf 2 = .ok (.iload_n 3, 1) := dk_29 (dk_at dksX20_levelOf_0 2 rfl rfl)
theorem dX20_levelOf_3 : decode cX20_levelOf 3 = .ok (.aload_n 0, 1) := dk_42 (dk_at dksX20_levelOf_0 3 rfl rfl)
theorem dX20_levelOf_4 : decode cX20_levelOf 4 = .ok (.getfield 48, 3) := dk_180 0 48 (dk_at dksX20_levelOf_0 4 rfl rfl)
theorem dX20_levelOf_7 : decode cX20_levelOf 7 = .ok (.arraylength, 1) := dk_190 (dk_at dksX20_levelOf_0 7 rfl rfl)
theorem dX20_levelOf_8 : decode cX20_levelOf 8 = .ok (.if_icmp .ge 26, 3) := dk_162 0 26 (dk_at dksX20_levelOf_0 8 rfl rfl)
theorem dX20_levelOf_11 : decode cX20_levelOf 11 = .ok (.aload_n 0, 1) := dk_42 (dk_at dksX20_levelOf_0 11 rfl rfl)
theorem dX20_levelOf_12 : decode cX20_levelOf 12 = .ok (.getfield 48, 3) := dk_180 0 48 (dk_at dksX20_levelOf_0 12 rfl rfl)
theorem dX20_levelOf_15 : decode cX20_levelOf 15 = .ok (.iload_n 3, 1) := dk_29 (dk_at dksX20_levelOf_0 15 rfl rfl)
theorem dX20_levelOf_16 : decode cX20_levelOf 16 = .ok (.aaload, 1) := dk_50 (dk_at dksX20_levelOf_0 16 rfl rfl)
theorem dX20_levelOf_17 : decode cX20_levelOf 17 = .ok (.getfield 156, 3) := dk_180 0 156 (dk_at dksX20_levelOf_0 17 rfl rfl)
theorem dX20_levelOf_20 : decode cX20_levelOf 20 = .ok (.iload_n 2, 1) := dk_28 (dk_at dksX20_levelOf_0 20 rfl rfl)
theorem dX20_levelOf_21 : decode cX20_levelOf 21 = .ok (.if_icmp .ne 7, 3) := dk_160 0 7 (dk_at dksX20_levelOf_0 21 rfl rfl)
theorem dX20_levelOf_24 : decode cX20_levelOf 24 = .ok (.aload_n 1, 1) := dk_43 (dk_at dksX20_levelOf_1 0 rfl rfl)
theorem dX20_levelOf_25 : decode cX20_levelOf 25 = .ok (.iload_n 3, 1) := dk_29 (dk_at dksX20_levelOf_1 1 rfl rfl)
theorem dX20_levelOf_26 : decode cX20_levelOf 26 = .ok (.iaload, 1) := dk_46 (dk_at dksX20_levelOf_1 2 rfl rfl)
theorem dX20_levelOf_27 : decode cX20_levelOf 27 = .ok (.ireturn, 1) := dk_172 (dk_at dksX20_levelOf_1 3 rfl rfl)
theorem dX20_levelOf_28 : decode cX20_levelOf 28 = .ok (.iinc 3 1, 3) := dk_132 3 1 (dk_at dksX20_levelOf_1 4 rfl rfl)
theorem dX20_levelOf_31 : decode cX20_levelOf 31 = .ok (.goto (-29), 3) := dk_167 255 227 (dk_at dksX20_levelOf_1 7 rfl rfl)
theorem dX20_levelOf_34 : decode cX20_levelOf 34 = .ok (.iconst (-1), 1) := dk_2 (dk_at dksX20_levelOf_1 10 rfl rfl)
theorem dX20_levelOf_35 : decode cX20_levelOf 35 = .ok (.ireturn, 1) := dk_172 (dk_at dksX20_levelOf_1 11 rfl rfl)
theorem q158 : (Jvm.Cond.initialized "ExamSlips$Schemes") ∈ lw_all := lw_g (lw_at lw_m1 35 rfl) rfl
theorem q211 : (Jvm.Cond.fieldLinkNest "ExamSlips$Schemes" (32 : Nat) "ExamSlips$Exam" "questions" "Ljava/util/ArrayList;" "ExamSlips") ∈ lw_tbl := lw_at lw_m1 88 rfl
theorem q223 : (Jvm.Cond.fieldLinkNest "ExamSlips$Schemes" (69 : Nat) "ExamSlips$Exam" "terms" "[I" "ExamSlips") ∈ lw_tbl := lw_at lw_m1 100 rfl
theorem q290 : (Jvm.Cond.fieldLinkNest "ExamSlips$Schemes" (28 : Nat) "ExamSlips" "exam" "LExamSlips$Exam;" "ExamSlips") ∈ lw_tbl := lw_at lw_m1 167 rfl
theorem q304 : (Jvm.Cond.fieldLinkNest "ExamSlips$Schemes" (58 : Nat) "ExamSlips" "fewest" "[I" "ExamSlips") ∈ lw_tbl := lw_at lw_m1 181 rfl
theorem q383 : (Jvm.Cond.fieldLinkNest "ExamSlips$Schemes" (156 : Nat) "ExamSlips$Question" "number" "I" "ExamSlips") ∈ lw_tbl := lw_at lw_m2 20 rfl
theorem q386 : (Jvm.Cond.fieldLinkNest "ExamSlips$Schemes" (113 : Nat) "ExamSlips$Question" "king" "I" "ExamSlips") ∈ lw_tbl := lw_at lw_m2 23 rfl
theorem q394 : (Jvm.Cond.fieldLinkNest "ExamSlips$Schemes" (44 : Nat) "ExamSlips$Question" "isOut" "Z" "ExamSlips") ∈ lw_tbl := lw_at lw_m2 31 rfl
theorem q461 : (Jvm.Cond.selects "ExamSlips$Schemes" ({ cls := "java/lang/Object", name := "getClass", desc := "()Ljava/lang/Class;" } : Jvm.MethodName) ({ cls := "java/lang/Object", name := "getClass", desc := "()Ljava/lang/Class;" } : Jvm.MethodName)) ∈ lw_all := lw_g (lw_at lw_m2 98 rfl) rfl
theorem q1016 : (Jvm.Cond.fieldLinkNest "ExamSlips$Schemes" (103 : Nat) "ExamSlips$Answers" "most" "I" "ExamSlips") ∈ lw_tbl := lw_at lw_m4 173 rfl
theorem q1155 : (Jvm.Cond.instantiable "ExamSlips$Schemes" (5 : Nat)) ∈ lw_all := lw_g (lw_at lw_m5 72 rfl) rfl
theorem q1157 : (Jvm.Cond.instanceMethod ({ cls := "ExamSlips$Schemes", name := "<init>", desc := "(LExamSlips;)V" } : Jvm.MethodName)) ∈ lw_all := lw_g (lw_at lw_m5 74 rfl) rfl
theorem q1158 : (Jvm.Cond.code ({ cls := "ExamSlips$Schemes", name := "<init>", desc := "(LExamSlips;)V" } : Jvm.MethodName) prog_20_method_1_code (8 : Nat) (Option.none : Option Jvm.ClassFile.FieldType)) ∈ lw_all := lw_g (lw_at lw_m5 75 rfl) rfl
theorem q1159 : (Jvm.Cond.methodLink "ExamSlips$Schemes" (9 : Nat) ({ cls := "java/lang/Object", name := "<init>", desc := "()V" } : Jvm.MethodName)) ∈ lw_all := lw_g (lw_at lw_m5 76 rfl) rfl
theorem q1160 : (Jvm.Cond.classLink "ExamSlips$Schemes" (22 : Nat) "ExamSlips$Question") ∈ lw_all := lw_g (lw_at lw_m5 77 rfl) rfl
theorem q1162 : (Jvm.Cond.methodLinkNest "ExamSlips$Schemes" (24 : Nat) ({ cls := "ExamSlips", name := "many", desc := "()I" } : Jvm.MethodName) "ExamSlips") ∈ lw_tbl := lw_at lw_m5 79 rfl
theorem q1163 : (Jvm.Cond.methodLink "ExamSlips$Schemes" (38 : Nat) ({ cls := "java/util/ArrayList", name := "get", desc := "(I)Ljava/lang/Object;" } : Jvm.MethodName)) ∈ lw_all := lw_g (lw_at lw_m5 80 rfl) rfl
theorem q1164 : (Jvm.Cond.methodLink "ExamSlips$Schemes" (52 : Nat) ({ cls := "java/lang/System", name := "arraycopy", desc := "(Ljava/lang/Object;ILjava/lang/Object;II)V" } : Jvm.MethodName)) ∈ lw_all := lw_g (lw_at lw_m5 81 rfl) rfl
theorem q1165 : (Jvm.Cond.methodLink "ExamSlips$Schemes" (62 : Nat) ({ cls := "ExamSlips$Schemes", name := "at", desc := "(IIII)I" } : Jvm.MethodName)) ∈ lw_all := lw_g (lw_at lw_m5 82 rfl) rfl
theorem q1166 : (Jvm.Cond.privateMethod ({ cls := "ExamSlips$Schemes", name := "at", desc := "(IIII)I" } : Jvm.MethodName)) ∈ lw_tbl := lw_at lw_m5 83 rfl
theorem q1167 : (Jvm.Cond.instanceMethod ({ cls := "ExamSlips$Schemes", name := "at", desc := "(IIII)I" } : Jvm.MethodName)) ∈ lw_all := lw_g (lw_at lw_m5 84 rfl) rfl
theorem q1168 : (Jvm.Cond.code ({ cls := "ExamSlips$Schemes", name := "at", desc := "(IIII)I" } : Jvm.MethodName) prog_20_method_3_code (5 : Nat) (Option.some Jvm.ClassFile.FieldType.int)) ∈ lw_all := lw_g (lw_at lw_m5 85 rfl) rfl
theorem q1169 : (Jvm.Cond.methodLink "ExamSlips$Schemes" (66 : Nat) ({ cls := "ExamSlips$Schemes", name := "least", desc := "(IIII)I" } : Jvm.MethodName)) ∈ lw_all := lw_g (lw_at lw_m5 86 rfl) rfl
theorem q1170 : (Jvm.Cond.privateMethod ({ cls := "ExamSlips$Schemes", name := "least", desc := "(IIII)I" } : Jvm.MethodName)) ∈ lw_tbl := lw_at lw_m5 87 rfl
theorem q1171 : (Jvm.Cond.instanceMethod ({ cls := "ExamSlips$Schemes", name := "least", desc := "(IIII)I" } : Jvm.MethodName)) ∈ lw_all := lw_g (lw_at lw_m5 88 rfl) rfl
theorem q1172 : (Jvm.Cond.code ({ cls := "ExamSlips$Schemes", name := "least", desc := "(IIII)I" } : Jvm.MethodName) prog_20_method_8_code (7 : Nat) (Option.some Jvm.ClassFile.FieldType.int)) ∈ lw_all := lw_g (lw_at lw_m5 89 rfl) rfl
theorem q1173 : (Jvm.Cond.constant "ExamSlips$Schemes" (120 : Nat) (1000000 : Int32)) ∈ lw_all := lw_g (lw_at lw_m5 90 rfl) rfl
theorem q1174 : (Jvm.Cond.methodLink "ExamSlips$Schemes" (128 : Nat) ({ cls := "ExamSlips$Schemes", name := "with", desc := "(IIIII)I" } : Jvm.MethodName)) ∈ lw_all := lw_g (lw_at lw_m5 91 rfl) rfl
theorem q1175 : (Jvm.Cond.privateMethod ({ cls := "ExamSlips$Schemes", name := "with", desc := "(IIIII)I" } : Jvm.MethodName)) ∈ lw_tbl := lw_at lw_m5 92 rfl
theorem q1176 : (Jvm.Cond.instanceMethod ({ cls := "ExamSlips$Schemes", name := "with", desc := "(IIIII)I" } : Jvm.MethodName)) ∈ lw_all := lw_g (lw_at lw_m5 93 rfl) rfl
theorem q1177 : (Jvm.Cond.code ({ cls := "ExamSlips$Schemes", name := "with", desc := "(IIIII)I" } : Jvm.MethodName) prog_20_method_7_code (8 : Nat) (Option.some Jvm.ClassFile.FieldType.int)) ∈ lw_all := lw_g (lw_at lw_m5 94 rfl) rfl
theorem q1178 : (Jvm.Cond.methodLink "ExamSlips$Schemes" (121 : Nat) ({ cls := "ExamSlips$Schemes", name := "cost", desc := "(III)I" } : Jvm.MethodName)) ∈ lw_all := lw_g (lw_at lw_m5 95 rfl) rfl
theorem q1179 : (Jvm.Cond.privateMethod ({ cls := "ExamSlips$Schemes", name := "cost", desc := "(III)I" } : Jvm.MethodName)) ∈ lw_tbl := lw_at lw_m5 96 rfl
theorem q1180 : (Jvm.Cond.instanceMethod ({ cls := "ExamSlips$Schemes", name := "cost", desc := "(III)I" } : Jvm.MethodName)) ∈ lw_all := lw_g (lw_at lw_m5 97 rfl) rfl
theorem q1181 : (Jvm.Cond.code ({ cls := "ExamSlips$Schemes", name := "cost", desc := "(III)I" } : Jvm.MethodName) prog_20_method_5_code (7 : Nat) (Option.some Jvm.ClassFile.FieldType.int)) ∈ lw_all := lw_g (lw_at lw_m5 98 rfl) rfl
theorem q1182 : (Jvm.Cond.methodLinkNest "ExamSlips$Schemes" (116 : Nat) ({ cls := "ExamSlips", name := "takes", desc := "(LExamSlips$Question;III)I" } : Jvm.MethodName) "ExamSlips") ∈ lw_tbl := lw_at lw_m5 99 rfl
theorem q1183 : (Jvm.Cond.methodLink "ExamSlips$Schemes" (125 : Nat) ({ cls := "ExamSlips$Schemes", name := "after", desc := "(III)I" } : Jvm.MethodName)) ∈ lw_all := lw_g (lw_at lw_m5 100 rfl) rfl
theorem q1184 : (Jvm.Cond.privateMethod ({ cls := "ExamSlips$Schemes", name := "after", desc := "(III)I" } : Jvm.MethodName)) ∈ lw_tbl := lw_at lw_m5 101 rfl
theorem q1185 : (Jvm.Cond.instanceMethod ({ cls := "ExamSlips$Schemes", name := "after", desc := "(III)I" } : Jvm.MethodName)) ∈ lw_all := lw_g (lw_at lw_m5 102 rfl) rfl
theorem q1186 : (Jvm.Cond.code ({ cls := "ExamSlips$Schemes", name := "after", desc := "(III)I" } : Jvm.MethodName) prog_20_method_6_code (4 : Nat) (Option.some Jvm.ClassFile.FieldType.int)) ∈ lw_all := lw_g (lw_at lw_m5 103 rfl) rfl
theorem q1187 : (Jvm.Cond.methodLink "ExamSlips$Schemes" (72 : Nat) ({ cls := "java/lang/Math", name := "min", desc := "(II)I" } : Jvm.MethodName)) ∈ lw_all := lw_g (lw_at lw_m5 104 rfl) rfl
theorem q1188 : (Jvm.Cond.classLink "ExamSlips$Schemes" (78 : Nat) "ExamSlips$Answers") ∈ lw_all := lw_g (lw_at lw_m5 105 rfl) rfl
theorem q1189 : (Jvm.Cond.methodLinkNest "ExamSlips$Schemes" (80 : Nat) ({ cls := "ExamSlips", name := "chances", desc := "()[I" } : Jvm.MethodName) "ExamSlips") ∈ lw_tbl := lw_at lw_m5 106 rfl
theorem q1190 : (Jvm.Cond.methodLink "ExamSlips$Schemes" (84 : Nat) ({ cls := "ExamSlips$Answers", name := "<init>", desc := "([II)V" } : Jvm.MethodName)) ∈ lw_all := lw_g (lw_at lw_m5 107 rfl) rfl
theorem q1191 : (Jvm.Cond.methodLink "ExamSlips$Schemes" (87 : Nat) ({ cls := "ExamSlips$Schemes", name := "lie", desc := "(LExamSlips$Answers;I)V" } : Jvm.MethodName)) ∈ lw_all := lw_g (lw_at lw_m5 108 rfl) rfl
theorem q1192 : (Jvm.Cond.privateMethod ({ cls := "ExamSlips$Schemes", name := "lie", desc := "(LExamSlips$Answers;I)V" } : Jvm.MethodName)) ∈ lw_tbl := lw_at lw_m5 109 rfl
theorem q1193 : (Jvm.Cond.instanceMethod ({ cls := "ExamSlips$Schemes", name := "lie", desc := "(LExamSlips$Answers;I)V" } : Jvm.MethodName)) ∈ lw_all := lw_g (lw_at lw_m5 110 rfl) rfl
theorem q1194 : (Jvm.Cond.code ({ cls := "ExamSlips$Schemes", name := "lie", desc := "(LExamSlips$Answers;I)V" } : Jvm.MethodName) prog_20_method_2_code (9 : Nat) (Option.none : Option Jvm.ClassFile.FieldType)) ∈ lw_all := lw_g (lw_at lw_m5 111 rfl) rfl
theorem q1195 : (Jvm.Cond.methodLinkNest "ExamSlips$Schemes" (95 : Nat) ({ cls := "ExamSlips", name := "over", desc := "(II)J" } : Jvm.MethodName) "ExamSlips") ∈ lw_tbl := lw_at lw_m5 112 rfl
theorem q1196 : (Jvm.Cond.constantLong "ExamSlips$Schemes" (107 : Nat) (100 : Int64)) ∈ lw_all := lw_g (lw_at lw_m5 113 rfl) rfl
theorem q1197 : (Jvm.Cond.methodLink "ExamSlips$Schemes" (109 : Nat) ({ cls := "ExamSlips$Answers", name := "of", desc := "([I)[J" } : Jvm.MethodName)) ∈ lw_all := lw_g (lw_at lw_m5 114 rfl) rfl
theorem q1198 : (Jvm.Cond.methodLink "ExamSlips$Schemes" (91 : Nat) ({ cls := "ExamSlips$Schemes", name := "weigh", desc := "(III)J" } : Jvm.MethodName)) ∈ lw_all := lw_g (lw_at lw_m5 115 rfl) rfl
theorem q1199 : (Jvm.Cond.privateMethod ({ cls := "ExamSlips$Schemes", name := "weigh", desc := "(III)J" } : Jvm.MethodName)) ∈ lw_tbl := lw_at lw_m5 116 rfl
theorem q1200 : (Jvm.Cond.instanceMethod ({ cls := "ExamSlips$Schemes", name := "weigh", desc := "(III)J" } : Jvm.MethodName)) ∈ lw_all := lw_g (lw_at lw_m5 117 rfl) rfl
theorem q1201 : (Jvm.Cond.code ({ cls := "ExamSlips$Schemes", name := "weigh", desc := "(III)J" } : Jvm.MethodName) prog_20_method_4_code (8 : Nat) (Option.some Jvm.ClassFile.FieldType.long)) ∈ lw_all := lw_g (lw_at lw_m5 118 rfl) rfl
theorem q1202 : (Jvm.Cond.fieldLink "ExamSlips$Schemes" (48 : Nat) "ExamSlips$Schemes" "row" "[LExamSlips$Question;") ∈ lw_all := lw_g (lw_at lw_m5 119 rfl) rfl
theorem q1204 : (Jvm.Cond.fieldLink "ExamSlips$Schemes" (15 : Nat) "ExamSlips$Schemes" "passes" "[J") ∈ lw_all := lw_g (lw_at lw_m5 121 rfl) rfl
theorem q1205 : (Jvm.Cond.fieldLink "ExamSlips$Schemes" (19 : Nat) "ExamSlips$Schemes" "lying" "[J") ∈ lw_all := lw_g (lw_at lw_m5 122 rfl) rfl
theorem q1206 : (Jvm.Cond.fieldLink "ExamSlips$Schemes" (99 : Nat) "ExamSlips$Schemes" "all" "J") ∈ lw_all := lw_g (lw_at lw_m5 123 rfl) rfl
theorem q1208 : (Jvm.Cond.fieldLink "ExamSlips$Schemes" (3 : Nat) "ExamSlips$Schemes" "this$0" "LExamSlips;") ∈ lw_all := lw_g (lw_at lw_m5 125 rfl) rfl
theorem q1209 : (Jvm.Cond.laysFinal "ExamSlips$Schemes" "ExamSlips$Schemes" "row" "[LExamSlips$Question;") ∈ lw_all := lw_g (lw_at lw_m5 126 rfl) rfl
theorem q1210 : (Jvm.Cond.soleField "ExamSlips$Schemes" "row") ∈ lw_all := lw_g (lw_at lw_m5 127 rfl) rfl
theorem q1211 : (Jvm.Cond.laysFinal "ExamSlips$Schemes" "ExamSlips$Schemes" "passes" "[J") ∈ lw_all := lw_g (lw_at lw_m5 128 rfl) rfl
theorem q1212 : (Jvm.Cond.soleField "ExamSlips$Schemes" "passes") ∈ lw_all := lw_g (lw_at lw_m5 129 rfl) rfl
theorem q1213 : (Jvm.Cond.laysFinal "ExamSlips$Schemes" "ExamSlips$Schemes" "lying" "[J") ∈ lw_all := lw_g (lw_at lw_m5 130 rfl) rfl
theorem q1214 : (Jvm.Cond.soleField "ExamSlips$Schemes" "lying") ∈ lw_all := lw_g (lw_at lw_m5 131 rfl) rfl
theorem q1215 : (Jvm.Cond.lays "ExamSlips$Schemes" "ExamSlips$Schemes" "all" "J") ∈ lw_all := lw_g (lw_at lw_m5 132 rfl) rfl
theorem q1216 : (Jvm.Cond.soleField "ExamSlips$Schemes" "all") ∈ lw_all := lw_g (lw_at lw_m5 133 rfl) rfl
theorem q1217 : (Jvm.Cond.laysFinal "ExamSlips$Schemes" "ExamSlips$Schemes" "this$0" "LExamSlips;") ∈ lw_all := lw_g (lw_at lw_m5 134 rfl) rfl
theorem q1218 : (Jvm.Cond.soleField "ExamSlips$Schemes" "this$0") ∈ lw_all := lw_g (lw_at lw_m5 135 rfl) rfl
theorem q1219 : (Jvm.Cond.superclass "ExamSlips$Schemes" "java/lang/Object") ∈ lw_all := lw_g (lw_at lw_m5 136 rfl) rfl
theorem q1221 : (Jvm.Cond.instanceMethod ({ cls := "ExamSlips$Schemes", name := "hours", desc := "(I)I" } : Jvm.MethodName)) ∈ lw_all := lw_g (lw_at lw_m5 138 rfl) rfl
theorem q1222 : (Jvm.Cond.selects "ExamSlips$Schemes" ({ cls := "ExamSlips$Schemes", name := "hours", desc := "(I)I" } : Jvm.MethodName) ({ cls := "ExamSlips$Schemes", name := "hours", desc := "(I)I" } : Jvm.MethodName)) ∈ lw_all := lw_g (lw_at lw_m5 139 rfl) rfl
theorem q1223 : (Jvm.Cond.code ({ cls := "ExamSlips$Schemes", name := "hours", desc := "(I)I" } : Jvm.MethodName) prog_20_method_13_code (7 : Nat) (Option.some Jvm.ClassFile.FieldType.int)) ∈ lw_all := lw_g (lw_at lw_m5 140 rfl) rfl
theorem q1224 : (Jvm.Cond.methodLink "ExamSlips$Schemes" (141 : Nat) ({ cls := "ExamSlips$Schemes", name := "most", desc := "(I)J" } : Jvm.MethodName)) ∈ lw_all := lw_g (lw_at lw_m5 141 rfl) rfl
theorem q1225 : (Jvm.Cond.instanceMethod ({ cls := "ExamSlips$Schemes", name := "most", desc := "(I)J" } : Jvm.MethodName)) ∈ lw_all := lw_g (lw_at lw_m5 142 rfl) rfl
theorem q1226 : (Jvm.Cond.selects "ExamSlips$Schemes" ({ cls := "ExamSlips$Schemes", name := "most", desc := "(I)J" } : Jvm.MethodName) ({ cls := "ExamSlips$Schemes", name := "most", desc := "(I)J" } : Jvm.MethodName)) ∈ lw_all := lw_g (lw_at lw_m5 143 rfl) rfl
theorem q1227 : (Jvm.Cond.code ({ cls := "ExamSlips$Schemes", name := "most", desc := "(I)J" } : Jvm.MethodName) prog_20_method_12_code (6 : Nat) (Option.some Jvm.ClassFile.FieldType.long)) ∈ lw_all := lw_g (lw_at lw_m5 144 rfl) rfl
theorem q1228 : (Jvm.Cond.constantLong "ExamSlips$Schemes" (132 : Nat) (-1 : Int64)) ∈ lw_all := lw_g (lw_at lw_m5 145 rfl) rfl
theorem q1229 : (Jvm.Cond.methodLink "ExamSlips$Schemes" (134 : Nat) ({ cls := "ExamSlips$Schemes", name := "hoursOf", desc := "(II)I" } : Jvm.MethodName)) ∈ lw_all := lw_g (lw_at lw_m5 146 rfl) rfl
theorem q1230 : (Jvm.Cond.privateMethod ({ cls := "ExamSlips$Schemes", name := "hoursOf", desc := "(II)I" } : Jvm.MethodName)) ∈ lw_tbl := lw_at lw_m5 147 rfl
theorem q1231 : (Jvm.Cond.instanceMethod ({ cls := "ExamSlips$Schemes", name := "hoursOf", desc := "(II)I" } : Jvm.MethodName)) ∈ lw_all := lw_g (lw_at lw_m5 148 rfl) rfl
theorem q1232 : (Jvm.Cond.code ({ cls := "ExamSlips$Schemes", name := "hoursOf", desc := "(II)I" } : Jvm.MethodName) prog_20_method_11_code (3 : Nat) (Option.some Jvm.ClassFile.FieldType.int)) ∈ lw_all := lw_g (lw_at lw_m5 149 rfl) rfl
theorem q1233 : (Jvm.Cond.methodLink "ExamSlips$Schemes" (137 : Nat) ({ cls := "java/lang/Math", name := "max", desc := "(JJ)J" } : Jvm.MethodName)) ∈ lw_all := lw_g (lw_at lw_m5 150 rfl) rfl
theorem q1240 : (Jvm.Cond.instanceMethod ({ cls := "ExamSlips$Schemes", name := "first", desc := "(I)[I" } : Jvm.MethodName)) ∈ lw_all := lw_g (lw_at lw_m5 157 rfl) rfl
theorem q1241 : (Jvm.Cond.selects "ExamSlips$Schemes" ({ cls := "ExamSlips$Schemes", name := "first", desc := "(I)[I" } : Jvm.MethodName) ({ cls := "ExamSlips$Schemes", name := "first", desc := "(I)[I" } : Jvm.MethodName)) ∈ lw_all := lw_g (lw_at lw_m5 158 rfl) rfl
theorem q1242 : (Jvm.Cond.code ({ cls := "ExamSlips$Schemes", name := "first", desc := "(I)[I" } : Jvm.MethodName) prog_20_method_14_code (9 : Nat) (Option.some (Jvm.ClassFile.FieldType.array Jvm.ClassFile.FieldType.int))) ∈ lw_all := lw_g (lw_at lw_m5 159 rfl) rfl
theorem q1243 : (Jvm.Cond.methodLink "ExamSlips$Schemes" (144 : Nat) ({ cls := "ExamSlips$Schemes", name := "hours", desc := "(I)I" } : Jvm.MethodName)) ∈ lw_all := lw_g (lw_at lw_m5 160 rfl) rfl
theorem q1244 : (Jvm.Cond.methodLink "ExamSlips$Schemes" (148 : Nat) ({ cls := "ExamSlips$Schemes", name := "rowOf", desc := "(II)[I" } : Jvm.MethodName)) ∈ lw_all := lw_g (lw_at lw_m5 161 rfl) rfl
theorem q1245 : (Jvm.Cond.privateMethod ({ cls := "ExamSlips$Schemes", name := "rowOf", desc := "(II)[I" } : Jvm.MethodName)) ∈ lw_tbl := lw_at lw_m5 162 rfl
theorem q1246 : (Jvm.Cond.instanceMethod ({ cls := "ExamSlips$Schemes", name := "rowOf", desc := "(II)[I" } : Jvm.MethodName)) ∈ lw_all := lw_g (lw_at lw_m5 163 rfl) rfl
theorem q1247 : (Jvm.Cond.code ({ cls := "ExamSlips$Schemes", name := "rowOf", desc := "(II)[I" } : Jvm.MethodName) prog_20_method_9_code (9 : Nat) (Option.some (Jvm.ClassFile.FieldType.array Jvm.ClassFile.FieldType.int))) ∈ lw_all := lw_g (lw_at lw_m5 164 rfl) rfl
theorem q1248 : (Jvm.Cond.methodLink "ExamSlips$Schemes" (152 : Nat) ({ cls := "ExamSlips$Schemes", name := "isAhead", desc := "([I[I)Z" } : Jvm.MethodName)) ∈ lw_all := lw_g (lw_at lw_m5 165 rfl) rfl
theorem q1249 : (Jvm.Cond.privateMethod ({ cls := "ExamSlips$Schemes", name := "isAhead", desc := "([I[I)Z" } : Jvm.MethodName)) ∈ lw_tbl := lw_at lw_m5 166 rfl
theorem q1250 : (Jvm.Cond.instanceMethod ({ cls := "ExamSlips$Schemes", name := "isAhead", desc := "([I[I)Z" } : Jvm.MethodName)) ∈ lw_all := lw_g (lw_at lw_m5 167 rfl) rfl
theorem q1251 : (Jvm.Cond.code ({ cls := "ExamSlips$Schemes", name := "isAhead", desc := "([I[I)Z" } : Jvm.MethodName) prog_20_method_10_code (4 : Nat) (Option.some Jvm.ClassFile.FieldType.boolean)) ∈ lw_all := lw_g (lw_at lw_m5 168 rfl) rfl
theorem q1253 : (Jvm.Cond.instanceMethod ({ cls := "ExamSlips$Schemes", name := "levelOf", desc := "([II)I" } : Jvm.MethodName)) ∈ lw_all := lw_g (lw_at lw_m5 170 rfl) rfl
theorem q1254 : (Jvm.Cond.selects "ExamSlips$Schemes" ({ cls := "ExamSlips$Schemes", name := "levelOf", desc := "([II)I" } : Jvm.MethodName) ({ cls := "ExamSlips$Schemes", name := "levelOf", desc := "([II)I" } : Jvm.MethodName)) ∈ lw_all := lw_g (lw_at lw_m5 171 rfl) rfl
theorem q1255 : (Jvm.Cond.code ({ cls := "ExamSlips$Schemes", name := "levelOf", desc := "([II)I" } : Jvm.MethodName) prog_20_method_15_code (4 : Nat) (Option.some Jvm.ClassFile.FieldType.int)) ∈ lw_all := lw_g (lw_at lw_m5 172 rfl) rfl
theorem q2394 : (Jvm.Cond.castable "ExamSlips$Schemes" "java/lang/Object") ∈ lw_tbl := lw_at lw_m10 111 rfl
theorem in_X20 : ∀ w ∈ wsX200, w ∈ lw_all := lw_in wsX200 [1209, 1211, 1213, 1215, 1217] (by decide +kernel) (by decide +kernel)

/-! ExamSlips$Lesson -/
set_option maxRecDepth 100000
def RX21 : String := "ExamSlips$Lesson"
def TX21 : u_T := fun k => match k with
  | 0 => ("ExamSlips$Lesson", "day", "I", true)
  | _ => ("ExamSlips$Lesson", "question", "I", true)
def tyX21 : Nat → FieldType := fun k => match k with
  | 0 => .int
  | _ => .int
abbrev wsX210 : List Cond := u_ws RX21 TX21 2
theorem nmX21 : ∀ a, a < 2 → ∀ b, b < 2 → a ≠ b → (TX21 a).2.1 ≠ (TX21 b).2.1 := by decide +kernel
theorem tyX21_ok : ∀ k, k < 2 → parseFieldDescriptor (TX21 k).2.2.1 = some (tyX21 k) := by decide +kernel
abbrev cX21_init : ByteArray := prog_13_method_1_code
def yX21_init : MethodName := ⟨RX21, "<init>", "(II)V"⟩
def dkwX21_init_0 : List UInt8 := [42, 183, 0, 1, 42, 27, 181, 0, 7, 42, 28, 181, 0, 13, 177]
abbrev dktX21_init_0 : List UInt8 := dkwX21_init_0 ++ []
theorem dksX21_init_0 : cX21_init.data.toList.drop 0 = dktX21_init_0 := by decide +kernel
theorem dX21_init_0 : decode cX21_init 0 = .ok (.aload_n 0, 1) := dk_42 (dk_at dksX21_init_0 0 rfl rfl)
theorem dX21_init_1 : decode cX21_init 1 = .ok (.invokespecial 1, 3) := dk_183 0 1 (dk_at dksX21_init_0 1 rfl rfl)
theorem dX21_init_4 : decode cX21_init 4 = .ok (.aload_n 0, 1) := dk_42 (dk_at dksX21_init_0 4 rfl rfl)
theorem dX21_init_5 : decode cX21_init 5 = .ok (.iload_n 1, 1) := dk_27 (dk_at dksX21_init_0 5 rfl rfl)
theorem dX21_init_6 : decode cX21_init 6 = .ok (.putfield 7, 3) := dk_181 0 7 (dk_at dksX21_init_0 6 rfl rfl)
theorem dX21_init_9 : decode cX21_init 9 = .ok (.aload_n 0, 1) := dk_42 (dk_at dksX21_init_0 9 rfl rfl)
theorem dX21_init_10 : decode cX21_init 10 = .ok (.iload_n 2, 1) := dk_28 (dk_at dksX21_init_0 10 rfl rfl)
theorem dX21_init_11 : decode cX21_init 11 = .ok (.putfield 13, 3) := dk_181 0 13 (dk_at dksX21_init_0 11 rfl rfl)
theorem dX21_init_14 : decode cX21_init 14 = .ok (.return_, 1) := dk_177 (dk_at dksX21_init_0 14 rfl rfl)
theorem q159 : (Jvm.Cond.initialized "ExamSlips$Lesson") ∈ lw_all := lw_g (lw_at lw_m1 36 rfl) rfl
theorem q454 : (Jvm.Cond.selects "ExamSlips$Lesson" ({ cls := "java/lang/Object", name := "getClass", desc := "()Ljava/lang/Class;" } : Jvm.MethodName) ({ cls := "java/lang/Object", name := "getClass", desc := "()Ljava/lang/Class;" } : Jvm.MethodName)) ∈ lw_all := lw_g (lw_at lw_m2 91 rfl) rfl
theorem q1266 : (Jvm.Cond.instantiable "ExamSlips$Lesson" (2 : Nat)) ∈ lw_all := lw_g (lw_at lw_m5 183 rfl) rfl
theorem q1268 : (Jvm.Cond.instanceMethod ({ cls := "ExamSlips$Lesson", name := "<init>", desc := "(II)V" } : Jvm.MethodName)) ∈ lw_all := lw_g (lw_at lw_m5 185 rfl) rfl
theorem q1269 : (Jvm.Cond.code ({ cls := "ExamSlips$Lesson", name := "<init>", desc := "(II)V" } : Jvm.MethodName) prog_13_method_1_code (3 : Nat) (Option.none : Option Jvm.ClassFile.FieldType)) ∈ lw_all := lw_g (lw_at lw_m5 186 rfl) rfl
theorem q1270 : (Jvm.Cond.methodLink "ExamSlips$Lesson" (1 : Nat) ({ cls := "java/lang/Object", name := "<init>", desc := "()V" } : Jvm.MethodName)) ∈ lw_all := lw_g (lw_at lw_m5 187 rfl) rfl
theorem q1271 : (Jvm.Cond.fieldLink "ExamSlips$Lesson" (7 : Nat) "ExamSlips$Lesson" "day" "I") ∈ lw_all := lw_g (lw_at lw_m5 188 rfl) rfl
theorem q1273 : (Jvm.Cond.fieldLink "ExamSlips$Lesson" (13 : Nat) "ExamSlips$Lesson" "question" "I") ∈ lw_all := lw_g (lw_at lw_m5 190 rfl) rfl
theorem q1275 : (Jvm.Cond.laysFinal "ExamSlips$Lesson" "ExamSlips$Lesson" "day" "I") ∈ lw_all := lw_g (lw_at lw_m5 192 rfl) rfl
theorem q1276 : (Jvm.Cond.soleField "ExamSlips$Lesson" "day") ∈ lw_all := lw_g (lw_at lw_m5 193 rfl) rfl
theorem q1277 : (Jvm.Cond.laysFinal "ExamSlips$Lesson" "ExamSlips$Lesson" "question" "I") ∈ lw_all := lw_g (lw_at lw_m5 194 rfl) rfl
theorem q1278 : (Jvm.Cond.soleField "ExamSlips$Lesson" "question") ∈ lw_all := lw_g (lw_at lw_m5 195 rfl) rfl
theorem q1279 : (Jvm.Cond.superclass "ExamSlips$Lesson" "java/lang/Object") ∈ lw_all := lw_g (lw_at lw_m5 196 rfl) rfl
theorem q2395 : (Jvm.Cond.castable "ExamSlips$Lesson" "java/lang/Object") ∈ lw_tbl := lw_at lw_m10 112 rfl
theorem in_X21 : ∀ w ∈ wsX210, w ∈ lw_all := lw_in wsX210 [1275, 1277] (by decide +kernel) (by decide +kernel)

/-! ExamSlips$Mind -/
set_option maxRecDepth 100000
def RX22 : String := "ExamSlips$Mind"
def TX22 : u_T := fun k => match k with
  | 0 => ("ExamSlips$Mind", "level", "[I", true)
  | 1 => ("ExamSlips$Mind", "last", "[I", true)
  | 2 => ("ExamSlips$Mind", "dropped", "I", false)
  | 3 => ("ExamSlips$Mind", "fell", "I", false)
  | 4 => ("ExamSlips$Mind", "firstDropped", "I", false)
  | 5 => ("ExamSlips$Mind", "learned", "I", false)
  | _ => ("ExamSlips$Mind", "this$0", "LExamSlips;", true)
def tyX22 : Nat → FieldType := fun k => match k with
  | 0 => .array .int
  | 1 => .array .int
  | 2 => .int
  | 3 => .int
  | 4 => .int
  | 5 => .int
  | _ => .object "ExamSlips"
abbrev wsX220 : List Cond := u_ws RX22 TX22 7
theorem nmX22 : ∀ a, a < 7 → ∀ b, b < 7 → a ≠ b → (TX22 a).2.1 ≠ (TX22 b).2.1 := by decide +kernel
theorem tyX22_ok : ∀ k, k < 7 → parseFieldDescriptor (TX22 k).2.2.1 = some (tyX22 k) := by decide +kernel
abbrev cX22_init : ByteArray := prog_14_method_1_code
def yX22_init : MethodName := ⟨RX22, "<init>", "(LExamSlips;I)V"⟩
def dkwX22_init_3 : List UInt8 := [132, 3, 1, 167, 255, 218, 177]
abbrev dktX22_init_3 : List UInt8 := dkwX22_init_3 ++ []
def dkwX22_init_2 : List UInt8 := [21, 4, 43, 182, 0, 30, 162, 0, 16, 42, 21, 4, 29, 182, 0, 34, 132, 4, 1, 167, 255, 237]
abbrev dktX22_init_2 : List UInt8 := dkwX22_init_2 ++ dktX22_init_3
def dkwX22_init_1 : List UInt8 := [181, 0, 19, 42, 2, 181, 0, 22, 3, 62, 29, 28, 163, 0, 39, 42, 29, 182, 0, 26, 3, 54, 4]
abbrev dktX22_init_1 : List UInt8 := dkwX22_init_1 ++ dktX22_init_2
def dkwX22_init_0 : List UInt8 := [42, 43, 181, 0, 3, 42, 183, 0, 9, 42, 16, 20, 188, 10, 181, 0, 15, 42, 16, 20, 188, 10]
abbrev dktX22_init_0 : List UInt8 := dkwX22_init_0 ++ dktX22_init_1
theorem dksX22_init_0 : cX22_init.data.toList.drop 0 = dktX22_init_0 := by decide +kernel
theorem dksX22_init_1 : cX22_init.data.toList.drop 22 = dktX22_init_1 := dk_seg dksX22_init_0 22 rfl rfl
theorem dksX22_init_2 : cX22_init.data.toList.drop 45 = dktX22_init_2 := dk_seg dksX22_init_1 23 rfl rfl
theorem dksX22_init_3 : cX22_init.data.toList.drop 67 = dktX22_init_3 := dk_seg dksX22_init_2 22 rfl rfl
theorem dX22_init_0 : decode cX22_init 0 = .ok (.aload_n 0, 1) := dk_42 (dk_at dksX22_init_0 0 rfl rfl)
theorem dX22_init_1 : decode cX22_init 1 = .ok (.aload_n 1, 1) := dk_43 (dk_at dksX22_init_0 1 rfl rfl)
theorem dX22_init_2 : decode cX22_init 2 = .ok (.putfield 3, 3) := dk_181 0 3 (dk_at dksX22_init_0 2 rfl rfl)
theorem dX22_init_5 : decode cX22_init 5 = .ok (.aload_n 0, 1) := dk_42 (dk_at dksX22_init_0 5 rfl rfl)
theorem dX22_init_6 : decode cX22_init 6 = .ok (.invokespecial 9, 3) := dk_183 0 9 (dk_at dksX22_init_0 6 rfl rfl)
theorem dX22_init_9 : decode cX22_init 9 = .ok (.aload_n 0, 1) := dk_42 (dk_at dksX22_init_0 9 rfl rfl)
theorem dX22_init_10 : decode cX22_init 10 = .ok (.bipush 20, 2) := dk_16 20 (dk_at dksX22_init_0 10 rfl rfl)
theorem dX22_init_12 : decode cX22_init 12 = .ok (.newarray .int, 2) := dk_188_10 (dk_at dksX22_init_0 12 rfl rfl)
theorem dX22_init_14 : decode cX22_init 14 = .ok (.putfield 15, 3) := dk_181 0 15 (dk_at dksX22_init_0 14 rfl rfl)
theorem dX22_init_17 : decode cX22_init 17 = .ok (.aload_n 0, 1) := dk_42 (dk_at dksX22_init_0 17 rfl rfl)
theorem dX22_init_18 : decode cX22_init 18 = .ok (.bipush 20, 2) := dk_16 20 (dk_at dksX22_init_0 18 rfl rfl)
theorem dX22_init_20 : decode cX22_init 20 = .ok (.newarray .int, 2) := dk_188_10 (dk_at dksX22_init_0 20 rfl rfl)
theorem dX22_init_22 : decode cX22_init 22 = .ok (.putfield 19, 3) := dk_181 0 19 (dk_at dksX22_init_1 0 rfl rfl)
theorem dX22_init_25 : decode cX22_init 25 = .ok (.aload_n 0, 1) := dk_42 (dk_at dksX22_init_1 3 rfl rfl)
theorem dX22_init_26 : decode cX22_init 26 = .ok (.iconst (-1), 1) := dk_2 (dk_at dksX22_init_1 4 rfl rfl)
theorem dX22_init_27 : decode cX22_init 27 = .ok (.putfield 22, 3) := dk_181 0 22 (dk_at dksX22_init_1 5 rfl rfl)
theorem dX22_init_30 : decode cX22_init 30 = .ok (.iconst 0, 1) := dk_3 (dk_at dksX22_init_1 8 rfl rfl)
theorem dX22_init_31 : decode cX22_init 31 = .ok (.istore_n 3, 1) := dk_62 (dk_at dksX22_init_1 9 rfl rfl)
theorem dX22_init_32 : decode cX22_init 32 = .ok (.iload_n 3, 1) := dk_29 (dk_at dksX22_init_1 10 rfl rfl)
theorem dX22_init_33 : decode cX22_init 33 = .ok (.iload_n 2, 1) := dk_28 (dk_at dksX22_init_1 11 rfl rfl)
theorem dX22_init_34 : decode cX22_init 34 = .ok (.if_icmp .gt 39, 3) := dk_163 0 39 (dk_at dksX22_init_1 12 rfl rfl)
theorem dX22_init_37 : decode cX22_init 37 = .ok (.aload_n 0, 1) := dk_42 (dk_at dksX22_init_1 15 rfl rfl)
theorem dX22_init_38 : decode cX22_init 38 = .ok (.iload_n 3, 1) := dk_29 (dk_at dksX22_init_1 16 rfl rfl)
theorem dX22_init_39 : decode cX22_init 39 = .ok (.invokevirtual 26, 3) := dk_182 0 26 (dk_at dksX22_init_1 17 rfl rfl)
theorem dX22_init_42 : decode cX22_init 42 = .ok (.iconst 0, 1) := dk_3 (dk_at dksX22_init_1 20 rfl rfl)
theorem dX22_init_43 : decode cX22_init 43 = .ok (.istore 4, 2) := dk_54 4 (dk_at dksX22_init_1 21 rfl rfl)
theorem dX22_init_45 : decode cX22_init 45 = .ok (.iload 4, 2) := dk_21 4 (dk_at dksX22_init_2 0 rfl rfl)
theorem dX22_init_47 : decode cX22_init 47 = .ok (.aload_n 1, 1) := dk_43 (dk_at dksX22_init_2 2 rfl rfl)
theorem dX22_init_48 : decode cX22_init 48 = .ok (.invokevirtual 30, 3) := dk_182 0 30 (dk_at dksX22_init_2 3 rfl rfl)
theorem dX22_init_51 : decode cX22_init 51 = .ok (.if_icmp .ge 16, 3) := dk_162 0 16 (dk_at dksX22_init_2 6 rfl rfl)
theorem dX22_init_54 : decode cX22_init 54 = .ok (.aload_n 0, 1) := dk_42 (dk_at dksX22_init_2 9 rfl rfl)
theorem dX22_init_55 : decode cX22_init 55 = .ok (.iload 4, 2) := dk_21 4 (dk_at dksX22_init_2 10 rfl rfl)
theorem dX22_init_57 : decode cX22_init 57 = .ok (.iload_n 3, 1) := dk_29 (dk_at dksX22_init_2 12 rfl rfl)
theorem dX22_init_58 : decode cX22_init 58 = .ok (.invokevirtual 34, 3) := dk_182 0 34 (dk_at dksX22_init_2 13 rfl rfl)
theorem dX22_init_61 : decode cX22_init 61 = .ok (.iinc 4 1, 3) := dk_132 4 1 (dk_at dksX22_init_2 16 rfl rfl)
theorem dX22_init_64 : decode cX22_init 64 = .ok (.goto (-19), 3) := dk_167 255 237 (dk_at dksX22_init_2 19 rfl rfl)
theorem dX22_init_67 : decode cX22_init 67 = .ok (.iinc 3 1, 3) := dk_132 3 1 (dk_at dksX22_init_3 0 rfl rfl)
theorem dX22_init_70 : decode cX22_init 70 = .ok (.goto (-38), 3) := dk_167 255 218 (dk_at dksX22_init_3 3 rfl rfl)
theorem dX22_init_73 : decode cX22_init 73 = .ok (.return_, 1) := dk_177 (dk_at dksX22_init_3 6 rfl rfl)
abbrev cX22_study : ByteArray := prog_14_method_3_code
def yX22_study : MethodName := ⟨RX22, "study", "(I)V"⟩
def dkwX22_study_10 : List UInt8 := [180, 0, 38, 27, 79, 132, 3, 1, 167, 255, 26, 177]
abbrev dktX22_study_10 : List UInt8 := dkwX22_study_10 ++ []
def dkwX22_study_9 : List UInt8 := [42, 180, 0, 15, 25, 5, 180, 0, 38, 46, 4, 96, 184, 0, 93, 79, 42, 180, 0, 19, 25, 5]
abbrev dktX22_study_9 : List UInt8 := dkwX22_study_9 ++ dktX22_study_10
def dkwX22_study_8 : List UInt8 := [167, 0, 51, 42, 89, 180, 0, 62, 21, 6, 96, 181, 0, 62, 42, 180, 0, 15, 25, 5, 180, 0, 38, 5]
abbrev dktX22_study_8 : List UInt8 := dkwX22_study_8 ++ dktX22_study_9
def dkwX22_study_7 : List UInt8 := [181, 0, 90, 42, 42, 180, 0, 22, 2, 160, 0, 7, 27, 167, 0, 7, 42, 180, 0, 22, 181, 0, 22]
abbrev dktX22_study_7 : List UInt8 := dkwX22_study_7 ++ dktX22_study_8
def dkwX22_study_6 : List UInt8 := [16, 6, 46, 164, 0, 7, 4, 167, 0, 4, 3, 61, 28, 153, 0, 36, 42, 89, 180, 0, 90, 4, 96]
abbrev dktX22_study_6 : List UInt8 := dkwX22_study_6 ++ dktX22_study_7
def dkwX22_study_5 : List UInt8 := [54, 6, 28, 154, 0, 26, 42, 180, 0, 62, 21, 6, 96, 42, 180, 0, 3, 180, 0, 46, 180, 0, 87]
abbrev dktX22_study_5 : List UInt8 := dkwX22_study_5 ++ dktX22_study_6
def dkwX22_study_4 : List UInt8 := [180, 0, 38, 46, 4, 96, 42, 25, 5, 182, 0, 79, 153, 0, 7, 4, 167, 0, 4, 3, 27, 182, 0, 83]
abbrev dktX22_study_4 : List UInt8 := dkwX22_study_4 ++ dktX22_study_5
def dkwX22_study_3 : List UInt8 := [180, 0, 76, 182, 0, 56, 192, 0, 39, 58, 5, 42, 180, 0, 3, 25, 5, 42, 180, 0, 15, 25, 5]
abbrev dktX22_study_3 : List UInt8 := dkwX22_study_3 ++ dktX22_study_4
def dkwX22_study_2 : List UInt8 := [180, 0, 73, 27, 159, 0, 6, 167, 0, 182, 42, 180, 0, 3, 180, 0, 46, 180, 0, 50, 25, 4]
abbrev dktX22_study_2 : List UInt8 := dkwX22_study_2 ++ dktX22_study_3
def dkwX22_study_1 : List UInt8 := [162, 0, 219, 42, 180, 0, 3, 180, 0, 46, 180, 0, 65, 29, 182, 0, 56, 192, 0, 71, 58, 4, 25, 4]
abbrev dktX22_study_1 : List UInt8 := dkwX22_study_1 ++ dktX22_study_2
def dkwX22_study_0 : List UInt8 := [42, 3, 181, 0, 62, 3, 61, 3, 62, 29, 42, 180, 0, 3, 180, 0, 46, 180, 0, 65, 182, 0, 68]
abbrev dktX22_study_0 : List UInt8 := dkwX22_study_0 ++ dktX22_study_1
theorem dksX22_study_0 : cX22_study.data.toList.drop 0 = dktX22_study_0 := by decide +kernel
theorem dksX22_study_1 : cX22_study.data.toList.drop 23 = dktX22_study_1 := dk_seg dksX22_study_0 23 rfl rfl
theorem dksX22_study_2 : cX22_study.data.toList.drop 47 = dktX22_study_2 := dk_seg dksX22_study_1 24 rfl rfl
theorem dksX22_study_3 : cX22_study.data.toList.drop 69 = dktX22_study_3 := dk_seg dksX22_study_2 22 rfl rfl
theorem dksX22_study_4 : cX22_study.data.toList.drop 92 = dktX22_study_4 := dk_seg dksX22_study_3 23 rfl rfl
theorem dksX22_study_5 : cX22_study.data.toList.drop 116 = dktX22_study_5 := dk_seg dksX22_study_4 24 rfl rfl
theorem dksX22_study_6 : cX22_study.data.toList.drop 139 = dktX22_study_6 := dk_seg dksX22_study_5 23 rfl rfl
theorem dksX22_study_7 : cX22_study.data.toList.drop 162 = dktX22_study_7 := dk_seg dksX22_study_6 23 rfl rfl
theorem dksX22_study_8 : cX22_study.data.toList.drop 185 = dktX22_study_8 := dk_seg dksX22_study_7 23 rfl rfl
theorem dksX22_study_9 : cX22_study.data.toList.drop 209 = dktX22_study_9 := dk_seg dksX22_study_8 24 rfl rfl
theorem dksX22_study_10 : cX22_study.data.toList.drop 231 = dktX22_study_10 := dk_seg dksX22_study_9 22 rfl rfl
theorem dX22_study_0 : decode cX22_study 0 = .ok (.aload_n 0, 1) := dk_42 (dk_at dksX22_study_0 0 rfl rfl)
theorem dX22_study_1 : decode cX22_study 1 = .ok (.iconst 0, 1) := dk_3 (dk_at dksX22_study_0 1 rfl rfl)
theorem dX22_study_2 : decode cX22_study 2 = .ok (.putfield 62, 3) := dk_181 0 62 (dk_at dksX22_study_0 2 rfl rfl)
theorem dX22_study_5 : decode cX22_study 5 = .ok (.iconst 0, 1) := dk_3 (dk_at dksX22_study_0 5 rfl rfl)
theorem dX22_study_6 : decode cX22_study 6 = .ok (.istore_n 2, 1) := dk_61 (dk_at dksX22_study_0 6 rfl rfl)
theorem dX22_study_7 : decode cX22_study 7 = .ok (.iconst 0, 1) := dk_3 (dk_at dksX22_study_0 7 rfl rfl)
theorem dX22_study_8 : decode cX22_study 8 = .ok (.istore_n 3, 1) := dk_62 (dk_at dksX22_study_0 8 rfl rfl)
theorem dX22_study_9 : decode cX22_study 9 = .ok (.iload_n 3, 1) := dk_29 (dk_at dksX22_study_0 9 rfl rfl)
theorem dX22_study_10 : decode cX22_study 10 = .ok (.aload_n 0, 1) := dk_42 (dk_at dksX22_study_0 10 rfl rfl)
theorem dX22_study_11 : decode cX22_study 11 = .ok (.getfield 3, 3) := dk_180 0 3 (dk_at dksX22_study_0 11 rfl rfl)
theorem dX22_study_14 : decode cX22_study 14 = .ok (.getfield 46, 3) := dk_180 0 46 (dk_at dksX22_study_0 14 rfl rfl)
theorem dX22_study_17 : decode cX22_study 17 = .ok (.getfield 65, 3) := dk_180 0 65 (dk_at dksX22_study_0 17 rfl rfl)
theorem dX22_study_20 : decode cX22_study 20 = .ok (.invokevirtual 68, 3) := dk_182 0 68 (dk_at dksX22_study_0 20 rfl rfl)
theorem dX22_study_23 : decode cX22_study 23 = .ok (.if_icmp .ge 219, 3) := dk_162 0 219 (dk_at dksX22_study_1 0 rfl rfl)
theorem dX22_study_26 : decode cX22_study 26 = .ok (.aload_n 0, 1) := dk_42 (dk_at dksX22_study_1 3 rfl rfl)
theorem dX22_study_27 : decode cX22_study 27 = .ok (.getfield 3, 3) := dk_180 0 3 (dk_at dksX22_study_1 4 rfl rfl)
theorem dX22_study_30 : decode cX22_study 30 = .ok (.getfield 46, 3) := dk_180 0 46 (dk_at dksX22_study_1 7 rfl rfl)
theorem dX22_study_33 : decode cX22_study 33 = .ok (.getfield 65, 3) := dk_180 0 65 (dk_at dksX22_study_1 10 rfl rfl)
theorem dX22_study_36 : decode cX22_study 36 = .ok (.iload_n 3, 1) := dk_29 (dk_at dksX22_study_1 13 rfl rfl)
theorem dX22_study_37 : decode cX22_study 37 = .ok (.invokevirtual 56, 3) := dk_182 0 56 (dk_at dksX22_study_1 14 rfl rfl)
theorem dX22_study_40 : decode cX22_study 40 = .ok (.checkcast 71, 3) := dk_192 0 71 (dk_at dksX22_study_1 17 rfl rfl)
theorem dX22_study_43 : decode cX22_study 43 = .ok (.astore 4, 2) := dk_58 4 (dk_at dksX22_study_1 20 rfl rfl)
theorem dX22_study_45 : decode cX22_study 45 = .ok (.aload 4, 2) := dk_25 4 (dk_at dksX22_study_1 22 rfl rfl)
theorem dX22_study_47 : decode cX22_study 47 = .ok (.getfield 73, 3) := dk_180 0 73 (dk_at dksX22_study_2 0 rfl rfl)
theorem dX22_study_50 : decode cX22_study 50 = .ok (.iload_n 1, 1) := dk_27 (dk_at dksX22_study_2 3 rfl rfl)
theorem dX22_study_51 : decode cX22_study 51 = .ok (.if_icmp .eq 6, 3) := dk_159 0 6 (dk_at dksX22_study_2 4 rfl rfl)
theorem dX22_study_54 : decode cX22_study 54 = .ok (.goto 182, 3) := dk_167 0 182 (dk_at dksX22_study_2 7 rfl rfl)
theorem dX22_study_57 : decode cX22_study 57 = .ok (.aload_n 0, 1) := dk_42 (dk_at dksX22_study_2 10 rfl rfl)
theorem dX22_study_58 : decode cX22_study 58 = .ok (.getfield 3, 3) := dk_180 0 3 (dk_at dksX22_study_2 11 rfl rfl)
theorem dX22_study_61 : decode cX22_study 61 = .ok (.getfield 46, 3) := dk_180 0 46 (dk_at dksX22_study_2 14 rfl rfl)
theorem dX22_study_64 : decode cX22_study 64 = .ok (.getfield 50, 3) := dk_180 0 50 (dk_at dksX22_study_2 17 rfl rfl)
theorem dX22_study_67 : decode cX22_study 67 = .ok (.aload 4, 2) := dk_25 4 (dk_at dksX22_study_2 20 rfl rfl)
theorem dX22_study_69 : decode cX22_study 69 = .ok (.getfield 76, 3) := dk_180 0 76 (dk_at dksX22_study_3 0 rfl rfl)
theorem dX22_study_72 : decode cX22_study 72 = .ok (.invokevirtual 56, 3) := dk_182 0 56 (dk_at dksX22_study_3 3 rfl rfl)
theorem dX22_study_75 : decode cX22_study 75 = .ok (.checkcast 39, 3) := dk_192 0 39 (dk_at dksX22_study_3 6 rfl rfl)
theorem dX22_study_78 : decode cX22_study 78 = .ok (.astore 5, 2) := dk_58 5 (dk_at dksX22_study_3 9 rfl rfl)
theorem dX22_study_80 : decode cX22_study 80 = .ok (.aload_n 0, 1) := dk_42 (dk_at dksX22_study_3 11 rfl rfl)
theorem dX22_study_81 : decode cX22_study 81 = .ok (.getfield 3, 3) := dk_180 0 3 (dk_at dksX22_study_3 12 rfl rfl)
theorem dX22_study_84 : decode cX22_study 84 = .ok (.aload 5, 2) := dk_25 5 (dk_at dksX22_study_3 15 rfl rfl)
theorem dX22_study_86 : decode cX22_study 86 = .ok (.aload_n 0, 1) := dk_42 (dk_at dksX22_study_3 17 rfl rfl)
theorem dX22_study_87 : decode cX22_study 87 = .ok (.getfield 15, 3) := dk_180 0 15 (dk_at dksX22_study_3 18 rfl rfl)
theorem dX22_study_90 : decode cX22_study 90 = .ok (.aload 5, 2) := dk_25 5 (dk_at dksX22_study_3 21 rfl rfl)
theorem dX22_study_92 : decode cX22_study 92 = .ok (.getfield 38, 3) := dk_180 0 38 (dk_at dksX22_study_4 0 rfl rfl)
theorem dX22_study_95 : decode cX22_study 95 = .ok (.iaload, 1) := dk_46 (dk_at dksX22_study_4 3 rfl rfl)
theorem dX22_study_96 : decode cX22_study 96 = .ok (.iconst 1, 1) := dk_4 (dk_at dksX22_study_4 4 rfl rfl)
theorem dX22_study_97 : decode cX22_study 97 = .ok (.iadd, 1) := dk_96 (dk_at dksX22_study_4 5 rfl rfl)
theorem dX22_study_98 : decode cX22_study 98 = .ok (.aload_n 0, 1) := dk_42 (dk_at dksX22_study_4 6 rfl rfl)
theorem dX22_study_99 : decode cX22_study 99 = .ok (.aload 5, 2) := dk_25 5 (dk_at dksX22_study_4 7 rfl rfl)
theorem dX22_study_101 : decode cX22_study 101 = .ok (.invokevirtual 79, 3) := dk_182 0 79 (dk_at dksX22_study_4 9 rfl rfl)
theorem dX22_study_104 : decode cX22_study 104 = .ok (.ifCond .eq 7, 3) := dk_153 0 7 (dk_at dksX22_study_4 12 rfl rfl)
theorem dX22_study_107 : decode cX22_study 107 = .ok (.iconst 1, 1) := dk_4 (dk_at dksX22_study_4 15 rfl rfl)
theorem dX22_study_108 : decode cX22_study 108 = .ok (.goto 4, 3) := dk_167 0 4 (dk_at dksX22_study_4 16 rfl rfl)
theorem dX22_study_111 : decode cX22_study 111 = .ok (.iconst 0, 1) := dk_3 (dk_at dksX22_study_4 19 rfl rfl)
theorem dX22_study_112 : decode cX22_study 112 = .ok (.iload_n 1, 1) := dk_27 (dk_at dksX22_study_4 20 rfl rfl)
theorem dX22_study_113 : decode cX22_study 113 = .ok (.invokevirtual 83, 3) := dk_182 0 83 (dk_at dksX22_study_4 21 rfl rfl)
theorem dX22_study_116 : decode cX22_study 116 = .ok (.istore 6, 2) := dk_54 6 (dk_at dksX22_study_5 0 rfl rfl)
theorem dX22_study_118 : decode cX22_study 118 = .ok (.iload_n 2, 1) := dk_28 (dk_at dksX22_study_5 2 rfl rfl)
theorem dX22_study_119 : decode cX22_study 119 = .ok (.ifCond .ne 26, 3) := dk_154 0 26 (dk_at dksX22_study_5 3 rfl rfl)
theorem dX22_study_122 : decode cX22_study 122 = .ok (.aload_n 0, 1) := dk_42 (dk_at dksX22_study_5 6 rfl rfl)
theorem dX22_study_123 : decode cX22_study 123 = .ok (.getfield 62, 3) := dk_180 0 62 (dk_at dksX22_study_5 7 rfl rfl)
theorem dX22_study_126 : decode cX22_study 126 = .ok (.iload 6, 2) := dk_21 6 (dk_at dksX22_study_5 10 rfl rfl)
theorem dX22_study_128 : decode cX22_study 128 = .ok (.iadd, 1) := dk_96 (dk_at dksX22_study_5 12 rfl rfl)
theorem dX22_study_129 : decode cX22_study 129 = .ok (.aload_n 0, 1) := dk_42 (dk_at dksX22_study_5 13 rfl rfl)
theorem dX22_study_130 : decode cX22_study 130 = .ok (.getfield 3, 3) := dk_180 0 3 (dk_at dksX22_study_5 14 rfl rfl)
theorem dX22_study_133 : decode cX22_study 133 = .ok (.getfield 46, 3) := dk_180 0 46 (dk_at dksX22_study_5 17 rfl rfl)
theorem dX22_study_136 : decode cX22_study 136 = .ok (.getfield 87, 3) := dk_180 0 87 (dk_at dksX22_study_5 20 rfl rfl)
theorem dX22_study_139 : decode cX22_study 139 = .ok (.bipush 6, 2) := dk_16 6 (dk_at dksX22_study_6 0 rfl rfl)
theorem dX22_study_141 : decode cX22_study 141 = .ok (.iaload, 1) := dk_46 (dk_at dksX22_study_6 2 rfl rfl)
theorem dX22_study_142 : decode cX22_study 142 = .ok (.if_icmp .le 7, 3) := dk_164 0 7 (dk_at dksX22_study_6 3 rfl rfl)
theorem dX22_study_145 : decode cX22_study 145 = .ok (.iconst 1, 1) := dk_4 (dk_at dksX22_study_6 6 rfl rfl)
theorem dX22_study_146 : decode cX22_study 146 = .ok (.goto 4, 3) := dk_167 0 4 (dk_at dksX22_study_6 7 rfl rfl)
theorem dX22_study_149 : decode cX22_study 149 = .ok (.iconst 0, 1) := dk_3 (dk_at dksX22_study_6 10 rfl rfl)
theorem dX22_study_150 : decode cX22_study 150 = .ok (.istore_n 2, 1) := dk_61 (dk_at dksX22_study_6 11 rfl rfl)
theorem dX22_study_151 : decode cX22_study 151 = .ok (.iload_n 2, 1) := dk_28 (dk_at dksX22_study_6 12 rfl rfl)
theorem dX22_study_152 : decode cX22_study 152 = .ok (.ifCond .eq 36, 3) := dk_153 0 36 (dk_at dksX22_study_6 13 rfl rfl)
theorem dX22_study_155 : decode cX22_study 155 = .ok (.aload_n 0, 1) := dk_42 (dk_at dksX22_study_6 16 rfl rfl)
theorem dX22_study_156 : decode cX22_study 156 = .ok (.dup, 1) := dk_89 (dk_at dksX22_study_6 17 rfl rfl)
theorem dX22_study_157 : decode cX22_study 157 = .ok (.getfield 90, 3) := dk_180 0 90 (dk_at dksX22_study_6 18 rfl rfl)
theorem dX22_study_160 : decode cX22_study 160 = .ok (.iconst 1, 1) := dk_4 (dk_at dksX22_study_6 21 rfl rfl)
theorem dX22_study_161 : decode cX22_study 161 = .ok (.iadd, 1) := dk_96 (dk_at dksX22_study_6 22 rfl rfl)
theorem dX22_study_162 : decode cX22_study 162 = .ok (.putfield 90, 3) := dk_181 0 90 (dk_at dksX22_study_7 0 rfl rfl)
theorem dX22_study_165 : decode cX22_study 165 = .ok (.aload_n 0, 1) := dk_42 (dk_at dksX22_study_7 3 rfl rfl)
theorem dX22_study_166 : decode cX22_study 166 = .ok (.aload_n 0, 1) := dk_42 (dk_at dksX22_study_7 4 rfl rfl)
theorem dX22_study_167 : decode cX22_study 167 = .ok (.getfield 22, 3) := dk_180 0 22 (dk_at dksX22_study_7 5 rfl rfl)
theorem dX22_study_170 : decode cX22_study 170 = .ok (.iconst (-1), 1) := dk_2 (dk_at dksX22_study_7 8 rfl rfl)
theorem dX22_study_171 : decode cX22_study 171 = .ok (.if_icmp .ne 7, 3) := dk_160 0 7 (dk_at dksX22_study_7 9 rfl rfl)
theorem dX22_study_174 : decode cX22_study 174 = .ok (.iload_n 1, 1) := dk_27 (dk_at dksX22_study_7 12 rfl rfl)
theorem dX22_study_175 : decode cX22_study 175 = .ok (.goto 7, 3) := dk_167 0 7 (dk_at dksX22_study_7 13 rfl rfl)
theorem dX22_study_178 : decode cX22_study 178 = .ok (.aload_n 0, 1) := dk_42 (dk_at dksX22_study_7 16 rfl rfl)
theorem dX22_study_179 : decode cX22_study 179 = .ok (.getfield 22, 3) := dk_180 0 22 (dk_at dksX22_study_7 17 rfl rfl)
theorem dX22_study_182 : decode cX22_study 182 = .ok (.putfield 22, 3) := dk_181 0 22 (dk_at dksX22_study_7 20 rfl rfl)
theorem dX22_study_185 : decode cX22_study 185 = .ok (.goto 51, 3) := dk_167 0 51 (dk_at dksX22_study_8 0 rfl rfl)
theorem dX22_study_188 : decode cX22_study 188 = .ok (.aload_n 0, 1) := dk_42 (dk_at dksX22_study_8 3 rfl rfl)
theorem dX22_study_189 : decode cX22_study 189 = .ok (.dup, 1) := dk_89 (dk_at dksX22_study_8 4 rfl rfl)
theorem dX22_study_190 : decode cX22_study 190 = .ok (.getfield 62, 3) := dk_180 0 62 (dk_at dksX22_study_8 5 rfl rfl)
theorem dX22_study_193 : decode cX22_study 193 = .ok (.iload 6, 2) := dk_21 6 (dk_at dksX22_study_8 8 rfl rfl)
theorem dX22_study_195 : decode cX22_study 195 = .ok (.iadd, 1) := dk_96 (dk_at dksX22_study_8 10 rfl rfl)
theorem dX22_study_196 : decode cX22_study 196 = .ok (.putfield 62, 3) := dk_181 0 62 (dk_at dksX22_study_8 11 rfl rfl)
theorem dX22_study_199 : decode cX22_study 199 = .ok (.aload_n 0, 1) := dk_42 (dk_at dksX22_study_8 14 rfl rfl)
theorem dX22_study_200 : decode cX22_study 200 = .ok (.getfield 15, 3) := dk_180 0 15 (dk_at dksX22_study_8 15 rfl rfl)
theorem dX22_study_203 : decode cX22_study 203 = .ok (.aload 5, 2) := dk_25 5 (dk_at dksX22_study_8 18 rfl rfl)
theorem dX22_study_205 : decode cX22_study 205 = .ok (.getfield 38, 3) := dk_180 0 38 (dk_at dksX22_study_8 20 rfl rfl)
theorem dX22_study_208 : decode cX22_study 208 = .ok (.iconst 2, 1) := dk_5 (dk_at dksX22_study_8 23 rfl rfl)
theorem dX22_study_209 : decode cX22_study 209 = .ok (.aload_n 0, 1) := dk_42 (dk_at dksX22_study_9 0 rfl rfl)
theorem dX22_study_210 : decode cX22_study 210 = .ok (.getfield 15, 3) := dk_180 0 15 (dk_at dksX22_study_9 1 rfl rfl)
theorem dX22_study_213 : decode cX22_study 213 = .ok (.aload 5, 2) := dk_25 5 (dk_at dksX22_study_9 4 rfl rfl)
theorem dX22_study_215 : decode cX22_study 215 = .ok (.getfield 38, 3) := dk_180 0 38 (dk_at dksX22_study_9 6 rfl rfl)
theorem dX22_study_218 : decode cX22_study 218 = .ok (.iaload, 1) := dk_46 (dk_at dksX22_study_9 9 rfl rfl)
theorem dX22_study_219 : decode cX22_study 219 = .ok (.iconst 1, 1) := dk_4 (dk_at dksX22_study_9 10 rfl rfl)
theorem dX22_study_220 : decode cX22_study 220 = .ok (.iadd, 1) := dk_96 (dk_at dksX22_study_9 11 rfl rfl)
theorem dX22_study_221 : decode cX22_study 221 = .ok (.invokestatic 93, 3) := dk_184 0 93 (dk_at dksX22_study_9 12 rfl rfl)
theorem dX22_study_224 : decode cX22_study 224 = .ok (.iastore, 1) := dk_79 (dk_at dksX22_study_9 15 rfl rfl)
theorem dX22_study_225 : decode cX22_study 225 = .ok (.aload_n 0, 1) := dk_42 (dk_at dksX22_study_9 16 rfl rfl)
theorem dX22_study_226 : decode cX22_study 226 = .ok (.getfield 19, 3) := dk_180 0 19 (dk_at dksX22_study_9 17 rfl rfl)
theorem dX22_study_229 : decode cX22_study 229 = .ok (.aload 5, 2) := dk_25 5 (dk_at dksX22_study_9 20 rfl rfl)
theorem dX22_study_231 : decode cX22_study 231 = .ok (.getfield 38, 3) := dk_180 0 38 (dk_at dksX22_study_10 0 rfl rfl)
theorem dX22_study_234 : decode cX22_study 234 = .ok (.iload_n 1, 1) := dk_27 (dk_at dksX22_study_10 3 rfl rfl)
theorem dX22_study_235 : decode cX22_study 235 = .ok (.iastore, 1) := dk_79 (dk_at dksX22_study_10 4 rfl rfl)
theorem dX22_study_236 : decode cX22_study 236 = .ok (.iinc 3 1, 3) := dk_132 3 1 (dk_at dksX22_study_10 5 rfl rfl)
theorem dX22_study_239 : decode cX22_study 239 = .ok (.goto (-230), 3) := dk_167 255 26 (dk_at dksX22_study_10 8 rfl rfl)
theorem dX22_study_242 : decode cX22_study 242 = .ok (.return_, 1) := dk_177 (dk_at dksX22_study_10 11 rfl rfl)
abbrev cX22_isHelped : ByteArray := prog_14_method_2_code
def yX22_isHelped : MethodName := ⟨RX22, "isHelped", "(LExamSlips$Question;)Z"⟩
def dkwX22_isHelped_3 : List UInt8 := [167, 255, 189, 3, 172]
abbrev dktX22_isHelped_3 : List UInt8 := dkwX22_isHelped_3 ++ []
def dkwX22_isHelped_2 : List UInt8 := [180, 0, 43, 43, 180, 0, 43, 160, 0, 14, 42, 180, 0, 15, 28, 46, 158, 0, 5, 4, 172, 132, 2, 1]
abbrev dktX22_isHelped_2 : List UInt8 := dkwX22_isHelped_2 ++ dktX22_isHelped_3
def dkwX22_isHelped_1 : List UInt8 := [180, 0, 43, 158, 0, 41, 42, 180, 0, 3, 180, 0, 46, 180, 0, 50, 28, 182, 0, 56, 192, 0, 39]
abbrev dktX22_isHelped_1 : List UInt8 := dkwX22_isHelped_1 ++ dktX22_isHelped_2
def dkwX22_isHelped_0 : List UInt8 := [3, 61, 28, 42, 180, 0, 3, 182, 0, 30, 162, 0, 62, 28, 43, 180, 0, 38, 159, 0, 48, 43]
abbrev dktX22_isHelped_0 : List UInt8 := dkwX22_isHelped_0 ++ dktX22_isHelped_1
theorem dksX22_isHelped_0 : cX22_isHelped.data.toList.drop 0 = dktX22_isHelped_0 := by decide +kernel
theorem dksX22_isHelped_1 : cX22_isHelped.data.toList.drop 22 = dktX22_isHelped_1 := dk_seg dksX22_isHelped_0 22 rfl rfl
theorem dksX22_isHelped_2 : cX22_isHelped.data.toList.drop 45 = dktX22_isHelped_2 := dk_seg dksX22_isHelped_1 23 rfl rfl
theorem dksX22_isHelped_3 : cX22_isHelped.data.toList.drop 69 = dktX22_isHelped_3 := dk_seg dksX22_isHelped_2 24 rfl rfl
theorem dX22_isHelped_0 : decode cX22_isHelped 0 = .ok (.iconst 0, 1) := dk_3 (dk_at dksX22_isHelped_0 0 rfl rfl)
theorem dX22_isHelped_1 : decode cX22_isHelped 1 = .ok (.istore_n 2, 1) := dk_61 (dk_at dksX22_isHelped_0 1 rfl rfl)
theorem dX22_isHelped_2 : decode cX22_isHelped 2 = .ok (.iload_n 2, 1) := dk_28 (dk_at dksX22_isHelped_0 2 rfl rfl)
theorem dX22_isHelped_3 : decode cX22_isHelped 3 = .ok (.aload_n 0, 1) := dk_42 (dk_at dksX22_isHelped_0 3 rfl rfl)
theorem dX22_isHelped_4 : decode cX22_isHelped 4 = .ok (.getfield 3, 3) := dk_180 0 3 (dk_at dksX22_isHelped_0 4 rfl rfl)
theorem dX22_isHelped_7 : decode cX22_isHelped 7 = .ok (.invokevirtual 30, 3) := dk_182 0 30 (dk_at dksX22_isHelped_0 7 rfl rfl)
theorem dX22_isHelped_10 : decode cX22_isHelped 10 = .ok (.if_icmp .ge 62, 3) := dk_162 0 62 (dk_at dksX22_isHelped_0 10 rfl rfl)
theorem dX22_isHelped_13 : decode cX22_isHelped 13 = .ok (.iload_n 2, 1) := dk_28 (dk_at dksX22_isHelped_0 13 rfl rfl)
theorem dX22_isHelped_14 : decode cX22_isHelped 14 = .ok (.aload_n 1, 1) := dk_43 (dk_at dksX22_isHelped_0 14 rfl rfl)
theorem dX22_isHelped_15 : decode cX22_isHelped 15 = .ok (.getfield 38, 3) := dk_180 0 38 (dk_at dksX22_isHelped_0 15 rfl rfl)
theorem dX22_isHelped_18 : decode cX22_isHelped 18 = .ok (.if_icmp .eq 48, 3) := dk_159 0 48 (dk_at dksX22_isHelped_0 18 rfl rfl)
theorem dX22_isHelped_21 : decode cX22_isHelped 21 = .ok (.aload_n 1, 1) := dk_43 (dk_at dksX22_isHelped_0 21 rfl rfl)
theorem dX22_isHelped_22 : decode cX22_isHelped 22 = .ok (.getfield 43, 3) := dk_180 0 43 (dk_at dksX22_isHelped_1 0 rfl rfl)
theorem dX22_isHelped_25 : decode cX22_isHelped 25 = .ok (.ifCond .le 41, 3) := dk_158 0 41 (dk_at dksX22_isHelped_1 3 rfl rfl)
theorem dX22_isHelped_28 : decode cX22_isHelped 28 = .ok (.aload_n 0, 1) := dk_42 (dk_at dksX22_isHelped_1 6 rfl rfl)
theorem dX22_isHelped_29 : decode cX22_isHelped 29 = .ok (.getfield 3, 3) := dk_180 0 3 (dk_at dksX22_isHelped_1 7 rfl rfl)
theorem dX22_isHelped_32 : decode cX22_isHelped 32 = .ok (.getfield 46, 3) := dk_180 0 46 (dk_at dksX22_isHelped_1 10 rfl rfl)
theorem dX22_isHelped_35 : decode cX22_isHelped 35 = .ok (.getfield 50, 3) := dk_180 0 50 (dk_at dksX22_isHelped_1 13 rfl rfl)
theorem dX22_isHelped_38 : decode cX22_isHelped 38 = .ok (.iload_n 2, 1) := dk_28 (dk_at dksX22_isHelped_1 16 rfl rfl)
theorem dX22_isHelped_39 : decode cX22_isHelped 39 = .ok (.invokevirtual 56, 3) := dk_182 0 56 (dk_at dksX22_isHelped_1 17 rfl rfl)
theorem dX22_isHelped_42 : decode cX22_isHelped 42 = .ok (.checkcast 39, 3) := dk_192 0 39 (dk_at dksX22_isHelped_1 20 rfl rfl)
theorem dX22_isHelped_45 : decode cX22_isHelped 45 = .ok (.getfield 43, 3) := dk_180 0 43 (dk_at dksX22_isHelped_2 0 rfl rfl)
theorem dX22_isHelped_48 : decode cX22_isHelped 48 = .ok (.aload_n 1, 1) := dk_43 (dk_at dksX22_isHelped_2 3 rfl rfl)
theorem dX22_isHelped_49 : decode cX22_isHelped 49 = .ok (.getfield 43, 3) := dk_180 0 43 (dk_at dksX22_isHelped_2 4 rfl rfl)
theorem dX22_isHelped_52 : decode cX22_isHelped 52 = .ok (.if_icmp .ne 14, 3) := dk_160 0 14 (dk_at dksX22_isHelped_2 7 rfl rfl)
theorem dX22_isHelped_55 : decode cX22_isHelped 55 = .ok (.aload_n 0, 1) := dk_42 (dk_at dksX22_isHelped_2 10 rfl rfl)
theorem dX22_isHelped_56 : decode cX22_isHelped 56 = .ok (.getfield 15, 3) := dk_180 0 15 (dk_at dksX22_isHelped_2 11 rfl rfl)
theorem dX22_isHelped_59 : decode cX22_isHelped 59 = .ok (.iload_n 2, 1) := dk_28 (dk_at dksX22_isHelped_2 14 rfl rfl)
theorem dX22_isHelped_60 : decode cX22_isHelped 60 = .ok (.iaload, 1) := dk_46 (dk_at dksX22_isHelped_2 15 rfl rfl)
theorem dX22_isHelped_61 : decode cX22_isHelped 61 = .ok (.ifCond .le 5, 3) := dk_158 0 5 (dk_at dksX22_isHelped_2 16 rfl rfl)
theorem dX22_isHelped_64 : decode cX22_isHelped 64 = .ok (.iconst 1, 1) := dk_4 (dk_at dksX22_isHelped_2 19 rfl rfl)
theorem dX22_isHelped_65 : decode cX22_isHelped 65 = .ok (.ireturn, 1) := dk_172 (dk_at dksX22_isHelped_2 20 rfl rfl)
theorem dX22_isHelped_66 : decode cX22_isHelped 66 = .ok (.iinc 2 1, 3) := dk_132 2 1 (dk_at dksX22_isHelped_2 21 rfl rfl)
theorem dX22_isHelped_69 : decode cX22_isHelped 69 = .ok (.goto (-67), 3) := dk_167 255 189 (dk_at dksX22_isHelped_3 0 rfl rfl)
theorem dX22_isHelped_72 : decode cX22_isHelped 72 = .ok (.iconst 0, 1) := dk_3 (dk_at dksX22_isHelped_3 3 rfl rfl)
theorem dX22_isHelped_73 : decode cX22_isHelped 73 = .ok (.ireturn, 1) := dk_172 (dk_at dksX22_isHelped_3 4 rfl rfl)
abbrev cX22_forget : ByteArray := prog_14_method_4_code
def yX22_forget : MethodName := ⟨RX22, "forget", "(II)V"⟩
def dkwX22_forget_3 : List UInt8 := [42, 89, 180, 0, 103, 4, 96, 181, 0, 103, 177]
abbrev dktX22_forget_3 : List UInt8 := dkwX22_forget_3 ++ []
def dkwX22_forget_2 : List UInt8 := [182, 0, 99, 162, 0, 4, 177, 42, 180, 0, 15, 27, 92, 46, 4, 100, 79, 42, 180, 0, 19, 27, 28, 79]
abbrev dktX22_forget_2 : List UInt8 := dkwX22_forget_2 ++ dktX22_forget_3
def dkwX22_forget_1 : List UInt8 := [180, 0, 3, 180, 0, 46, 180, 0, 50, 27, 182, 0, 56, 192, 0, 39, 42, 180, 0, 15, 27, 46]
abbrev dktX22_forget_1 : List UInt8 := dkwX22_forget_1 ++ dktX22_forget_2
def dkwX22_forget_0 : List UInt8 := [42, 180, 0, 15, 27, 46, 153, 0, 44, 28, 42, 180, 0, 19, 27, 46, 100, 42, 180, 0, 3, 42]
abbrev dktX22_forget_0 : List UInt8 := dkwX22_forget_0 ++ dktX22_forget_1
theorem dksX22_forget_0 : cX22_forget.data.toList.drop 0 = dktX22_forget_0 := by decide +kernel
theorem dksX22_forget_1 : cX22_forget.data.toList.drop 22 = dktX22_forget_1 := dk_seg dksX22_forget_0 22 rfl rfl
theorem dksX22_forget_2 : cX22_forget.data.toList.drop 44 = dktX22_forget_2 := dk_seg dksX22_forget_1 22 rfl rfl
theorem dksX22_forget_3 : cX22_forget.data.toList.drop 68 = dktX22_forget_3 := dk_seg dksX22_forget_2 24 rfl rfl
theorem dX22_forget_0 : decode cX22_forget 0 = .ok (.aload_n 0, 1) := dk_42 (dk_at dksX22_forget_0 0 rfl rfl)
theorem dX22_forget_1 : decode cX22_forget 1 = .ok (.getfield 15, 3) := dk_180 0 15 (dk_at dksX22_forget_0 1 rfl rfl)
theorem dX22_forget_4 : decode cX22_forget 4 = .ok (.iload_n 1, 1) := dk_27 (dk_at dksX22_forget_0 4 rfl rfl)
theorem dX22_forget_5 : decode cX22_forget 5 = .ok (.iaload, 1) := dk_46 (dk_at dksX22_forget_0 5 rfl rfl)
theorem dX22_forget_6 : decode cX22_forget 6 = .ok (.ifCond .eq 44, 3) := dk_153 0 44 (dk_at dksX22_forget_0 6 rfl rfl)
theorem dX22_forget_9 : decode cX22_forget 9 = .ok (.iload_n 2, 1) := dk_28 (dk_at dksX22_forget_0 9 rfl rfl)
theorem dX22_forget_10 : decode cX22_forget 10 = .ok (.aload_n 0, 1) := dk_42 (dk_at dksX22_forget_0 10 rfl rfl)
theorem dX22_forget_11 : decode cX22_forget 11 = .ok (.getfield 19, 3) := dk_180 0 19 (dk_at dksX22_forget_0 11 rfl rfl)
theorem dX22_forget_14 : decode cX22_forget 14 = .ok (.iload_n 1, 1) := dk_27 (dk_at dksX22_forget_0 14 rfl rfl)
theorem dX22_forget_15 : decode cX22_forget 15 = .ok (.iaload, 1) := dk_46 (dk_at dksX22_forget_0 15 rfl rfl)
theorem dX22_forget_16 : decode cX22_forget 16 = .ok (.isub, 1) := dk_100 (dk_at dksX22_forget_0 16 rfl rfl)
theorem dX22_forget_17 : decode cX22_forget 17 = .ok (.aload_n 0, 1) := dk_42 (dk_at dksX22_forget_0 17 rfl rfl)
theorem dX22_forget_18 : decode cX22_forget 18 = .ok (.getfield 3, 3) := dk_180 0 3 (dk_at dksX22_forget_0 18 rfl rfl)
theorem dX22_forget_21 : decode cX22_forget 21 = .ok (.aload_n 0, 1) := dk_42 (dk_at dksX22_forget_0 21 rfl rfl)
theorem dX22_forget_22 : decode cX22_forget 22 = .ok (.getfield 3, 3) := dk_180 0 3 (dk_at dksX22_forget_1 0 rfl rfl)
theorem dX22_forget_25 : decode cX22_forget 25 = .ok (.getfield 46, 3) := dk_180 0 46 (dk_at dksX22_forget_1 3 rfl rfl)
theorem dX22_forget_28 : decode cX22_forget 28 = .ok (.getfield 50, 3) := dk_180 0 50 (dk_at dksX22_forget_1 6 rfl rfl)
theorem dX22_forget_31 : decode cX22_forget 31 = .ok (.iload_n 1, 1) := dk_27 (dk_at dksX22_forget_1 9 rfl rfl)
theorem dX22_forget_32 : decode cX22_forget 32 = .ok (.invokevirtual 56, 3) := dk_182 0 56 (dk_at dksX22_forget_1 10 rfl rfl)
theorem dX22_forget_35 : decode cX22_forget 35 = .ok (.checkcast 39, 3) := dk_192 0 39 (dk_at dksX22_forget_1 13 rfl rfl)
theorem dX22_forget_38 : decode cX22_forget 38 = .ok (.aload_n 0, 1) := dk_42 (dk_at dksX22_forget_1 16 rfl rfl)
theorem dX22_forget_39 : decode cX22_forget 39 = .ok (.getfield 15, 3) := dk_180 0 15 (dk_at dksX22_forget_1 17 rfl rfl)
theorem dX22_forget_42 : decode cX22_forget 42 = .ok (.iload_n 1, 1) := dk_27 (dk_at dksX22_forget_1 20 rfl rfl)
theorem dX22_forget_43 : decode cX22_forget 43 = .ok (.iaload, 1) := dk_46 (dk_at dksX22_forget_1 21 rfl rfl)
theorem dX22_forget_44 : decode cX22_forget 44 = .ok (.invokevirtual 99, 3) := dk_182 0 99 (dk_at dksX22_forget_2 0 rfl rfl)
theorem dX22_forget_47 : decode cX22_forget 47 = .ok (.if_icmp .ge 4, 3) := dk_162 0 4 (dk_at dksX22_forget_2 3 rfl rfl)
theorem dX22_forget_50 : decode cX22_forget 50 = .ok (.return_, 1) := dk_177 (dk_at dksX22_forget_2 6 rfl rfl)
theorem dX22_forget_51 : decode cX22_forget 51 = .ok (.aload_n 0, 1) := dk_42 (dk_at dksX22_forget_2 7 rfl rfl)
theorem dX22_forget_52 : decode cX22_forget 52 = .ok (.getfield 15, 3) := dk_180 0 15 (dk_at dksX22_forget_2 8 rfl rfl)
theorem dX22_forget_55 : decode cX22_forget 55 = .ok (.iload_n 1, 1) := dk_27 (dk_at dksX22_forget_2 11 rfl rfl)
theorem dX22_forget_56 : decode cX22_forget 56 = .ok (.dup2, 1) := dk_92 (dk_at dksX22_forget_2 12 rfl rfl)
theorem dX22_forget_57 : decode cX22_forget 57 = .ok (.iaload, 1) := dk_46 (dk_at dksX22_forget_2 13 rfl rfl)
theorem dX22_forget_58 : decode cX22_forget 58 = .ok (.iconst 1, 1) := dk_4 (dk_at dksX22_forget_2 14 rfl rfl)
theorem dX22_forget_59 : decode cX22_forget 59 = .ok (.isub, 1) := dk_100 (dk_at dksX22_forget_2 15 rfl rfl)
theorem dX22_forget_60 : decode cX22_forget 60 = .ok (.iastore, 1) := dk_79 (dk_at dksX22_forget_2 16 rfl rfl)
theorem dX22_forget_61 : decode cX22_forget 61 = .ok (.aload_n 0, 1) := dk_42 (dk_at dksX22_forget_2 17 rfl rfl)
theorem dX22_forget_62 : decode cX22_forget 62 = .ok (.getfield 19, 3) := dk_180 0 19 (dk_at dksX22_forget_2 18 rfl rfl)
theorem dX22_forget_65 : decode cX22_forget 65 = .ok (.iload_n 1, 1) := dk_27 (dk_at dksX22_forget_2 21 rfl rfl)
theorem dX22_forget_66 : decode cX22_forget 66 = .ok (.iload_n 2, 1) := dk_28 (dk_at dksX22_forget_2 22 rfl rfl)
theorem dX22_forget_67 : decode cX22_forget 67 = .ok (.iastore, 1) := dk_79 (dk_at dksX22_forget_2 23 rfl rfl)
theorem dX22_forget_68 : decode cX22_forget 68 = .ok (.aload_n 0, 1) := dk_42 (dk_at dksX22_forget_3 0 rfl rfl)
theorem dX22_forget_69 : decode cX22_forget 69 = .ok (.dup, 1) := dk_89 (dk_at dksX22_forget_3 1 rfl rfl)
theorem dX22_forget_70 : decode cX22_forget 70 = .ok (.getfield 103, 3) := dk_180 0 103 (dk_at dksX22_forget_3 2 rfl rfl)
theorem dX22_forget_73 : decode cX22_forget 73 = .ok (.iconst 1, 1) := dk_4 (dk_at dksX22_forget_3 5 rfl rfl)
theorem dX22_forget_74 : decode cX22_forget 74 = .ok (.iadd, 1) := dk_96 (dk_at dksX22_forget_3 6 rfl rfl)
theorem dX22_forget_75 : decode cX22_forget 75 = .ok (.putfield 103, 3) := dk_181 0 103 (dk_at dksX22_forget_3 7 rfl rfl)
theorem dX22_forget_78 : decode cX22_forget 78 = .ok (.return_, 1) := dk_177 (dk_at dksX22_forget_3 10 rfl rfl)
theorem q160 : (Jvm.Cond.initialized "ExamSlips$Mind") ∈ lw_all := lw_g (lw_at lw_m1 37 rfl) rfl
theorem q213 : (Jvm.Cond.fieldLinkNest "ExamSlips$Mind" (50 : Nat) "ExamSlips$Exam" "questions" "Ljava/util/ArrayList;" "ExamSlips") ∈ lw_tbl := lw_at lw_m1 90 rfl
theorem q218 : (Jvm.Cond.fieldLinkNest "ExamSlips$Mind" (65 : Nat) "ExamSlips$Exam" "diary" "Ljava/util/ArrayList;" "ExamSlips") ∈ lw_tbl := lw_at lw_m1 95 rfl
theorem q224 : (Jvm.Cond.fieldLinkNest "ExamSlips$Mind" (87 : Nat) "ExamSlips$Exam" "terms" "[I" "ExamSlips") ∈ lw_tbl := lw_at lw_m1 101 rfl
theorem q293 : (Jvm.Cond.fieldLinkNest "ExamSlips$Mind" (46 : Nat) "ExamSlips" "exam" "LExamSlips$Exam;" "ExamSlips") ∈ lw_tbl := lw_at lw_m1 170 rfl
theorem q382 : (Jvm.Cond.fieldLinkNest "ExamSlips$Mind" (38 : Nat) "ExamSlips$Question" "number" "I" "ExamSlips") ∈ lw_tbl := lw_at lw_m2 19 rfl
theorem q385 : (Jvm.Cond.fieldLinkNest "ExamSlips$Mind" (43 : Nat) "ExamSlips$Question" "king" "I" "ExamSlips") ∈ lw_tbl := lw_at lw_m2 22 rfl
theorem q455 : (Jvm.Cond.selects "ExamSlips$Mind" ({ cls := "java/lang/Object", name := "getClass", desc := "()Ljava/lang/Class;" } : Jvm.MethodName) ({ cls := "java/lang/Object", name := "getClass", desc := "()Ljava/lang/Class;" } : Jvm.MethodName)) ∈ lw_all := lw_g (lw_at lw_m2 92 rfl) rfl
theorem q1272 : (Jvm.Cond.fieldLinkNest "ExamSlips$Mind" (73 : Nat) "ExamSlips$Lesson" "day" "I" "ExamSlips") ∈ lw_tbl := lw_at lw_m5 189 rfl
theorem q1274 : (Jvm.Cond.fieldLinkNest "ExamSlips$Mind" (76 : Nat) "ExamSlips$Lesson" "question" "I" "ExamSlips") ∈ lw_tbl := lw_at lw_m5 191 rfl
theorem q1293 : (Jvm.Cond.instantiable "ExamSlips$Mind" (7 : Nat)) ∈ lw_all := lw_g (lw_at lw_m5 210 rfl) rfl
theorem q1295 : (Jvm.Cond.instanceMethod ({ cls := "ExamSlips$Mind", name := "<init>", desc := "(LExamSlips;I)V" } : Jvm.MethodName)) ∈ lw_all := lw_g (lw_at lw_m5 212 rfl) rfl
theorem q1296 : (Jvm.Cond.code ({ cls := "ExamSlips$Mind", name := "<init>", desc := "(LExamSlips;I)V" } : Jvm.MethodName) prog_14_method_1_code (5 : Nat) (Option.none : Option Jvm.ClassFile.FieldType)) ∈ lw_all := lw_g (lw_at lw_m5 213 rfl) rfl
theorem q1297 : (Jvm.Cond.methodLink "ExamSlips$Mind" (9 : Nat) ({ cls := "java/lang/Object", name := "<init>", desc := "()V" } : Jvm.MethodName)) ∈ lw_all := lw_g (lw_at lw_m5 214 rfl) rfl
theorem q1298 : (Jvm.Cond.methodLink "ExamSlips$Mind" (26 : Nat) ({ cls := "ExamSlips$Mind", name := "study", desc := "(I)V" } : Jvm.MethodName)) ∈ lw_all := lw_g (lw_at lw_m5 215 rfl) rfl
theorem q1299 : (Jvm.Cond.privateMethod ({ cls := "ExamSlips$Mind", name := "study", desc := "(I)V" } : Jvm.MethodName)) ∈ lw_tbl := lw_at lw_m5 216 rfl
theorem q1300 : (Jvm.Cond.instanceMethod ({ cls := "ExamSlips$Mind", name := "study", desc := "(I)V" } : Jvm.MethodName)) ∈ lw_all := lw_g (lw_at lw_m5 217 rfl) rfl
theorem q1301 : (Jvm.Cond.code ({ cls := "ExamSlips$Mind", name := "study", desc := "(I)V" } : Jvm.MethodName) prog_14_method_3_code (7 : Nat) (Option.none : Option Jvm.ClassFile.FieldType)) ∈ lw_all := lw_g (lw_at lw_m5 218 rfl) rfl
theorem q1302 : (Jvm.Cond.methodLink "ExamSlips$Mind" (68 : Nat) ({ cls := "java/util/ArrayList", name := "size", desc := "()I" } : Jvm.MethodName)) ∈ lw_all := lw_g (lw_at lw_m5 219 rfl) rfl
theorem q1303 : (Jvm.Cond.methodLink "ExamSlips$Mind" (56 : Nat) ({ cls := "java/util/ArrayList", name := "get", desc := "(I)Ljava/lang/Object;" } : Jvm.MethodName)) ∈ lw_all := lw_g (lw_at lw_m5 220 rfl) rfl
theorem q1304 : (Jvm.Cond.classLink "ExamSlips$Mind" (71 : Nat) "ExamSlips$Lesson") ∈ lw_all := lw_g (lw_at lw_m5 221 rfl) rfl
theorem q1305 : (Jvm.Cond.classLink "ExamSlips$Mind" (39 : Nat) "ExamSlips$Question") ∈ lw_all := lw_g (lw_at lw_m5 222 rfl) rfl
theorem q1306 : (Jvm.Cond.methodLink "ExamSlips$Mind" (79 : Nat) ({ cls := "ExamSlips$Mind", name := "isHelped", desc := "(LExamSlips$Question;)Z" } : Jvm.MethodName)) ∈ lw_all := lw_g (lw_at lw_m5 223 rfl) rfl
theorem q1307 : (Jvm.Cond.privateMethod ({ cls := "ExamSlips$Mind", name := "isHelped", desc := "(LExamSlips$Question;)Z" } : Jvm.MethodName)) ∈ lw_tbl := lw_at lw_m5 224 rfl
theorem q1308 : (Jvm.Cond.instanceMethod ({ cls := "ExamSlips$Mind", name := "isHelped", desc := "(LExamSlips$Question;)Z" } : Jvm.MethodName)) ∈ lw_all := lw_g (lw_at lw_m5 225 rfl) rfl
theorem q1309 : (Jvm.Cond.code ({ cls := "ExamSlips$Mind", name := "isHelped", desc := "(LExamSlips$Question;)Z" } : Jvm.MethodName) prog_14_method_2_code (3 : Nat) (Option.some Jvm.ClassFile.FieldType.boolean)) ∈ lw_all := lw_g (lw_at lw_m5 226 rfl) rfl
theorem q1310 : (Jvm.Cond.methodLinkNest "ExamSlips$Mind" (30 : Nat) ({ cls := "ExamSlips", name := "many", desc := "()I" } : Jvm.MethodName) "ExamSlips") ∈ lw_tbl := lw_at lw_m5 227 rfl
theorem q1311 : (Jvm.Cond.methodLinkNest "ExamSlips$Mind" (83 : Nat) ({ cls := "ExamSlips", name := "takes", desc := "(LExamSlips$Question;III)I" } : Jvm.MethodName) "ExamSlips") ∈ lw_tbl := lw_at lw_m5 228 rfl
theorem q1312 : (Jvm.Cond.methodLink "ExamSlips$Mind" (93 : Nat) ({ cls := "java/lang/Math", name := "min", desc := "(II)I" } : Jvm.MethodName)) ∈ lw_all := lw_g (lw_at lw_m5 229 rfl) rfl
theorem q1313 : (Jvm.Cond.methodLink "ExamSlips$Mind" (34 : Nat) ({ cls := "ExamSlips$Mind", name := "forget", desc := "(II)V" } : Jvm.MethodName)) ∈ lw_all := lw_g (lw_at lw_m5 230 rfl) rfl
theorem q1314 : (Jvm.Cond.privateMethod ({ cls := "ExamSlips$Mind", name := "forget", desc := "(II)V" } : Jvm.MethodName)) ∈ lw_tbl := lw_at lw_m5 231 rfl
theorem q1315 : (Jvm.Cond.instanceMethod ({ cls := "ExamSlips$Mind", name := "forget", desc := "(II)V" } : Jvm.MethodName)) ∈ lw_all := lw_g (lw_at lw_m5 232 rfl) rfl
theorem q1316 : (Jvm.Cond.code ({ cls := "ExamSlips$Mind", name := "forget", desc := "(II)V" } : Jvm.MethodName) prog_14_method_4_code (3 : Nat) (Option.none : Option Jvm.ClassFile.FieldType)) ∈ lw_all := lw_g (lw_at lw_m5 233 rfl) rfl
theorem q1317 : (Jvm.Cond.methodLinkNest "ExamSlips$Mind" (99 : Nat) ({ cls := "ExamSlips", name := "keepsOf", desc := "(LExamSlips$Question;I)I" } : Jvm.MethodName) "ExamSlips") ∈ lw_tbl := lw_at lw_m5 234 rfl
theorem q1318 : (Jvm.Cond.fieldLink "ExamSlips$Mind" (15 : Nat) "ExamSlips$Mind" "level" "[I") ∈ lw_all := lw_g (lw_at lw_m5 235 rfl) rfl
theorem q1320 : (Jvm.Cond.fieldLink "ExamSlips$Mind" (19 : Nat) "ExamSlips$Mind" "last" "[I") ∈ lw_all := lw_g (lw_at lw_m5 237 rfl) rfl
theorem q1321 : (Jvm.Cond.fieldLink "ExamSlips$Mind" (90 : Nat) "ExamSlips$Mind" "dropped" "I") ∈ lw_all := lw_g (lw_at lw_m5 238 rfl) rfl
theorem q1323 : (Jvm.Cond.fieldLink "ExamSlips$Mind" (103 : Nat) "ExamSlips$Mind" "fell" "I") ∈ lw_all := lw_g (lw_at lw_m6 0 rfl) rfl
theorem q1325 : (Jvm.Cond.fieldLink "ExamSlips$Mind" (22 : Nat) "ExamSlips$Mind" "firstDropped" "I") ∈ lw_all := lw_g (lw_at lw_m6 2 rfl) rfl
theorem q1327 : (Jvm.Cond.fieldLink "ExamSlips$Mind" (62 : Nat) "ExamSlips$Mind" "learned" "I") ∈ lw_all := lw_g (lw_at lw_m6 4 rfl) rfl
theorem q1329 : (Jvm.Cond.fieldLink "ExamSlips$Mind" (3 : Nat) "ExamSlips$Mind" "this$0" "LExamSlips;") ∈ lw_all := lw_g (lw_at lw_m6 6 rfl) rfl
theorem q1330 : (Jvm.Cond.laysFinal "ExamSlips$Mind" "ExamSlips$Mind" "level" "[I") ∈ lw_all := lw_g (lw_at lw_m6 7 rfl) rfl
theorem q1331 : (Jvm.Cond.soleField "ExamSlips$Mind" "level") ∈ lw_all := lw_g (lw_at lw_m6 8 rfl) rfl
theorem q1332 : (Jvm.Cond.laysFinal "ExamSlips$Mind" "ExamSlips$Mind" "last" "[I") ∈ lw_all := lw_g (lw_at lw_m6 9 rfl) rfl
theorem q1333 : (Jvm.Cond.soleField "ExamSlips$Mind" "last") ∈ lw_all := lw_g (lw_at lw_m6 10 rfl) rfl
theorem q1334 : (Jvm.Cond.lays "ExamSlips$Mind" "ExamSlips$Mind" "dropped" "I") ∈ lw_all := lw_g (lw_at lw_m6 11 rfl) rfl
theorem q1335 : (Jvm.Cond.soleField "ExamSlips$Mind" "dropped") ∈ lw_all := lw_g (lw_at lw_m6 12 rfl) rfl
theorem q1336 : (Jvm.Cond.lays "ExamSlips$Mind" "ExamSlips$Mind" "fell" "I") ∈ lw_all := lw_g (lw_at lw_m6 13 rfl) rfl
theorem q1337 : (Jvm.Cond.soleField "ExamSlips$Mind" "fell") ∈ lw_all := lw_g (lw_at lw_m6 14 rfl) rfl
theorem q1338 : (Jvm.Cond.lays "ExamSlips$Mind" "ExamSlips$Mind" "firstDropped" "I") ∈ lw_all := lw_g (lw_at lw_m6 15 rfl) rfl
theorem q1339 : (Jvm.Cond.soleField "ExamSlips$Mind" "firstDropped") ∈ lw_all := lw_g (lw_at lw_m6 16 rfl) rfl
theorem q1340 : (Jvm.Cond.lays "ExamSlips$Mind" "ExamSlips$Mind" "learned" "I") ∈ lw_all := lw_g (lw_at lw_m6 17 rfl) rfl
theorem q1341 : (Jvm.Cond.soleField "ExamSlips$Mind" "learned") ∈ lw_all := lw_g (lw_at lw_m6 18 rfl) rfl
theorem q1342 : (Jvm.Cond.laysFinal "ExamSlips$Mind" "ExamSlips$Mind" "this$0" "LExamSlips;") ∈ lw_all := lw_g (lw_at lw_m6 19 rfl) rfl
theorem q1343 : (Jvm.Cond.soleField "ExamSlips$Mind" "this$0") ∈ lw_all := lw_g (lw_at lw_m6 20 rfl) rfl
theorem q1344 : (Jvm.Cond.superclass "ExamSlips$Mind" "java/lang/Object") ∈ lw_all := lw_g (lw_at lw_m6 21 rfl) rfl
theorem q2396 : (Jvm.Cond.castable "ExamSlips$Mind" "java/lang/Object") ∈ lw_tbl := lw_at lw_m10 113 rfl
theorem in_X22 : ∀ w ∈ wsX220, w ∈ lw_all := lw_in wsX220 [1330, 1332, 1334, 1336, 1338, 1340, 1342] (by decide +kernel) (by decide +kernel)

/-! ExamSlips$Backward -/
set_option maxRecDepth 100000
def RX23 : String := "ExamSlips$Backward"
def TX23 : u_T := fun k => match k with
  | 0 => ("ExamSlips$Backward", "days", "[[I", true)
  | 1 => ("ExamSlips$Backward", "leftOut", "I", false)
  | 2 => ("ExamSlips$Backward", "first", "I", false)
  | _ => ("ExamSlips$Backward", "this$0", "LExamSlips;", true)
def tyX23 : Nat → FieldType := fun k => match k with
  | 0 => .array (.array .int)
  | 1 => .int
  | 2 => .int
  | _ => .object "ExamSlips"
abbrev wsX230 : List Cond := u_ws RX23 TX23 4
theorem nmX23 : ∀ a, a < 4 → ∀ b, b < 4 → a ≠ b → (TX23 a).2.1 ≠ (TX23 b).2.1 := by decide +kernel
theorem tyX23_ok : ∀ k, k < 4 → parseFieldDescriptor (TX23 k).2.2.1 = some (tyX23 k) := by decide +kernel
abbrev cX23_init : ByteArray := prog_5_method_1_code
def yX23_init : MethodName := ⟨RX23, "<init>", "(LExamSlips;)V"⟩
def dkwX23_init_14 : List UInt8 := [181, 0, 20, 132, 10, 255, 167, 255, 127, 132, 9, 1, 167, 255, 110, 132, 8, 255, 167, 255, 96, 177]
abbrev dktX23_init_14 : List UInt8 := dkwX23_init_14 ++ []
def dkwX23_init_13 : List UInt8 := [180, 0, 17, 44, 180, 0, 43, 21, 9, 50, 180, 0, 57, 50, 21, 10, 21, 6, 79, 42, 21, 6]
abbrev dktX23_init_13 : List UInt8 := dkwX23_init_13 ++ dktX23_init_14
def dkwX23_init_12 : List UInt8 := [156, 0, 16, 42, 89, 180, 0, 54, 4, 96, 181, 0, 54, 167, 0, 36, 21, 7, 21, 11, 100, 54, 7, 42]
abbrev dktX23_init_12 : List UInt8 := dkwX23_init_12 ++ dktX23_init_13
def dkwX23_init_11 : List UInt8 := [164, 0, 21, 132, 6, 255, 43, 180, 0, 28, 180, 0, 32, 16, 6, 46, 54, 7, 167, 255, 229, 21, 6]
abbrev dktX23_init_11 : List UInt8 := dkwX23_init_11 ++ dktX23_init_12
def dkwX23_init_10 : List UInt8 := [21, 10, 4, 100, 25, 4, 21, 9, 46, 182, 0, 51, 100, 54, 11, 21, 6, 155, 0, 28, 21, 11, 21, 7]
abbrev dktX23_init_10 : List UInt8 := dkwX23_init_10 ++ dktX23_init_11
def dkwX23_init_9 : List UInt8 := [21, 9, 46, 21, 8, 160, 0, 121, 44, 21, 9, 21, 10, 25, 4, 21, 9, 46, 182, 0, 51, 44, 21, 9]
abbrev dktX23_init_9 : List UInt8 := dkwX23_init_9 ++ dktX23_init_10
def dkwX23_init_8 : List UInt8 := [158, 0, 161, 3, 54, 9, 21, 9, 45, 190, 162, 0, 145, 21, 8, 54, 10, 21, 10, 158, 0, 130, 45]
abbrev dktX23_init_8 : List UInt8 := dkwX23_init_8 ++ dktX23_init_9
def dkwX23_init_7 : List UInt8 := [46, 4, 100, 54, 6, 43, 180, 0, 28, 180, 0, 32, 16, 6, 46, 54, 7, 5, 54, 8, 21, 8]
abbrev dktX23_init_7 : List UInt8 := dkwX23_init_7 ++ dktX23_init_8
def dkwX23_init_6 : List UInt8 := [21, 6, 46, 21, 5, 182, 0, 47, 54, 5, 132, 6, 1, 167, 255, 224, 43, 180, 0, 28, 180, 0, 32, 8]
abbrev dktX23_init_6 : List UInt8 := dkwX23_init_6 ++ dktX23_init_7
def dkwX23_init_5 : List UInt8 := [54, 5, 3, 54, 6, 21, 6, 25, 4, 190, 162, 0, 30, 25, 4, 21, 6, 21, 5, 79, 44, 21, 6, 45]
abbrev dktX23_init_5 : List UInt8 := dkwX23_init_5 ++ dktX23_init_6
def dkwX23_init_4 : List UInt8 := [180, 0, 28, 180, 0, 32, 16, 6, 46, 104, 182, 0, 38, 78, 44, 180, 0, 43, 190, 188, 10, 58, 4, 3]
abbrev dktX23_init_4 : List UInt8 := dkwX23_init_4 ++ dktX23_init_5
def dkwX23_init_3 : List UInt8 := [132, 4, 1, 167, 255, 220, 43, 182, 0, 24, 77, 44, 43, 180, 0, 28, 180, 0, 32, 8, 46, 43]
abbrev dktX23_init_3 : List UInt8 := dkwX23_init_3 ++ dktX23_init_4
def dkwX23_init_2 : List UInt8 := [58, 5, 3, 54, 6, 21, 6, 6, 162, 0, 15, 25, 5, 21, 6, 2, 79, 132, 6, 1, 167, 255, 241]
abbrev dktX23_init_2 : List UInt8 := dkwX23_init_2 ++ dktX23_init_3
def dkwX23_init_1 : List UInt8 := [181, 0, 20, 42, 180, 0, 17, 77, 44, 190, 62, 3, 54, 4, 21, 4, 29, 162, 0, 36, 44, 21, 4, 50]
abbrev dktX23_init_1 : List UInt8 := dkwX23_init_1 ++ dktX23_init_2
def dkwX23_init_0 : List UInt8 := [42, 43, 181, 0, 3, 42, 183, 0, 9, 42, 16, 20, 6, 197, 0, 15, 2, 181, 0, 17, 42, 2]
abbrev dktX23_init_0 : List UInt8 := dkwX23_init_0 ++ dktX23_init_1
theorem dksX23_init_0 : cX23_init.data.toList.drop 0 = dktX23_init_0 := by decide +kernel
theorem dksX23_init_1 : cX23_init.data.toList.drop 22 = dktX23_init_1 := dk_seg dksX23_init_0 22 rfl rfl
theorem dksX23_init_2 : cX23_init.data.toList.drop 46 = dktX23_init_2 := dk_seg dksX23_init_1 24 rfl rfl
theorem dksX23_init_3 : cX23_init.data.toList.drop 69 = dktX23_init_3 := dk_seg dksX23_init_2 23 rfl rfl
theorem dksX23_init_4 : cX23_init.data.toList.drop 91 = dktX23_init_4 := dk_seg dksX23_init_3 22 rfl rfl
theorem dksX23_init_5 : cX23_init.data.toList.drop 115 = dktX23_init_5 := dk_seg dksX23_init_4 24 rfl rfl
theorem dksX23_init_6 : cX23_init.data.toList.drop 139 = dktX23_init_6 := dk_seg dksX23_init_5 24 rfl rfl
theorem dksX23_init_7 : cX23_init.data.toList.drop 163 = dktX23_init_7 := dk_seg dksX23_init_6 24 rfl rfl
theorem dksX23_init_8 : cX23_init.data.toList.drop 185 = dktX23_init_8 := dk_seg dksX23_init_7 22 rfl rfl
theorem dksX23_init_9 : cX23_init.data.toList.drop 208 = dktX23_init_9 := dk_seg dksX23_init_8 23 rfl rfl
theorem dksX23_init_10 : cX23_init.data.toList.drop 232 = dktX23_init_10 := dk_seg dksX23_init_9 24 rfl rfl
theorem dksX23_init_11 : cX23_init.data.toList.drop 256 = dktX23_init_11 := dk_seg dksX23_init_10 24 rfl rfl
theorem dksX23_init_12 : cX23_init.data.toList.drop 279 = dktX23_init_12 := dk_seg dksX23_init_11 23 rfl rfl
theorem dksX23_init_13 : cX23_init.data.toList.drop 303 = dktX23_init_13 := dk_seg dksX23_init_12 24 rfl rfl
theorem dksX23_init_14 : cX23_init.data.toList.drop 325 = dktX23_init_14 := dk_seg dksX23_init_13 22 rfl rfl
theorem dX23_init_0 : decode cX23_init 0 = .ok (.aload_n 0, 1) := dk_42 (dk_at dksX23_init_0 0 rfl rfl)
theorem dX23_init_1 : decode cX23_init 1 = .ok (.aload_n 1, 1) := dk_43 (dk_at dksX23_init_0 1 rfl rfl)
theorem dX23_init_2 : decode cX23_init 2 = .ok (.putfield 3, 3) := dk_181 0 3 (dk_at dksX23_init_0 2 rfl rfl)
theorem dX23_init_5 : decode cX23_init 5 = .ok (.aload_n 0, 1) := dk_42 (dk_at dksX23_init_0 5 rfl rfl)
theorem dX23_init_6 : decode cX23_init 6 = .ok (.invokespecial 9, 3) := dk_183 0 9 (dk_at dksX23_init_0 6 rfl rfl)
theorem dX23_init_9 : decode cX23_init 9 = .ok (.aload_n 0, 1) := dk_42 (dk_at dksX23_init_0 9 rfl rfl)
theorem dX23_init_10 : decode cX23_init 10 = .ok (.bipush 20, 2) := dk_16 20 (dk_at dksX23_init_0 10 rfl rfl)
theorem dX23_init_12 : decode cX23_init 12 = .ok (.iconst 3, 1) := dk_6 (dk_at dksX23_init_0 12 rfl rfl)
theorem dX23_init_13 : decode cX23_init 13 = .ok (.multianewarray 15 2, 4) := by decide +kernel
theorem dX23_init_17 : decode cX23_init 17 = .ok (.putfield 17, 3) := dk_181 0 17 (dk_at dksX23_init_0 17 rfl rfl)
theorem dX23_init_20 : decode cX23_init 20 = .ok (.aload_n 0, 1) := dk_42 (dk_at dksX23_init_0 20 rfl rfl)
theorem dX23_init_21 : decode cX23_init 21 = .ok (.iconst (-1), 1) := dk_2 (dk_at dksX23_init_0 21 rfl rfl)
theorem dX23_init_22 : decode cX23_init 22 = .ok (.putfield 20, 3) := dk_181 0 20 (dk_at dksX23_init_1 0 rfl rfl)
theorem dX23_init_25 : decode cX23_init 25 = .ok (.aload_n 0, 1) := dk_42 (dk_at dksX23_init_1 3 rfl rfl)
theorem dX23_init_26 : decode cX23_init 26 = .ok (.getfield 17, 3) := dk_180 0 17 (dk_at dksX23_init_1 4 rfl rfl)
theorem dX23_init_29 : decode cX23_init 29 = .ok (.astore_n 2, 1) := dk_77 (dk_at dksX23_init_1 7 rfl rfl)
theorem dX23_init_30 : decode cX23_init 30 = .ok (.aload_n 2, 1) := dk_44 (dk_at dksX23_init_1 8 rfl rfl)
theorem dX23_init_31 : decode cX23_init 31 = .ok (.arraylength, 1) := dk_190 (dk_at dksX23_init_1 9 rfl rfl)
theorem dX23_init_32 : decode cX23_init 32 = .ok (.istore_n 3, 1) := dk_62 (dk_at dksX23_init_1 10 rfl rfl)
theorem dX23_init_33 : decode cX23_init 33 = .ok (.iconst 0, 1) := dk_3 (dk_at dksX23_init_1 11 rfl rfl)
theorem dX23_init_34 : decode cX23_init 34 = .ok (.istore 4, 2) := dk_54 4 (dk_at dksX23_init_1 12 rfl rfl)
theorem dX23_init_36 : decode cX23_init 36 = .ok (.iload 4, 2) := dk_21 4 (dk_at dksX23_init_1 14 rfl rfl)
theorem dX23_init_38 : decode cX23_init 38 = .ok (.iload_n 3, 1) := dk_29 (dk_at dksX23_init_1 16 rfl rfl)
theorem dX23_init_39 : decode cX23_init 39 = .ok (.if_icmp .ge 36, 3) := dk_162 0 36 (dk_at dksX23_init_1 17 rfl rfl)
theorem dX23_init_42 : decode cX23_init 42 = .ok (.aload_n 2, 1) := dk_44 (dk_at dksX23_init_1 20 rfl rfl)
theorem dX23_init_43 : decode cX23_init 43 = .ok (.iload 4, 2) := dk_21 4 (dk_at dksX23_init_1 21 rfl rfl)
theorem dX23_init_45 : decode cX23_init 45 = .ok (.aaload, 1) := dk_50 (dk_at dksX23_init_1 23 rfl rfl)
theorem dX23_init_46 : decode cX23_init 46 = .ok (.astore 5, 2) := dk_58 5 (dk_at dksX23_init_2 0 rfl rfl)
theorem dX23_init_48 : decode cX23_init 48 = .ok (.iconst 0, 1) := dk_3 (dk_at dksX23_init_2 2 rfl rfl)
theorem dX23_init_49 : decode cX23_init 49 = .ok (.istore 6, 2) := dk_54 6 (dk_at dksX23_init_2 3 rfl rfl)
theorem dX23_init_51 : decode cX23_init 51 = .ok (.iload 6, 2) := dk_21 6 (dk_at dksX23_init_2 5 rfl rfl)
theorem dX23_init_53 : decode cX23_init 53 = .ok (.iconst 3, 1) := dk_6 (dk_at dksX23_init_2 7 rfl rfl)
theorem dX23_init_54 : decode cX23_init 54 = .ok (.if_icmp .ge 15, 3) := dk_162 0 15 (dk_at dksX23_init_2 8 rfl rfl)
theorem dX23_init_57 : decode cX23_init 57 = .ok (.aload 5, 2) := dk_25 5 (dk_at dksX23_init_2 11 rfl rfl)
theorem dX23_init_59 : decode cX23_init 59 = .ok (.iload 6, 2) := dk_21 6 (dk_at dksX23_init_2 13 rfl rfl)
theorem dX23_init_61 : decode cX23_init 61 = .ok (.iconst (-1), 1) := dk_2 (dk_at dksX23_init_2 15 rfl rfl)
theorem dX23_init_62 : decode cX23_init 62 = .ok (.iastore, 1) := dk_79 (dk_at dksX23_init_2 16 rfl rfl)
theorem dX23_init_63 : decode cX23_init 63 = .ok (.iinc 6 1, 3) := dk_132 6 1 (dk_at dksX23_init_2 17 rfl rfl)
theorem dX23_init_66 : decode cX23_init 66 = .ok (.goto (-15), 3) := dk_167 255 241 (dk_at dksX23_init_2 20 rfl rfl)
theorem dX23_init_69 : decode cX23_init 69 = .ok (.iinc 4 1, 3) := dk_132 4 1 (dk_at dksX23_init_3 0 rfl rfl)
theorem dX23_init_72 : decode cX23_init 72 = .ok (.goto (-36), 3) := dk_167 255 220 (dk_at dksX23_init_3 3 rfl rfl)
theorem dX23_init_75 : decode cX23_init 75 = .ok (.aload_n 1, 1) := dk_43 (dk_at dksX23_init_3 6 rfl rfl)
theorem dX23_init_76 : decode cX23_init 76 = .ok (.invokevirtual 24, 3) := dk_182 0 24 (dk_at dksX23_init_3 7 rfl rfl)
theorem dX23_init_79 : decode cX23_init 79 = .ok (.astore_n 2, 1) := dk_77 (dk_at dksX23_init_3 10 rfl rfl)
theorem dX23_init_80 : decode cX23_init 80 = .ok (.aload_n 2, 1) := dk_44 (dk_at dksX23_init_3 11 rfl rfl)
theorem dX23_init_81 : decode cX23_init 81 = .ok (.aload_n 1, 1) := dk_43 (dk_at dksX23_init_3 12 rfl rfl)
theorem dX23_init_82 : decode cX23_init 82 = .ok (.getfield 28, 3) := dk_180 0 28 (dk_at dksX23_init_3 13 rfl rfl)
theorem dX23_init_85 : decode cX23_init 85 = .ok (.getfield 32, 3) := dk_180 0 32 (dk_at dksX23_init_3 16 rfl rfl)
theorem dX23_init_88 : decode cX23_init 88 = .ok (.iconst 5, 1) := dk_8 (dk_at dksX23_init_3 19 rfl rfl)
theorem dX23_init_89 : decode cX23_init 89 = .ok (.iaload, 1) := dk_46 (dk_at dksX23_init_3 20 rfl rfl)
theorem dX23_init_90 : decode cX23_init 90 = .ok (.aload_n 1, 1) := dk_43 (dk_at dksX23_init_3 21 rfl rfl)
theorem dX23_init_91 : decode cX23_init 91 = .ok (.getfield 28, 3) := dk_180 0 28 (dk_at dksX23_init_4 0 rfl rfl)
theorem dX23_init_94 : decode cX23_init 94 = .ok (.getfield 32, 3) := dk_180 0 32 (dk_at dksX23_init_4 3 rfl rfl)
theorem dX23_init_97 : decode cX23_init 97 = .ok (.bipush 6, 2) := dk_16 6 (dk_at dksX23_init_4 6 rfl rfl)
theorem dX23_init_99 : decode cX23_init 99 = .ok (.iaload, 1) := dk_46 (dk_at dksX23_init_4 8 rfl rfl)
theorem dX23_init_100 : decode cX23_init 100 = .ok (.imul, 1) := dk_104 (dk_at dksX23_init_4 9 rfl rfl)
theorem dX23_init_101 : decode cX23_init 101 = .ok (.invokevirtual 38, 3) := dk_182 0 38 (dk_at dksX23_init_4 10 rfl rfl)
theorem dX23_init_104 : decode cX23_init 104 = .ok (.astore_n 3, 1) := dk_78 (dk_at dksX23_init_4 13 rfl rfl)
theorem dX23_init_105 : decode cX23_init 105 = .ok (.aload_n 2, 1) := dk_44 (dk_at dksX23_init_4 14 rfl rfl)
theorem dX23_init_106 : decode cX23_init 106 = .ok (.getfield 43, 3) := dk_180 0 43 (dk_at dksX23_init_4 15 rfl rfl)
theorem dX23_init_109 : decode cX23_init 109 = .ok (.arraylength, 1) := dk_190 (dk_at dksX23_init_4 18 rfl rfl)
theorem dX23_init_110 : decode cX23_init 110 = .ok (.newarray .int, 2) := dk_188_10 (dk_at dksX23_init_4 19 rfl rfl)
theorem dX23_init_112 : decode cX23_init 112 = .ok (.astore 4, 2) := dk_58 4 (dk_at dksX23_init_4 21 rfl rfl)
theorem dX23_init_114 : decode cX23_init 114 = .ok (.iconst 0, 1) := dk_3 (dk_at dksX23_init_4 23 rfl rfl)
theorem dX23_init_115 : decode cX23_init 115 = .ok (.istore 5, 2) := dk_54 5 (dk_at dksX23_init_5 0 rfl rfl)
theorem dX23_init_117 : decode cX23_init 117 = .ok (.iconst 0, 1) := dk_3 (dk_at dksX23_init_5 2 rfl rfl)
theorem dX23_init_118 : decode cX23_init 118 = .ok (.istore 6, 2) := dk_54 6 (dk_at dksX23_init_5 3 rfl rfl)
theorem dX23_init_120 : decode cX23_init 120 = .ok (.iload 6, 2) := dk_21 6 (dk_at dksX23_init_5 5 rfl rfl)
theorem dX23_init_122 : decode cX23_init 122 = .ok (.aload 4, 2) := dk_25 4 (dk_at dksX23_init_5 7 rfl rfl)
theorem dX23_init_124 : decode cX23_init 124 = .ok (.arraylength, 1) := dk_190 (dk_at dksX23_init_5 9 rfl rfl)
theorem dX23_init_125 : decode cX23_init 125 = .ok (.if_icmp .ge 30, 3) := dk_162 0 30 (dk_at dksX23_init_5 10 rfl rfl)
theorem dX23_init_128 : decode cX23_init 128 = .ok (.aload 4, 2) := dk_25 4 (dk_at dksX23_init_5 13 rfl rfl)
theorem dX23_init_130 : decode cX23_init 130 = .ok (.iload 6, 2) := dk_21 6 (dk_at dksX23_init_5 15 rfl rfl)
theorem dX23_init_132 : decode cX23_init 132 = .ok (.iload 5, 2) := dk_21 5 (dk_at dksX23_init_5 17 rfl rfl)
theorem dX23_init_134 : decode cX23_init 134 = .ok (.iastore, 1) := dk_79 (dk_at dksX23_init_5 19 rfl rfl)
theorem dX23_init_135 : decode cX23_init 135 = .ok (.aload_n 2, 1) := dk_44 (dk_at dksX23_init_5 20 rfl rfl)
theorem dX23_init_136 : decode cX23_init 136 = .ok (.iload 6, 2) := dk_21 6 (dk_at dksX23_init_5 21 rfl rfl)
theorem dX23_init_138 : decode cX23_init 138 = .ok (.aload_n 3, 1) := dk_45 (dk_at dksX23_init_5 23 rfl rfl)
theorem dX23_init_139 : decode cX23_init 139 = .ok (.iload 6, 2) := dk_21 6 (dk_at dksX23_init_6 0 rfl rfl)
theorem dX23_init_141 : decode cX23_init 141 = .ok (.iaload, 1) := dk_46 (dk_at dksX23_init_6 2 rfl rfl)
theorem dX23_init_142 : decode cX23_init 142 = .ok (.iload 5, 2) := dk_21 5 (dk_at dksX23_init_6 3 rfl rfl)
theorem dX23_init_144 : decode cX23_init 144 = .ok (.invokevirtual 47, 3) := dk_182 0 47 (dk_at dksX23_init_6 5 rfl rfl)
theorem dX23_init_147 : decode cX23_init 147 = .ok (.istore 5, 2) := dk_54 5 (dk_at dksX23_init_6 8 rfl rfl)
theorem dX23_init_149 : decode cX23_init 149 = .ok (.iinc 6 1, 3) := dk_132 6 1 (dk_at dksX23_init_6 10 rfl rfl)
theorem dX23_init_152 : decode cX23_init 152 = .ok (.goto (-32), 3) := dk_167 255 224 (dk_at dksX23_init_6 13 rfl rfl)
theorem dX23_init_155 : decode cX23_init 155 = .ok (.aload_n 1, 1) := dk_43 (dk_at dksX23_init_6 16 rfl rfl)
theorem dX23_init_156 : decode cX23_init 156 = .ok (.getfield 28, 3) := dk_180 0 28 (dk_at dksX23_init_6 17 rfl rfl)
theorem dX23_init_159 : decode cX23_init 159 = .ok (.getfield 32, 3) := dk_180 0 32 (dk_at dksX23_init_6 20 rfl rfl)
theorem dX23_init_162 : decode cX23_init 162 = .ok (.iconst 5, 1) := dk_8 (dk_at dksX23_init_6 23 rfl rfl)
theorem dX23_init_163 : decode cX23_init 163 = .ok (.iaload, 1) := dk_46 (dk_at dksX23_init_7 0 rfl rfl)
theorem dX23_init_164 : decode cX23_init 164 = .ok (.iconst 1, 1) := dk_4 (dk_at dksX23_init_7 1 rfl rfl)
theorem dX23_init_165 : decode cX23_init 165 = .ok (.isub, 1) := dk_100 (dk_at dksX23_init_7 2 rfl rfl)
theorem dX23_init_166 : decode cX23_init 166 = .ok (.istore 6, 2) := dk_54 6 (dk_at dksX23_init_7 3 rfl rfl)
theorem dX23_init_168 : decode cX23_init 168 = .ok (.aload_n 1, 1) := dk_43 (dk_at dksX23_init_7 5 rfl rfl)
theorem dX23_init_169 : decode cX23_init 169 = .ok (.getfield 28, 3) := dk_180 0 28 (dk_at dksX23_init_7 6 rfl rfl)
theorem dX23_init_172 : decode cX23_init 172 = .ok (.getfield 32, 3) := dk_180 0 32 (dk_at dksX23_init_7 9 rfl rfl)
theorem dX23_init_175 : decode cX23_init 175 = .ok (.bipush 6, 2) := dk_16 6 (dk_at dksX23_init_7 12 rfl rfl)
theorem dX23_init_177 : decode cX23_init 177 = .ok (.iaload, 1) := dk_46 (dk_at dksX23_init_7 14 rfl rfl)
theorem dX23_init_178 : decode cX23_init 178 = .ok (.istore 7, 2) := dk_54 7 (dk_at dksX23_init_7 15 rfl rfl)
theorem dX23_init_180 : decode cX23_init 180 = .ok (.iconst 2, 1) := dk_5 (dk_at dksX23_init_7 17 rfl rfl)
theorem dX23_init_181 : decode cX23_init 181 = .ok (.istore 8, 2) := dk_54 8 (dk_at dksX23_init_7 18 rfl rfl)
theorem dX23_init_183 : decode cX23_init 183 = .ok (.iload 8, 2) := dk_21 8 (dk_at dksX23_init_7 20 rfl rfl)
theorem dX23_init_185 : decode cX23_init 185 = .ok (.ifCond .le 161, 3) := dk_158 0 161 (dk_at dksX23_init_8 0 rfl rfl)
theorem dX23_init_188 : decode cX23_init 188 = .ok (.iconst 0, 1) := dk_3 (dk_at dksX23_init_8 3 rfl rfl)
theorem dX23_init_189 : decode cX23_init 189 = .ok (.istore 9, 2) := dk_54 9 (dk_at dksX23_init_8 4 rfl rfl)
theorem dX23_init_191 : decode cX23_init 191 = .ok (.iload 9, 2) := dk_21 9 (dk_at dksX23_init_8 6 rfl rfl)
theorem dX23_init_193 : decode cX23_init 193 = .ok (.aload_n 3, 1) := dk_45 (dk_at dksX23_init_8 8 rfl rfl)
theorem dX23_init_194 : decode cX23_init 194 = .ok (.arraylength, 1) := dk_190 (dk_at dksX23_init_8 9 rfl rfl)
theorem dX23_init_195 : decode cX23_init 195 = .ok (.if_icmp .ge 145, 3) := dk_162 0 145 (dk_at dksX23_init_8 10 rfl rfl)
theorem dX23_init_198 : decode cX23_init 198 = .ok (.iload 8, 2) := dk_21 8 (dk_at dksX23_init_8 13 rfl rfl)
theorem dX23_init_200 : decode cX23_init 200 = .ok (.istore 10, 2) := dk_54 10 (dk_at dksX23_init_8 15 rfl rfl)
theorem dX23_init_202 : decode cX23_init 202 = .ok (.iload 10, 2) := dk_21 10 (dk_at dksX23_init_8 17 rfl rfl)
theorem dX23_init_204 : decode cX23_init 204 = .ok (.ifCond .le 130, 3) := dk_158 0 130 (dk_at dksX23_init_8 19 rfl rfl)
theorem dX23_init_207 : decode cX23_init 207 = .ok (.aload_n 3, 1) := dk_45 (dk_at dksX23_init_8 22 rfl rfl)
theorem dX23_init_208 : decode cX23_init 208 = .ok (.iload 9, 2) := dk_21 9 (dk_at dksX23_init_9 0 rfl rfl)
theorem dX23_init_210 : decode cX23_init 210 = .ok (.iaload, 1) := dk_46 (dk_at dksX23_init_9 2 rfl rfl)
theorem dX23_init_211 : decode cX23_init 211 = .ok (.iload 8, 2) := dk_21 8 (dk_at dksX23_init_9 3 rfl rfl)
theorem dX23_init_213 : decode cX23_init 213 = .ok (.if_icmp .ne 121, 3) := dk_160 0 121 (dk_at dksX23_init_9 5 rfl rfl)
theorem dX23_init_216 : decode cX23_init 216 = .ok (.aload_n 2, 1) := dk_44 (dk_at dksX23_init_9 8 rfl rfl)
theorem dX23_init_217 : decode cX23_init 217 = .ok (.iload 9, 2) := dk_21 9 (dk_at dksX23_init_9 9 rfl rfl)
theorem dX23_init_219 : decode cX23_init 219 = .ok (.iload 10, 2) := dk_21 10 (dk_at dksX23_init_9 11 rfl rfl)
theorem dX23_init_221 : decode cX23_init 221 = .ok (.aload 4, 2) := dk_25 4 (dk_at dksX23_init_9 13 rfl rfl)
theorem dX23_init_223 : decode cX23_init 223 = .ok (.iload 9, 2) := dk_21 9 (dk_at dksX23_init_9 15 rfl rfl)
theorem dX23_init_225 : decode cX23_init 225 = .ok (.iaload, 1) := dk_46 (dk_at dksX23_init_9 17 rfl rfl)
theorem dX23_init_226 : decode cX23_init 226 = .ok (.invokevirtual 51, 3) := dk_182 0 51 (dk_at dksX23_init_9 18 rfl rfl)
theorem dX23_init_229 : decode cX23_init 229 = .ok (.aload_n 2, 1) := dk_44 (dk_at dksX23_init_9 21 rfl rfl)
theorem dX23_init_230 : decode cX23_init 230 = .ok (.iload 9, 2) := dk_21 9 (dk_at dksX23_init_9 22 rfl rfl)
theorem dX23_init_232 : decode cX23_init 232 = .ok (.iload 10, 2) := dk_21 10 (dk_at dksX23_init_10 0 rfl rfl)
theorem dX23_init_234 : decode cX23_init 234 = .ok (.iconst 1, 1) := dk_4 (dk_at dksX23_init_10 2 rfl rfl)
theorem dX23_init_235 : decode cX23_init 235 = .ok (.isub, 1) := dk_100 (dk_at dksX23_init_10 3 rfl rfl)
theorem dX23_init_236 : decode cX23_init 236 = .ok (.aload 4, 2) := dk_25 4 (dk_at dksX23_init_10 4 rfl rfl)
theorem dX23_init_238 : decode cX23_init 238 = .ok (.iload 9, 2) := dk_21 9 (dk_at dksX23_init_10 6 rfl rfl)
theorem dX23_init_240 : decode cX23_init 240 = .ok (.iaload, 1) := dk_46 (dk_at dksX23_init_10 8 rfl rfl)
theorem dX23_init_241 : decode cX23_init 241 = .ok (.invokevirtual 51, 3) := dk_182 0 51 (dk_at dksX23_init_10 9 rfl rfl)
theorem dX23_init_244 : decode cX23_init 244 = .ok (.isub, 1) := dk_100 (dk_at dksX23_init_10 12 rfl rfl)
theorem dX23_init_245 : decode cX23_init 245 = .ok (.istore 11, 2) := dk_54 11 (dk_at dksX23_init_10 13 rfl rfl)
theorem dX23_init_247 : decode cX23_init 247 = .ok (.iload 6, 2) := dk_21 6 (dk_at dksX23_init_10 15 rfl rfl)
theorem dX23_init_249 : decode cX23_init 249 = .ok (.ifCond .lt 28, 3) := dk_155 0 28 (dk_at dksX23_init_10 17 rfl rfl)
theorem dX23_init_252 : decode cX23_init 252 = .ok (.iload 11, 2) := dk_21 11 (dk_at dksX23_init_10 20 rfl rfl)
theorem dX23_init_254 : decode cX23_init 254 = .ok (.iload 7, 2) := dk_21 7 (dk_at dksX23_init_10 22 rfl rfl)
theorem dX23_init_256 : decode cX23_init 256 = .ok (.if_icmp .le 21, 3) := dk_164 0 21 (dk_at dksX23_init_11 0 rfl rfl)
theorem dX23_init_259 : decode cX23_init 259 = .ok (.iinc 6 (-1), 3) := dk_132 6 255 (dk_at dksX23_init_11 3 rfl rfl)
theorem dX23_init_262 : decode cX23_init 262 = .ok (.aload_n 1, 1) := dk_43 (dk_at dksX23_init_11 6 rfl rfl)
theorem dX23_init_263 : decode cX23_init 263 = .ok (.getfield 28, 3) := dk_180 0 28 (dk_at dksX23_init_11 7 rfl rfl)
theorem dX23_init_266 : decode cX23_init 266 = .ok (.getfield 32, 3) := dk_180 0 32 (dk_at dksX23_init_11 10 rfl rfl)
theorem dX23_init_269 : decode cX23_init 269 = .ok (.bipush 6, 2) := dk_16 6 (dk_at dksX23_init_11 13 rfl rfl)
theorem dX23_init_271 : decode cX23_init 271 = .ok (.iaload, 1) := dk_46 (dk_at dksX23_init_11 15 rfl rfl)
theorem dX23_init_272 : decode cX23_init 272 = .ok (.istore 7, 2) := dk_54 7 (dk_at dksX23_init_11 16 rfl rfl)
theorem dX23_init_274 : decode cX23_init 274 = .ok (.goto (-27), 3) := dk_167 255 229 (dk_at dksX23_init_11 18 rfl rfl)
theorem dX23_init_277 : decode cX23_init 277 = .ok (.iload 6, 2) := dk_21 6 (dk_at dksX23_init_11 21 rfl rfl)
theorem dX23_init_279 : decode cX23_init 279 = .ok (.ifCond .ge 16, 3) := dk_156 0 16 (dk_at dksX23_init_12 0 rfl rfl)
theorem dX23_init_282 : decode cX23_init 282 = .ok (.aload_n 0, 1) := dk_42 (dk_at dksX23_init_12 3 rfl rfl)
theorem dX23_init_283 : decode cX23_init 283 = .ok (.dup, 1) := dk_89 (dk_at dksX23_init_12 4 rfl rfl)
theorem dX23_init_284 : decode cX23_init 284 = .ok (.getfield 54, 3) := dk_180 0 54 (dk_at dksX23_init_12 5 rfl rfl)
theorem dX23_init_287 : decode cX23_init 287 = .ok (.iconst 1, 1) := dk_4 (dk_at dksX23_init_12 8 rfl rfl)
theorem dX23_init_288 : decode cX23_init 288 = .ok (.iadd, 1) := dk_96 (dk_at dksX23_init_12 9 rfl rfl)
theorem dX23_init_289 : decode cX23_init 289 = .ok (.putfield 54, 3) := dk_181 0 54 (dk_at dksX23_init_12 10 rfl rfl)
theorem dX23_init_292 : decode cX23_init 292 = .ok (.goto 36, 3) := dk_167 0 36 (dk_at dksX23_init_12 13 rfl rfl)
theorem dX23_init_295 : decode cX23_init 295 = .ok (.iload 7, 2) := dk_21 7 (dk_at dksX23_init_12 16 rfl rfl)
theorem dX23_init_297 : decode cX23_init 297 = .ok (.iload 11, 2) := dk_21 11 (dk_at dksX23_init_12 18 rfl rfl)
theorem dX23_init_299 : decode cX23_init 299 = .ok (.isub, 1) := dk_100 (dk_at dksX23_init_12 20 rfl rfl)
theorem dX23_init_300 : decode cX23_init 300 = .ok (.istore 7, 2) := dk_54 7 (dk_at dksX23_init_12 21 rfl rfl)
theorem dX23_init_302 : decode cX23_init 302 = .ok (.aload_n 0, 1) := dk_42 (dk_at dksX23_init_12 23 rfl rfl)
theorem dX23_init_303 : decode cX23_init 303 = .ok (.getfield 17, 3) := dk_180 0 17 (dk_at dksX23_init_13 0 rfl rfl)
theorem dX23_init_306 : decode cX23_init 306 = .ok (.aload_n 2, 1) := dk_44 (dk_at dksX23_init_13 3 rfl rfl)
theorem dX23_init_307 : decode cX23_init 307 = .ok (.getfield 43, 3) := dk_180 0 43 (dk_at dksX23_init_13 4 rfl rfl)
theorem dX23_init_310 : decode cX23_init 310 = .ok (.iload 9, 2) := dk_21 9 (dk_at dksX23_init_13 7 rfl rfl)
theorem dX23_init_312 : decode cX23_init 312 = .ok (.aaload, 1) := dk_50 (dk_at dksX23_init_13 9 rfl rfl)
theorem dX23_init_313 : decode cX23_init 313 = .ok (.getfield 57, 3) := dk_180 0 57 (dk_at dksX23_init_13 10 rfl rfl)
theorem dX23_init_316 : decode cX23_init 316 = .ok (.aaload, 1) := dk_50 (dk_at dksX23_init_13 13 rfl rfl)
theorem dX23_init_317 : decode cX23_init 317 = .ok (.iload 10, 2) := dk_21 10 (dk_at dksX23_init_13 14 rfl rfl)
theorem dX23_init_319 : decode cX23_init 319 = .ok (.iload 6, 2) := dk_21 6 (dk_at dksX23_init_13 16 rfl rfl)
theorem dX23_init_321 : decode cX23_init 321 = .ok (.iastore, 1) := dk_79 (dk_at dksX23_init_13 18 rfl rfl)
theorem dX23_init_322 : decode cX23_init 322 = .ok (.aload_n 0, 1) := dk_42 (dk_at dksX23_init_13 19 rfl rfl)
theorem dX23_init_323 : decode cX23_init 323 = .ok (.iload 6, 2) := dk_21 6 (dk_at dksX23_init_13 20 rfl rfl)
theorem dX23_init_325 : decode cX23_init 325 = .ok (.putfield 20, 3) := dk_181 0 20 (dk_at dksX23_init_14 0 rfl rfl)
theorem dX23_init_328 : decode cX23_init 328 = .ok (.iinc 10 (-1), 3) := dk_132 10 255 (dk_at dksX23_init_14 3 rfl rfl)
theorem dX23_init_331 : decode cX23_init 331 = .ok (.goto (-129), 3) := dk_167 255 127 (dk_at dksX23_init_14 6 rfl rfl)
theorem dX23_init_334 : decode cX23_init 334 = .ok (.iinc 9 1, 3) := dk_132 9 1 (dk_at dksX23_init_14 9 rfl rfl)
theorem dX23_init_337 : decode cX23_init 337 = .ok (.goto (-146), 3) := dk_167 255 110 (dk_at dksX23_init_14 12 rfl rfl)
theorem dX23_init_340 : decode cX23_init 340 = .ok (.iinc 8 (-1), 3) := dk_132 8 255 (dk_at dksX23_init_14 15 rfl rfl)
theorem dX23_init_343 : decode cX23_init 343 = .ok (.goto (-160), 3) := dk_167 255 96 (dk_at dksX23_init_14 18 rfl rfl)
theorem dX23_init_346 : decode cX23_init 346 = .ok (.return_, 1) := dk_177 (dk_at dksX23_init_14 21 rfl rfl)
theorem q161 : (Jvm.Cond.initialized "ExamSlips$Backward") ∈ lw_all := lw_g (lw_at lw_m1 38 rfl) rfl
theorem q222 : (Jvm.Cond.fieldLinkNest "ExamSlips$Backward" (32 : Nat) "ExamSlips$Exam" "terms" "[I" "ExamSlips") ∈ lw_tbl := lw_at lw_m1 99 rfl
theorem q292 : (Jvm.Cond.fieldLinkNest "ExamSlips$Backward" (28 : Nat) "ExamSlips" "exam" "LExamSlips$Exam;" "ExamSlips") ∈ lw_tbl := lw_at lw_m1 169 rfl
theorem q381 : (Jvm.Cond.fieldLinkNest "ExamSlips$Backward" (57 : Nat) "ExamSlips$Question" "number" "I" "ExamSlips") ∈ lw_tbl := lw_at lw_m2 18 rfl
theorem q446 : (Jvm.Cond.selects "ExamSlips$Backward" ({ cls := "java/lang/Object", name := "getClass", desc := "()Ljava/lang/Class;" } : Jvm.MethodName) ({ cls := "java/lang/Object", name := "getClass", desc := "()Ljava/lang/Class;" } : Jvm.MethodName)) ∈ lw_all := lw_g (lw_at lw_m2 83 rfl) rfl
theorem q1203 : (Jvm.Cond.fieldLinkNest "ExamSlips$Backward" (43 : Nat) "ExamSlips$Schemes" "row" "[LExamSlips$Question;" "ExamSlips") ∈ lw_tbl := lw_at lw_m5 120 rfl
theorem q1358 : (Jvm.Cond.instantiable "ExamSlips$Backward" (4 : Nat)) ∈ lw_all := lw_g (lw_at lw_m6 35 rfl) rfl
theorem q1360 : (Jvm.Cond.instanceMethod ({ cls := "ExamSlips$Backward", name := "<init>", desc := "(LExamSlips;)V" } : Jvm.MethodName)) ∈ lw_all := lw_g (lw_at lw_m6 37 rfl) rfl
theorem q1361 : (Jvm.Cond.code ({ cls := "ExamSlips$Backward", name := "<init>", desc := "(LExamSlips;)V" } : Jvm.MethodName) prog_5_method_1_code (12 : Nat) (Option.none : Option Jvm.ClassFile.FieldType)) ∈ lw_all := lw_g (lw_at lw_m6 38 rfl) rfl
theorem q1362 : (Jvm.Cond.methodLink "ExamSlips$Backward" (9 : Nat) ({ cls := "java/lang/Object", name := "<init>", desc := "()V" } : Jvm.MethodName)) ∈ lw_all := lw_g (lw_at lw_m6 39 rfl) rfl
theorem q1363 : (Jvm.Cond.classLink "ExamSlips$Backward" (15 : Nat) "[[I") ∈ lw_all := lw_g (lw_at lw_m6 40 rfl) rfl
theorem q1365 : (Jvm.Cond.methodLinkNest "ExamSlips$Backward" (24 : Nat) ({ cls := "ExamSlips", name := "schemes", desc := "()LExamSlips$Schemes;" } : Jvm.MethodName) "ExamSlips") ∈ lw_tbl := lw_at lw_m6 42 rfl
theorem q1366 : (Jvm.Cond.methodLink "ExamSlips$Backward" (38 : Nat) ({ cls := "ExamSlips$Schemes", name := "first", desc := "(I)[I" } : Jvm.MethodName)) ∈ lw_all := lw_g (lw_at lw_m6 43 rfl) rfl
theorem q1367 : (Jvm.Cond.methodLinkNest "ExamSlips$Backward" (47 : Nat) ({ cls := "ExamSlips$Schemes", name := "after", desc := "(III)I" } : Jvm.MethodName) "ExamSlips") ∈ lw_tbl := lw_at lw_m6 44 rfl
theorem q1368 : (Jvm.Cond.methodLinkNest "ExamSlips$Backward" (51 : Nat) ({ cls := "ExamSlips$Schemes", name := "cost", desc := "(III)I" } : Jvm.MethodName) "ExamSlips") ∈ lw_tbl := lw_at lw_m6 45 rfl
theorem q1369 : (Jvm.Cond.fieldLink "ExamSlips$Backward" (17 : Nat) "ExamSlips$Backward" "days" "[[I") ∈ lw_all := lw_g (lw_at lw_m6 46 rfl) rfl
theorem q1371 : (Jvm.Cond.fieldLink "ExamSlips$Backward" (54 : Nat) "ExamSlips$Backward" "leftOut" "I") ∈ lw_all := lw_g (lw_at lw_m6 48 rfl) rfl
theorem q1373 : (Jvm.Cond.fieldLink "ExamSlips$Backward" (20 : Nat) "ExamSlips$Backward" "first" "I") ∈ lw_all := lw_g (lw_at lw_m6 50 rfl) rfl
theorem q1375 : (Jvm.Cond.fieldLink "ExamSlips$Backward" (3 : Nat) "ExamSlips$Backward" "this$0" "LExamSlips;") ∈ lw_all := lw_g (lw_at lw_m6 52 rfl) rfl
theorem q1376 : (Jvm.Cond.laysFinal "ExamSlips$Backward" "ExamSlips$Backward" "days" "[[I") ∈ lw_all := lw_g (lw_at lw_m6 53 rfl) rfl
theorem q1377 : (Jvm.Cond.soleField "ExamSlips$Backward" "days") ∈ lw_all := lw_g (lw_at lw_m6 54 rfl) rfl
theorem q1378 : (Jvm.Cond.lays "ExamSlips$Backward" "ExamSlips$Backward" "leftOut" "I") ∈ lw_all := lw_g (lw_at lw_m6 55 rfl) rfl
theorem q1379 : (Jvm.Cond.soleField "ExamSlips$Backward" "leftOut") ∈ lw_all := lw_g (lw_at lw_m6 56 rfl) rfl
theorem q1380 : (Jvm.Cond.lays "ExamSlips$Backward" "ExamSlips$Backward" "first" "I") ∈ lw_all := lw_g (lw_at lw_m6 57 rfl) rfl
theorem q1381 : (Jvm.Cond.soleField "ExamSlips$Backward" "first") ∈ lw_all := lw_g (lw_at lw_m6 58 rfl) rfl
theorem q1382 : (Jvm.Cond.laysFinal "ExamSlips$Backward" "ExamSlips$Backward" "this$0" "LExamSlips;") ∈ lw_all := lw_g (lw_at lw_m6 59 rfl) rfl
theorem q1383 : (Jvm.Cond.soleField "ExamSlips$Backward" "this$0") ∈ lw_all := lw_g (lw_at lw_m6 60 rfl) rfl
theorem q1384 : (Jvm.Cond.superclass "ExamSlips$Backward" "java/lang/Object") ∈ lw_all := lw_g (lw_at lw_m6 61 rfl) rfl
theorem q2397 : (Jvm.Cond.castable "ExamSlips$Backward" "java/lang/Object") ∈ lw_tbl := lw_at lw_m10 114 rfl
theorem in_X23 : ∀ w ∈ wsX230, w ∈ lw_all := lw_in wsX230 [1376, 1378, 1380, 1382] (by decide +kernel) (by decide +kernel)

/-! ExamSlips$Sharing -/
set_option maxRecDepth 100000
def RX24 : String := "ExamSlips$Sharing"
def TX24 : u_T := fun k => match k with
  | 0 => ("ExamSlips$Sharing", "many", "I", true)
  | 1 => ("ExamSlips$Sharing", "costs", "[I", true)
  | 2 => ("ExamSlips$Sharing", "who", "[I", true)
  | 3 => ("ExamSlips$Sharing", "all", "I", false)
  | _ => ("ExamSlips$Sharing", "this$0", "LExamSlips;", true)
def tyX24 : Nat → FieldType := fun k => match k with
  | 0 => .int
  | 1 => .array .int
  | 2 => .array .int
  | 3 => .int
  | _ => .object "ExamSlips"
abbrev wsX240 : List Cond := u_ws RX24 TX24 5
theorem nmX24 : ∀ a, a < 5 → ∀ b, b < 5 → a ≠ b → (TX24 a).2.1 ≠ (TX24 b).2.1 := by decide +kernel
theorem tyX24_ok : ∀ k, k < 5 → parseFieldDescriptor (TX24 k).2.2.1 = some (tyX24 k) := by decide +kernel
abbrev cX24_init : ByteArray := prog_22_method_1_code
def yX24_init : MethodName := ⟨RX24, "<init>", "(LExamSlips;)V"⟩
def dkwX24_init_12 : List UInt8 := [160, 0, 7, 3, 167, 0, 4, 4, 100, 62, 132, 4, 1, 167, 255, 119, 177]
abbrev dktX24_init_12 : List UInt8 := dkwX24_init_12 ++ []
def dkwX24_init_11 : List UInt8 := [180, 0, 28, 21, 4, 46, 96, 79, 132, 5, 1, 167, 255, 164, 29, 42, 180, 0, 32, 21, 4, 46, 2]
abbrev dktX24_init_11 : List UInt8 := dkwX24_init_11 ++ dktX24_init_12
def dkwX24_init_10 : List UInt8 := [96, 29, 160, 0, 15, 42, 180, 0, 32, 21, 4, 21, 5, 79, 167, 0, 17, 44, 21, 5, 92, 46, 42]
abbrev dktX24_init_10 : List UInt8 := dkwX24_init_10 ++ dktX24_init_11
def dkwX24_init_9 : List UInt8 := [44, 21, 5, 92, 46, 42, 180, 0, 28, 21, 4, 46, 100, 79, 4, 42, 21, 4, 4, 96, 44, 182, 0, 60]
abbrev dktX24_init_9 : List UInt8 := dkwX24_init_9 ++ dktX24_init_10
def dkwX24_init_8 : List UInt8 := [21, 4, 46, 2, 160, 0, 81, 42, 180, 0, 28, 21, 4, 46, 44, 21, 5, 46, 164, 0, 6, 167, 0, 58]
abbrev dktX24_init_8 : List UInt8 := dkwX24_init_8 ++ dktX24_init_9
def dkwX24_init_7 : List UInt8 := [162, 0, 134, 42, 180, 0, 32, 21, 4, 2, 79, 3, 54, 5, 21, 5, 6, 162, 0, 92, 42, 180, 0, 32]
abbrev dktX24_init_7 : List UInt8 := dkwX24_init_7 ++ dktX24_init_8
def dkwX24_init_6 : List UInt8 := [3, 44, 182, 0, 60, 181, 0, 64, 42, 180, 0, 64, 62, 3, 54, 4, 21, 4, 42, 180, 0, 25]
abbrev dktX24_init_6 : List UInt8 := dkwX24_init_6 ++ dktX24_init_7
def dkwX24_init_5 : List UInt8 := [180, 0, 35, 180, 0, 57, 4, 46, 79, 89, 5, 43, 180, 0, 35, 180, 0, 57, 5, 46, 79, 77, 42, 42]
abbrev dktX24_init_5 : List UInt8 := dkwX24_init_5 ++ dktX24_init_6
def dkwX24_init_4 : List UInt8 := [132, 2, 1, 167, 255, 207, 6, 188, 10, 89, 3, 43, 180, 0, 35, 180, 0, 57, 3, 46, 79, 89, 4, 43]
abbrev dktX24_init_4 : List UInt8 := dkwX24_init_4 ++ dktX24_init_5
def dkwX24_init_3 : List UInt8 := [42, 180, 0, 28, 28, 43, 45, 4, 3, 3, 182, 0, 53, 43, 45, 5, 3, 3, 182, 0, 53, 96, 79]
abbrev dktX24_init_3 : List UInt8 := dkwX24_init_3 ++ dktX24_init_4
def dkwX24_init_2 : List UInt8 := [61, 28, 42, 180, 0, 25, 162, 0, 47, 43, 180, 0, 35, 180, 0, 39, 28, 182, 0, 45, 192, 0, 51, 78]
abbrev dktX24_init_2 : List UInt8 := dkwX24_init_2 ++ dktX24_init_3
def dkwX24_init_1 : List UInt8 := [181, 0, 25, 42, 42, 180, 0, 25, 188, 10, 181, 0, 28, 42, 42, 180, 0, 25, 188, 10, 181, 0, 32, 3]
abbrev dktX24_init_1 : List UInt8 := dkwX24_init_1 ++ dktX24_init_2
def dkwX24_init_0 : List UInt8 := [42, 43, 181, 0, 3, 42, 183, 0, 9, 42, 16, 12, 42, 180, 0, 3, 182, 0, 15, 184, 0, 19]
abbrev dktX24_init_0 : List UInt8 := dkwX24_init_0 ++ dktX24_init_1
theorem dksX24_init_0 : cX24_init.data.toList.drop 0 = dktX24_init_0 := by decide +kernel
theorem dksX24_init_1 : cX24_init.data.toList.drop 22 = dktX24_init_1 := dk_seg dksX24_init_0 22 rfl rfl
theorem dksX24_init_2 : cX24_init.data.toList.drop 46 = dktX24_init_2 := dk_seg dksX24_init_1 24 rfl rfl
theorem dksX24_init_3 : cX24_init.data.toList.drop 70 = dktX24_init_3 := dk_seg dksX24_init_2 24 rfl rfl
theorem dksX24_init_4 : cX24_init.data.toList.drop 93 = dktX24_init_4 := dk_seg dksX24_init_3 23 rfl rfl
theorem dksX24_init_5 : cX24_init.data.toList.drop 117 = dktX24_init_5 := dk_seg dksX24_init_4 24 rfl rfl
theorem dksX24_init_6 : cX24_init.data.toList.drop 141 = dktX24_init_6 := dk_seg dksX24_init_5 24 rfl rfl
theorem dksX24_init_7 : cX24_init.data.toList.drop 163 = dktX24_init_7 := dk_seg dksX24_init_6 22 rfl rfl
theorem dksX24_init_8 : cX24_init.data.toList.drop 187 = dktX24_init_8 := dk_seg dksX24_init_7 24 rfl rfl
theorem dksX24_init_9 : cX24_init.data.toList.drop 211 = dktX24_init_9 := dk_seg dksX24_init_8 24 rfl rfl
theorem dksX24_init_10 : cX24_init.data.toList.drop 235 = dktX24_init_10 := dk_seg dksX24_init_9 24 rfl rfl
theorem dksX24_init_11 : cX24_init.data.toList.drop 258 = dktX24_init_11 := dk_seg dksX24_init_10 23 rfl rfl
theorem dksX24_init_12 : cX24_init.data.toList.drop 281 = dktX24_init_12 := dk_seg dksX24_init_11 23 rfl rfl
theorem dX24_init_0 : decode cX24_init 0 = .ok (.aload_n 0, 1) := dk_42 (dk_at dksX24_init_0 0 rfl rfl)
theorem dX24_init_1 : decode cX24_init 1 = .ok (.aload_n 1, 1) := dk_43 (dk_at dksX24_init_0 1 rfl rfl)
theorem dX24_init_2 : decode cX24_init 2 = .ok (.putfield 3, 3) := dk_181 0 3 (dk_at dksX24_init_0 2 rfl rfl)
theorem dX24_init_5 : decode cX24_init 5 = .ok (.aload_n 0, 1) := dk_42 (dk_at dksX24_init_0 5 rfl rfl)
theorem dX24_init_6 : decode cX24_init 6 = .ok (.invokespecial 9, 3) := dk_183 0 9 (dk_at dksX24_init_0 6 rfl rfl)
theorem dX24_init_9 : decode cX24_init 9 = .ok (.aload_n 0, 1) := dk_42 (dk_at dksX24_init_0 9 rfl rfl)
theorem dX24_init_10 : decode cX24_init 10 = .ok (.bipush 12, 2) := dk_16 12 (dk_at dksX24_init_0 10 rfl rfl)
theorem dX24_init_12 : decode cX24_init 12 = .ok (.aload_n 0, 1) := dk_42 (dk_at dksX24_init_0 12 rfl rfl)
theorem dX24_init_13 : decode cX24_init 13 = .ok (.getfield 3, 3) := dk_180 0 3 (dk_at dksX24_init_0 13 rfl rfl)
theorem dX24_init_16 : decode cX24_init 16 = .ok (.invokevirtual 15, 3) := dk_182 0 15 (dk_at dksX24_init_0 16 rfl rfl)
theorem dX24_init_19 : decode cX24_init 19 = .ok (.invokestatic 19, 3) := dk_184 0 19 (dk_at dksX24_init_0 19 rfl rfl)
theorem dX24_init_22 : decode cX24_init 22 = .ok (.putfield 25, 3) := dk_181 0 25 (dk_at dksX24_init_1 0 rfl rfl)
theorem dX24_init_25 : decode cX24_init 25 = .ok (.aload_n 0, 1) := dk_42 (dk_at dksX24_init_1 3 rfl rfl)
theorem dX24_init_26 : decode cX24_init 26 = .ok (.aload_n 0, 1) := dk_42 (dk_at dksX24_init_1 4 rfl rfl)
theorem dX24_init_27 : decode cX24_init 27 = .ok (.getfield 25, 3) := dk_180 0 25 (dk_at dksX24_init_1 5 rfl rfl)
theorem dX24_init_30 : decode cX24_init 30 = .ok (.newarray .int, 2) := dk_188_10 (dk_at dksX24_init_1 8 rfl rfl)
theorem dX24_init_32 : decode cX24_init 32 = .ok (.putfield 28, 3) := dk_181 0 28 (dk_at dksX24_init_1 10 rfl rfl)
theorem dX24_init_35 : decode cX24_init 35 = .ok (.aload_n 0, 1) := dk_42 (dk_at dksX24_init_1 13 rfl rfl)
theorem dX24_init_36 : decode cX24_init 36 = .ok (.aload_n 0, 1) := dk_42 (dk_at dksX24_init_1 14 rfl rfl)
theorem dX24_init_37 : decode cX24_init 37 = .ok (.getfield 25, 3) := dk_180 0 25 (dk_at dksX24_init_1 15 rfl rfl)
theorem dX24_init_40 : decode cX24_init 40 = .ok (.newarray .int, 2) := dk_188_10 (dk_at dksX24_init_1 18 rfl rfl)
theorem dX24_init_42 : decode cX24_init 42 = .ok (.putfield 32, 3) := dk_181 0 32 (dk_at dksX24_init_1 20 rfl rfl)
theorem dX24_init_45 : decode cX24_init 45 = .ok (.iconst 0, 1) := dk_3 (dk_at dksX24_init_1 23 rfl rfl)
theorem dX24_init_46 : decode cX24_init 46 = .ok (.istore_n 2, 1) := dk_61 (dk_at dksX24_init_2 0 rfl rfl)
theorem dX24_init_47 : decode cX24_init 47 = .ok (.iload_n 2, 1) := dk_28 (dk_at dksX24_init_2 1 rfl rfl)
theorem dX24_init_48 : decode cX24_init 48 = .ok (.aload_n 0, 1) := dk_42 (dk_at dksX24_init_2 2 rfl rfl)
theorem dX24_init_49 : decode cX24_init 49 = .ok (.getfield 25, 3) := dk_180 0 25 (dk_at dksX24_init_2 3 rfl rfl)
theorem dX24_init_52 : decode cX24_init 52 = .ok (.if_icmp .ge 47, 3) := dk_162 0 47 (dk_at dksX24_init_2 6 rfl rfl)
theorem dX24_init_55 : decode cX24_init 55 = .ok (.aload_n 1, 1) := dk_43 (dk_at dksX24_init_2 9 rfl rfl)
theorem dX24_init_56 : decode cX24_init 56 = .ok (.getfield 35, 3) := dk_180 0 35 (dk_at dksX24_init_2 10 rfl rfl)
theorem dX24_init_59 : decode cX24_init 59 = .ok (.getfield 39, 3) := dk_180 0 39 (dk_at dksX24_init_2 13 rfl rfl)
theorem dX24_init_62 : decode cX24_init 62 = .ok (.iload_n 2, 1) := dk_28 (dk_at dksX24_init_2 16 rfl rfl)
theorem dX24_init_63 : decode cX24_init 63 = .ok (.invokevirtual 45, 3) := dk_182 0 45 (dk_at dksX24_init_2 17 rfl rfl)
theorem dX24_init_66 : decode cX24_init 66 = .ok (.checkcast 51, 3) := dk_192 0 51 (dk_at dksX24_init_2 20 rfl rfl)
theorem dX24_init_69 : decode cX24_init 69 = .ok (.astore_n 3, 1) := dk_78 (dk_at dksX24_init_2 23 rfl rfl)
theorem dX24_init_70 : decode cX24_init 70 = .ok (.aload_n 0, 1) := dk_42 (dk_at dksX24_init_3 0 rfl rfl)
theorem dX24_init_71 : decode cX24_init 71 = .ok (.getfield 28, 3) := dk_180 0 28 (dk_at dksX24_init_3 1 rfl rfl)
theorem dX24_init_74 : decode cX24_init 74 = .ok (.iload_n 2, 1) := dk_28 (dk_at dksX24_init_3 4 rfl rfl)
theorem dX24_init_75 : decode cX24_init 75 = .ok (.aload_n 1, 1) := dk_43 (dk_at dksX24_init_3 5 rfl rfl)
theorem dX24_init_76 : decode cX24_init 76 = .ok (.aload_n 3, 1) := dk_45 (dk_at dksX24_init_3 6 rfl rfl)
theorem dX24_init_77 : decode cX24_init 77 = .ok (.iconst 1, 1) := dk_4 (dk_at dksX24_init_3 7 rfl rfl)
theorem dX24_init_78 : decode cX24_init 78 = .ok (.iconst 0, 1) := dk_3 (dk_at dksX24_init_3 8 rfl rfl)
theorem dX24_init_79 : decode cX24_init 79 = .ok (.iconst 0, 1) := dk_3 (dk_at dksX24_init_3 9 rfl rfl)
theorem dX24_init_80 : decode cX24_init 80 = .ok (.invokevirtual 53, 3) := dk_182 0 53 (dk_at dksX24_init_3 10 rfl rfl)
theorem dX24_init_83 : decode cX24_init 83 = .ok (.aload_n 1, 1) := dk_43 (dk_at dksX24_init_3 13 rfl rfl)
theorem dX24_init_84 : decode cX24_init 84 = .ok (.aload_n 3, 1) := dk_45 (dk_at dksX24_init_3 14 rfl rfl)
theorem dX24_init_85 : decode cX24_init 85 = .ok (.iconst 2, 1) := dk_5 (dk_at dksX24_init_3 15 rfl rfl)
theorem dX24_init_86 : decode cX24_init 86 = .ok (.iconst 0, 1) := dk_3 (dk_at dksX24_init_3 16 rfl rfl)
theorem dX24_init_87 : decode cX24_init 87 = .ok (.iconst 0, 1) := dk_3 (dk_at dksX24_init_3 17 rfl rfl)
theorem dX24_init_88 : decode cX24_init 88 = .ok (.invokevirtual 53, 3) := dk_182 0 53 (dk_at dksX24_init_3 18 rfl rfl)
theorem dX24_init_91 : decode cX24_init 91 = .ok (.iadd, 1) := dk_96 (dk_at dksX24_init_3 21 rfl rfl)
theorem dX24_init_92 : decode cX24_init 92 = .ok (.iastore, 1) := dk_79 (dk_at dksX24_init_3 22 rfl rfl)
theorem dX24_init_93 : decode cX24_init 93 = .ok (.iinc 2 1, 3) := dk_132 2 1 (dk_at dksX24_init_4 0 rfl rfl)
theorem dX24_init_96 : decode cX24_init 96 = .ok (.goto (-49), 3) := dk_167 255 207 (dk_at dksX24_init_4 3 rfl rfl)
theorem dX24_init_99 : decode cX24_init 99 = .ok (.iconst 3, 1) := dk_6 (dk_at dksX24_init_4 6 rfl rfl)
theorem dX24_init_100 : decode cX24_init 100 = .ok (.newarray .int, 2) := dk_188_10 (dk_at dksX24_init_4 7 rfl rfl)
theorem dX24_init_102 : decode cX24_init 102 = .ok (.dup, 1) := dk_89 (dk_at dksX24_init_4 9 rfl rfl)
theorem dX24_init_103 : decode cX24_init 103 = .ok (.iconst 0, 1) := dk_3 (dk_at dksX24_init_4 10 rfl rfl)
theorem dX24_init_104 : decode cX24_init 104 = .ok (.aload_n 1, 1) := dk_43 (dk_at dksX24_init_4 11 rfl rfl)
theorem dX24_init_105 : decode cX24_init 105 = .ok (.getfield 35, 3) := dk_180 0 35 (dk_at dksX24_init_4 12 rfl rfl)
theorem dX24_init_108 : decode cX24_init 108 = .ok (.getfield 57, 3) := dk_180 0 57 (dk_at dksX24_init_4 15 rfl rfl)
theorem dX24_init_111 : decode cX24_init 111 = .ok (.iconst 0, 1) := dk_3 (dk_at dksX24_init_4 18 rfl rfl)
theorem dX24_init_112 : decode cX24_init 112 = .ok (.iaload, 1) := dk_46 (dk_at dksX24_init_4 19 rfl rfl)
theorem dX24_init_113 : decode cX24_init 113 = .ok (.iastore, 1) := dk_79 (dk_at dksX24_init_4 20 rfl rfl)
theorem dX24_init_114 : decode cX24_init 114 = .ok (.dup, 1) := dk_89 (dk_at dksX24_init_4 21 rfl rfl)
theorem dX24_init_115 : decode cX24_init 115 = .ok (.iconst 1, 1) := dk_4 (dk_at dksX24_init_4 22 rfl rfl)
theorem dX24_init_116 : decode cX24_init 116 = .ok (.aload_n 1, 1) := dk_43 (dk_at dksX24_init_4 23 rfl rfl)
theorem dX24_init_117 : decode cX24_init 117 = .ok (.getfield 35, 3) := dk_180 0 35 (dk_at dksX24_init_5 0 rfl rfl)
theorem dX24_init_120 : decode cX24_init 120 = .ok (.getfield 57, 3) := dk_180 0 57 (dk_at dksX24_init_5 3 rfl rfl)
theorem dX24_init_123 : decode cX24_init 123 = .ok (.iconst 1, 1) := dk_4 (dk_at dksX24_init_5 6 rfl rfl)
theorem dX24_init_124 : decode cX24_init 124 = .ok (.iaload, 1) := dk_46 (dk_at dksX24_init_5 7 rfl rfl)
theorem dX24_init_125 : decode cX24_init 125 = .ok (.iastore, 1) := dk_79 (dk_at dksX24_init_5 8 rfl rfl)
theorem dX24_init_126 : decode cX24_init 126 = .ok (.dup, 1) := dk_89 (dk_at dksX24_init_5 9 rfl rfl)
theorem dX24_init_127 : decode cX24_init 127 = .ok (.iconst 2, 1) := dk_5 (dk_at dksX24_init_5 10 rfl rfl)
theorem dX24_init_128 : decode cX24_init 128 = .ok (.aload_n 1, 1) := dk_43 (dk_at dksX24_init_5 11 rfl rfl)
theorem dX24_init_129 : decode cX24_init 129 = .ok (.getfield 35, 3) := dk_180 0 35 (dk_at dksX24_init_5 12 rfl rfl)
theorem dX24_init_132 : decode cX24_init 132 = .ok (.getfield 57, 3) := dk_180 0 57 (dk_at dksX24_init_5 15 rfl rfl)
theorem dX24_init_135 : decode cX24_init 135 = .ok (.iconst 2, 1) := dk_5 (dk_at dksX24_init_5 18 rfl rfl)
theorem dX24_init_136 : decode cX24_init 136 = .ok (.iaload, 1) := dk_46 (dk_at dksX24_init_5 19 rfl rfl)
theorem dX24_init_137 : decode cX24_init 137 = .ok (.iastore, 1) := dk_79 (dk_at dksX24_init_5 20 rfl rfl)
theorem dX24_init_138 : decode cX24_init 138 = .ok (.astore_n 2, 1) := dk_77 (dk_at dksX24_init_5 21 rfl rfl)
theorem dX24_init_139 : decode cX24_init 139 = .ok (.aload_n 0, 1) := dk_42 (dk_at dksX24_init_5 22 rfl rfl)
theorem dX24_init_140 : decode cX24_init 140 = .ok (.aload_n 0, 1) := dk_42 (dk_at dksX24_init_5 23 rfl rfl)
theorem dX24_init_141 : decode cX24_init 141 = .ok (.iconst 0, 1) := dk_3 (dk_at dksX24_init_6 0 rfl rfl)
theorem dX24_init_142 : decode cX24_init 142 = .ok (.aload_n 2, 1) := dk_44 (dk_at dksX24_init_6 1 rfl rfl)
theorem dX24_init_143 : decode cX24_init 143 = .ok (.invokevirtual 60, 3) := dk_182 0 60 (dk_at dksX24_init_6 2 rfl rfl)
theorem dX24_init_146 : decode cX24_init 146 = .ok (.putfield 64, 3) := dk_181 0 64 (dk_at dksX24_init_6 5 rfl rfl)
theorem dX24_init_149 : decode cX24_init 149 = .ok (.aload_n 0, 1) := dk_42 (dk_at dksX24_init_6 8 rfl rfl)
theorem dX24_init_150 : decode cX24_init 150 = .ok (.getfield 64, 3) := dk_180 0 64 (dk_at dksX24_init_6 9 rfl rfl)
theorem dX24_init_153 : decode cX24_init 153 = .ok (.istore_n 3, 1) := dk_62 (dk_at dksX24_init_6 12 rfl rfl)
theorem dX24_init_154 : decode cX24_init 154 = .ok (.iconst 0, 1) := dk_3 (dk_at dksX24_init_6 13 rfl rfl)
theorem dX24_init_155 : decode cX24_init 155 = .ok (.istore 4, 2) := dk_54 4 (dk_at dksX24_init_6 14 rfl rfl)
theorem dX24_init_157 : decode cX24_init 157 = .ok (.iload 4, 2) := dk_21 4 (dk_at dksX24_init_6 16 rfl rfl)
theorem dX24_init_159 : decode cX24_init 159 = .ok (.aload_n 0, 1) := dk_42 (dk_at dksX24_init_6 18 rfl rfl)
theorem dX24_init_160 : decode cX24_init 160 = .ok (.getfield 25, 3) := dk_180 0 25 (dk_at dksX24_init_6 19 rfl rfl)
theorem dX24_init_163 : decode cX24_init 163 = .ok (.if_icmp .ge 134, 3) := dk_162 0 134 (dk_at dksX24_init_7 0 rfl rfl)
theorem dX24_init_166 : decode cX24_init 166 = .ok (.aload_n 0, 1) := dk_42 (dk_at dksX24_init_7 3 rfl rfl)
theorem dX24_init_167 : decode cX24_init 167 = .ok (.getfield 32, 3) := dk_180 0 32 (dk_at dksX24_init_7 4 rfl rfl)
theorem dX24_init_170 : decode cX24_init 170 = .ok (.iload 4, 2) := dk_21 4 (dk_at dksX24_init_7 7 rfl rfl)
theorem dX24_init_172 : decode cX24_init 172 = .ok (.iconst (-1), 1) := dk_2 (dk_at dksX24_init_7 9 rfl rfl)
theorem dX24_init_173 : decode cX24_init 173 = .ok (.iastore, 1) := dk_79 (dk_at dksX24_init_7 10 rfl rfl)
theorem dX24_init_174 : decode cX24_init 174 = .ok (.iconst 0, 1) := dk_3 (dk_at dksX24_init_7 11 rfl rfl)
theorem dX24_init_175 : decode cX24_init 175 = .ok (.istore 5, 2) := dk_54 5 (dk_at dksX24_init_7 12 rfl rfl)
theorem dX24_init_177 : decode cX24_init 177 = .ok (.iload 5, 2) := dk_21 5 (dk_at dksX24_init_7 14 rfl rfl)
theorem dX24_init_179 : decode cX24_init 179 = .ok (.iconst 3, 1) := dk_6 (dk_at dksX24_init_7 16 rfl rfl)
theorem dX24_init_180 : decode cX24_init 180 = .ok (.if_icmp .ge 92, 3) := dk_162 0 92 (dk_at dksX24_init_7 17 rfl rfl)
theorem dX24_init_183 : decode cX24_init 183 = .ok (.aload_n 0, 1) := dk_42 (dk_at dksX24_init_7 20 rfl rfl)
theorem dX24_init_184 : decode cX24_init 184 = .ok (.getfield 32, 3) := dk_180 0 32 (dk_at dksX24_init_7 21 rfl rfl)
theorem dX24_init_187 : decode cX24_init 187 = .ok (.iload 4, 2) := dk_21 4 (dk_at dksX24_init_8 0 rfl rfl)
theorem dX24_init_189 : decode cX24_init 189 = .ok (.iaload, 1) := dk_46 (dk_at dksX24_init_8 2 rfl rfl)
theorem dX24_init_190 : decode cX24_init 190 = .ok (.iconst (-1), 1) := dk_2 (dk_at dksX24_init_8 3 rfl rfl)
theorem dX24_init_191 : decode cX24_init 191 = .ok (.if_icmp .ne 81, 3) := dk_160 0 81 (dk_at dksX24_init_8 4 rfl rfl)
theorem dX24_init_194 : decode cX24_init 194 = .ok (.aload_n 0, 1) := dk_42 (dk_at dksX24_init_8 7 rfl rfl)
theorem dX24_init_195 : decode cX24_init 195 = .ok (.getfield 28, 3) := dk_180 0 28 (dk_at dksX24_init_8 8 rfl rfl)
theorem dX24_init_198 : decode cX24_init 198 = .ok (.iload 4, 2) := dk_21 4 (dk_at dksX24_init_8 11 rfl rfl)
theorem dX24_init_200 : decode cX24_init 200 = .ok (.iaload, 1) := dk_46 (dk_at dksX24_init_8 13 rfl rfl)
theorem dX24_init_201 : decode cX24_init 201 = .ok (.aload_n 2, 1) := dk_44 (dk_at dksX24_init_8 14 rfl rfl)
theorem dX24_init_202 : decode cX24_init 202 = .ok (.iload 5, 2) := dk_21 5 (dk_at dksX24_init_8 15 rfl rfl)
theorem dX24_init_204 : decode cX24_init 204 = .ok (.iaload, 1) := dk_46 (dk_at dksX24_init_8 17 rfl rfl)
theorem dX24_init_205 : decode cX24_init 205 = .ok (.if_icmp .le 6, 3) := dk_164 0 6 (dk_at dksX24_init_8 18 rfl rfl)
theorem dX24_init_208 : decode cX24_init 208 = .ok (.goto 58, 3) := dk_167 0 58 (dk_at dksX24_init_8 21 rfl rfl)
theorem dX24_init_211 : decode cX24_init 211 = .ok (.aload_n 2, 1) := dk_44 (dk_at dksX24_init_9 0 rfl rfl)
theorem dX24_init_212 : decode cX24_init 212 = .ok (.iload 5, 2) := dk_21 5 (dk_at dksX24_init_9 1 rfl rfl)
theorem dX24_init_214 : decode cX24_init 214 = .ok (.dup2, 1) := dk_92 (dk_at dksX24_init_9 3 rfl rfl)
theorem dX24_init_215 : decode cX24_init 215 = .ok (.iaload, 1) := dk_46 (dk_at dksX24_init_9 4 rfl rfl)
theorem dX24_init_216 : decode cX24_init 216 = .ok (.aload_n 0, 1) := dk_42 (dk_at dksX24_init_9 5 rfl rfl)
theorem dX24_init_217 : decode cX24_init 217 = .ok (.getfield 28, 3) := dk_180 0 28 (dk_at dksX24_init_9 6 rfl rfl)
theorem dX24_init_220 : decode cX24_init 220 = .ok (.iload 4, 2) := dk_21 4 (dk_at dksX24_init_9 9 rfl rfl)
theorem dX24_init_222 : decode cX24_init 222 = .ok (.iaload, 1) := dk_46 (dk_at dksX24_init_9 11 rfl rfl)
theorem dX24_init_223 : decode cX24_init 223 = .ok (.isub, 1) := dk_100 (dk_at dksX24_init_9 12 rfl rfl)
theorem dX24_init_224 : decode cX24_init 224 = .ok (.iastore, 1) := dk_79 (dk_at dksX24_init_9 13 rfl rfl)
theorem dX24_init_225 : decode cX24_init 225 = .ok (.iconst 1, 1) := dk_4 (dk_at dksX24_init_9 14 rfl rfl)
theorem dX24_init_226 : decode cX24_init 226 = .ok (.aload_n 0, 1) := dk_42 (dk_at dksX24_init_9 15 rfl rfl)
theorem dX24_init_227 : decode cX24_init 227 = .ok (.iload 4, 2) := dk_21 4 (dk_at dksX24_init_9 16 rfl rfl)
theorem dX24_init_229 : decode cX24_init 229 = .ok (.iconst 1, 1) := dk_4 (dk_at dksX24_init_9 18 rfl rfl)
theorem dX24_init_230 : decode cX24_init 230 = .ok (.iadd, 1) := dk_96 (dk_at dksX24_init_9 19 rfl rfl)
theorem dX24_init_231 : decode cX24_init 231 = .ok (.aload_n 2, 1) := dk_44 (dk_at dksX24_init_9 20 rfl rfl)
theorem dX24_init_232 : decode cX24_init 232 = .ok (.invokevirtual 60, 3) := dk_182 0 60 (dk_at dksX24_init_9 21 rfl rfl)
theorem dX24_init_235 : decode cX24_init 235 = .ok (.iadd, 1) := dk_96 (dk_at dksX24_init_10 0 rfl rfl)
theorem dX24_init_236 : decode cX24_init 236 = .ok (.iload_n 3, 1) := dk_29 (dk_at dksX24_init_10 1 rfl rfl)
theorem dX24_init_237 : decode cX24_init 237 = .ok (.if_icmp .ne 15, 3) := dk_160 0 15 (dk_at dksX24_init_10 2 rfl rfl)
theorem dX24_init_240 : decode cX24_init 240 = .ok (.aload_n 0, 1) := dk_42 (dk_at dksX24_init_10 5 rfl rfl)
theorem dX24_init_241 : decode cX24_init 241 = .ok (.getfield 32, 3) := dk_180 0 32 (dk_at dksX24_init_10 6 rfl rfl)
theorem dX24_init_244 : decode cX24_init 244 = .ok (.iload 4, 2) := dk_21 4 (dk_at dksX24_init_10 9 rfl rfl)
theorem dX24_init_246 : decode cX24_init 246 = .ok (.iload 5, 2) := dk_21 5 (dk_at dksX24_init_10 11 rfl rfl)
theorem dX24_init_248 : decode cX24_init 248 = .ok (.iastore, 1) := dk_79 (dk_at dksX24_init_10 13 rfl rfl)
theorem dX24_init_249 : decode cX24_init 249 = .ok (.goto 17, 3) := dk_167 0 17 (dk_at dksX24_init_10 14 rfl rfl)
theorem dX24_init_252 : decode cX24_init 252 = .ok (.aload_n 2, 1) := dk_44 (dk_at dksX24_init_10 17 rfl rfl)
theorem dX24_init_253 : decode cX24_init 253 = .ok (.iload 5, 2) := dk_21 5 (dk_at dksX24_init_10 18 rfl rfl)
theorem dX24_init_255 : decode cX24_init 255 = .ok (.dup2, 1) := dk_92 (dk_at dksX24_init_10 20 rfl rfl)
theorem dX24_init_256 : decode cX24_init 256 = .ok (.iaload, 1) := dk_46 (dk_at dksX24_init_10 21 rfl rfl)
theorem dX24_init_257 : decode cX24_init 257 = .ok (.aload_n 0, 1) := dk_42 (dk_at dksX24_init_10 22 rfl rfl)
theorem dX24_init_258 : decode cX24_init 258 = .ok (.getfield 28, 3) := dk_180 0 28 (dk_at dksX24_init_11 0 rfl rfl)
theorem dX24_init_261 : decode cX24_init 261 = .ok (.iload 4, 2) := dk_21 4 (dk_at dksX24_init_11 3 rfl rfl)
theorem dX24_init_263 : decode cX24_init 263 = .ok (.iaload, 1) := dk_46 (dk_at dksX24_init_11 5 rfl rfl)
theorem dX24_init_264 : decode cX24_init 264 = .ok (.iadd, 1) := dk_96 (dk_at dksX24_init_11 6 rfl rfl)
theorem dX24_init_265 : decode cX24_init 265 = .ok (.iastore, 1) := dk_79 (dk_at dksX24_init_11 7 rfl rfl)
theorem dX24_init_266 : decode cX24_init 266 = .ok (.iinc 5 1, 3) := dk_132 5 1 (dk_at dksX24_init_11 8 rfl rfl)
theorem dX24_init_269 : decode cX24_init 269 = .ok (.goto (-92), 3) := dk_167 255 164 (dk_at dksX24_init_11 11 rfl rfl)
theorem dX24_init_272 : decode cX24_init 272 = .ok (.iload_n 3, 1) := dk_29 (dk_at dksX24_init_11 14 rfl rfl)
theorem dX24_init_273 : decode cX24_init 273 = .ok (.aload_n 0, 1) := dk_42 (dk_at dksX24_init_11 15 rfl rfl)
theorem dX24_init_274 : decode cX24_init 274 = .ok (.getfield 32, 3) := dk_180 0 32 (dk_at dksX24_init_11 16 rfl rfl)
theorem dX24_init_277 : decode cX24_init 277 = .ok (.iload 4, 2) := dk_21 4 (dk_at dksX24_init_11 19 rfl rfl)
theorem dX24_init_279 : decode cX24_init 279 = .ok (.iaload, 1) := dk_46 (dk_at dksX24_init_11 21 rfl rfl)
theorem dX24_init_280 : decode cX24_init 280 = .ok (.iconst (-1), 1) := dk_2 (dk_at dksX24_init_11 22 rfl rfl)
theorem dX24_init_281 : decode cX24_init 281 = .ok (.if_icmp .ne 7, 3) := dk_160 0 7 (dk_at dksX24_init_12 0 rfl rfl)
theorem dX24_init_284 : decode cX24_init 284 = .ok (.iconst 0, 1) := dk_3 (dk_at dksX24_init_12 3 rfl rfl)
theorem dX24_init_285 : decode cX24_init 285 = .ok (.goto 4, 3) := dk_167 0 4 (dk_at dksX24_init_12 4 rfl rfl)
theorem dX24_init_288 : decode cX24_init 288 = .ok (.iconst 1, 1) := dk_4 (dk_at dksX24_init_12 7 rfl rfl)
theorem dX24_init_289 : decode cX24_init 289 = .ok (.isub, 1) := dk_100 (dk_at dksX24_init_12 8 rfl rfl)
theorem dX24_init_290 : decode cX24_init 290 = .ok (.istore_n 3, 1) := dk_62 (dk_at dksX24_init_12 9 rfl rfl)
theorem dX24_init_291 : decode cX24_init 291 = .ok (.iinc 4 1, 3) := dk_132 4 1 (dk_at dksX24_init_12 10 rfl rfl)
theorem dX24_init_294 : decode cX24_init 294 = .ok (.goto (-137), 3) := dk_167 255 119 (dk_at dksX24_init_12 13 rfl rfl)
theorem dX24_init_297 : decode cX24_init 297 = .ok (.return_, 1) := dk_177 (dk_at dksX24_init_12 16 rfl rfl)
abbrev cX24_most : ByteArray := prog_22_method_2_code
def yX24_most : MethodName := ⟨RX24, "most", "(I[I)I"⟩
def dkwX24_most_8 : List UInt8 := [167, 0, 10, 21, 8, 4, 100, 21, 7, 126, 54, 8, 167, 255, 198, 132, 7, 1, 167, 255, 167, 21, 4, 172]
abbrev dktX24_most_8 : List UInt8 := dkwX24_most_8 ++ []
def dkwX24_most_7 : List UInt8 := [154, 0, 6, 167, 0, 13, 21, 7, 184, 0, 77, 54, 4, 167, 0, 24, 21, 8, 154, 0, 7, 2]
abbrev dktX24_most_7 : List UInt8 := dkwX24_most_7 ++ dktX24_most_8
def dkwX24_most_6 : List UInt8 := [155, 0, 59, 25, 5, 21, 8, 46, 44, 3, 46, 163, 0, 27, 25, 6, 21, 7, 21, 8, 130, 51]
abbrev dktX24_most_6 : List UInt8 := dkwX24_most_6 ++ dktX24_most_7
def dkwX24_most_5 : List UInt8 := [162, 0, 87, 21, 7, 184, 0, 77, 21, 4, 163, 0, 6, 167, 0, 68, 21, 7, 54, 8, 21, 8]
abbrev dktX24_most_5 : List UInt8 := dkwX24_most_5 ++ dktX24_most_6
def dkwX24_most_4 : List UInt8 := [46, 44, 5, 46, 182, 0, 73, 84, 132, 7, 1, 167, 255, 226, 3, 54, 7, 21, 7, 4, 29, 120]
abbrev dktX24_most_4 : List UInt8 := dkwX24_most_4 ++ dktX24_most_5
def dkwX24_most_3 : List UInt8 := [58, 6, 3, 54, 7, 21, 7, 4, 29, 120, 162, 0, 28, 25, 6, 21, 7, 42, 25, 5, 21, 7, 44, 4]
abbrev dktX24_most_3 : List UInt8 := dkwX24_most_3 ++ dktX24_most_4
def dkwX24_most_2 : List UInt8 := [46, 42, 180, 0, 28, 27, 21, 7, 96, 46, 96, 79, 132, 6, 1, 167, 255, 213, 4, 29, 120, 188, 4]
abbrev dktX24_most_2 : List UInt8 := dkwX24_most_2 ++ dktX24_most_3
def dkwX24_most_1 : List UInt8 := [120, 162, 0, 41, 21, 6, 184, 0, 67, 54, 7, 25, 5, 21, 6, 25, 5, 21, 6, 21, 6, 4, 100, 126]
abbrev dktX24_most_1 : List UInt8 := dkwX24_most_1 ++ dktX24_most_2
def dkwX24_most_0 : List UInt8 := [42, 180, 0, 25, 27, 100, 62, 3, 54, 4, 4, 29, 120, 188, 10, 58, 5, 4, 54, 6, 21, 6, 4, 29]
abbrev dktX24_most_0 : List UInt8 := dkwX24_most_0 ++ dktX24_most_1
theorem dksX24_most_0 : cX24_most.data.toList.drop 0 = dktX24_most_0 := by decide +kernel
theorem dksX24_most_1 : cX24_most.data.toList.drop 24 = dktX24_most_1 := dk_seg dksX24_most_0 24 rfl rfl
theorem dksX24_most_2 : cX24_most.data.toList.drop 48 = dktX24_most_2 := dk_seg dksX24_most_1 24 rfl rfl
theorem dksX24_most_3 : cX24_most.data.toList.drop 71 = dktX24_most_3 := dk_seg dksX24_most_2 23 rfl rfl
theorem dksX24_most_4 : cX24_most.data.toList.drop 95 = dktX24_most_4 := dk_seg dksX24_most_3 24 rfl rfl
theorem dksX24_most_5 : cX24_most.data.toList.drop 117 = dktX24_most_5 := dk_seg dksX24_most_4 22 rfl rfl
theorem dksX24_most_6 : cX24_most.data.toList.drop 139 = dktX24_most_6 := dk_seg dksX24_most_5 22 rfl rfl
theorem dksX24_most_7 : cX24_most.data.toList.drop 161 = dktX24_most_7 := dk_seg dksX24_most_6 22 rfl rfl
theorem dksX24_most_8 : cX24_most.data.toList.drop 183 = dktX24_most_8 := dk_seg dksX24_most_7 22 rfl rfl
theorem dX24_most_0 : decode cX24_most 0 = .ok (.aload_n 0, 1) := dk_42 (dk_at dksX24_most_0 0 rfl rfl)
theorem dX24_most_1 : decode cX24_most 1 = .ok (.getfield 25, 3) := dk_180 0 25 (dk_at dksX24_most_0 1 rfl rfl)
theorem dX24_most_4 : decode cX24_most 4 = .ok (.iload_n 1, 1) := dk_27 (dk_at dksX24_most_0 4 rfl rfl)
theorem dX24_most_5 : decode cX24_most 5 = .ok (.isub, 1) := dk_100 (dk_at dksX24_most_0 5 rfl rfl)
theorem dX24_most_6 : decode cX24_most 6 = .ok (.istore_n 3, 1) := dk_62 (dk_at dksX24_most_0 6 rfl rfl)
theorem dX24_most_7 : decode cX24_most 7 = .ok (.iconst 0, 1) := dk_3 (dk_at dksX24_most_0 7 rfl rfl)
theorem dX24_most_8 : decode cX24_most 8 = .ok (.istore 4, 2) := dk_54 4 (dk_at dksX24_most_0 8 rfl rfl)
theorem dX24_most_10 : decode cX24_most 10 = .ok (.iconst 1, 1) := dk_4 (dk_at dksX24_most_0 10 rfl rfl)
theorem dX24_most_11 : decode cX24_most 11 = .ok (.iload_n 3, 1) := dk_29 (dk_at dksX24_most_0 11 rfl rfl)
theorem dX24_most_12 : decode cX24_most 12 = .ok (.ishl, 1) := dk_120 (dk_at dksX24_most_0 12 rfl rfl)
theorem dX24_most_13 : decode cX24_most 13 = .ok (.newarray .int, 2) := dk_188_10 (dk_at dksX24_most_0 13 rfl rfl)
theorem dX24_most_15 : decode cX24_most 15 = .ok (.astore 5, 2) := dk_58 5 (dk_at dksX24_most_0 15 rfl rfl)
theorem dX24_most_17 : decode cX24_most 17 = .ok (.iconst 1, 1) := dk_4 (dk_at dksX24_most_0 17 rfl rfl)
theorem dX24_most_18 : decode cX24_most 18 = .ok (.istore 6, 2) := dk_54 6 (dk_at dksX24_most_0 18 rfl rfl)
theorem dX24_most_20 : decode cX24_most 20 = .ok (.iload 6, 2) := dk_21 6 (dk_at dksX24_most_0 20 rfl rfl)
theorem dX24_most_22 : decode cX24_most 22 = .ok (.iconst 1, 1) := dk_4 (dk_at dksX24_most_0 22 rfl rfl)
theorem dX24_most_23 : decode cX24_most 23 = .ok (.iload_n 3, 1) := dk_29 (dk_at dksX24_most_0 23 rfl rfl)
theorem dX24_most_24 : decode cX24_most 24 = .ok (.ishl, 1) := dk_120 (dk_at dksX24_most_1 0 rfl rfl)
theorem dX24_most_25 : decode cX24_most 25 = .ok (.if_icmp .ge 41, 3) := dk_162 0 41 (dk_at dksX24_most_1 1 rfl rfl)
theorem dX24_most_28 : decode cX24_most 28 = .ok (.iload 6, 2) := dk_21 6 (dk_at dksX24_most_1 4 rfl rfl)
theorem dX24_most_30 : decode cX24_most 30 = .ok (.invokestatic 67, 3) := dk_184 0 67 (dk_at dksX24_most_1 6 rfl rfl)
theorem dX24_most_33 : decode cX24_most 33 = .ok (.istore 7, 2) := dk_54 7 (dk_at dksX24_most_1 9 rfl rfl)
theorem dX24_most_35 : decode cX24_most 35 = .ok (.aload 5, 2) := dk_25 5 (dk_at dksX24_most_1 11 rfl rfl)
theorem dX24_most_37 : decode cX24_most 37 = .ok (.iload 6, 2) := dk_21 6 (dk_at dksX24_most_1 13 rfl rfl)
theorem dX24_most_39 : decode cX24_most 39 = .ok (.aload 5, 2) := dk_25 5 (dk_at dksX24_most_1 15 rfl rfl)
theorem dX24_most_41 : decode cX24_most 41 = .ok (.iload 6, 2) := dk_21 6 (dk_at dksX24_most_1 17 rfl rfl)
theorem dX24_most_43 : decode cX24_most 43 = .ok (.iload 6, 2) := dk_21 6 (dk_at dksX24_most_1 19 rfl rfl)
theorem dX24_most_45 : decode cX24_most 45 = .ok (.iconst 1, 1) := dk_4 (dk_at dksX24_most_1 21 rfl rfl)
theorem dX24_most_46 : decode cX24_most 46 = .ok (.isub, 1) := dk_100 (dk_at dksX24_most_1 22 rfl rfl)
theorem dX24_most_47 : decode cX24_most 47 = .ok (.iand, 1) := dk_126 (dk_at dksX24_most_1 23 rfl rfl)
theorem dX24_most_48 : decode cX24_most 48 = .ok (.iaload, 1) := dk_46 (dk_at dksX24_most_2 0 rfl rfl)
theorem dX24_most_49 : decode cX24_most 49 = .ok (.aload_n 0, 1) := dk_42 (dk_at dksX24_most_2 1 rfl rfl)
theorem dX24_most_50 : decode cX24_most 50 = .ok (.getfield 28, 3) := dk_180 0 28 (dk_at dksX24_most_2 2 rfl rfl)
theorem dX24_most_53 : decode cX24_most 53 = .ok (.iload_n 1, 1) := dk_27 (dk_at dksX24_most_2 5 rfl rfl)
theorem dX24_most_54 : decode cX24_most 54 = .ok (.iload 7, 2) := dk_21 7 (dk_at dksX24_most_2 6 rfl rfl)
theorem dX24_most_56 : decode cX24_most 56 = .ok (.iadd, 1) := dk_96 (dk_at dksX24_most_2 8 rfl rfl)
theorem dX24_most_57 : decode cX24_most 57 = .ok (.iaload, 1) := dk_46 (dk_at dksX24_most_2 9 rfl rfl)
theorem dX24_most_58 : decode cX24_most 58 = .ok (.iadd, 1) := dk_96 (dk_at dksX24_most_2 10 rfl rfl)
theorem dX24_most_59 : decode cX24_most 59 = .ok (.iastore, 1) := dk_79 (dk_at dksX24_most_2 11 rfl rfl)
theorem dX24_most_60 : decode cX24_most 60 = .ok (.iinc 6 1, 3) := dk_132 6 1 (dk_at dksX24_most_2 12 rfl rfl)
theorem dX24_most_63 : decode cX24_most 63 = .ok (.goto (-43), 3) := dk_167 255 213 (dk_at dksX24_most_2 15 rfl rfl)
theorem dX24_most_66 : decode cX24_most 66 = .ok (.iconst 1, 1) := dk_4 (dk_at dksX24_most_2 18 rfl rfl)
theorem dX24_most_67 : decode cX24_most 67 = .ok (.iload_n 3, 1) := dk_29 (dk_at dksX24_most_2 19 rfl rfl)
theorem dX24_most_68 : decode cX24_most 68 = .ok (.ishl, 1) := dk_120 (dk_at dksX24_most_2 20 rfl rfl)
theorem dX24_most_69 : decode cX24_most 69 = .ok (.newarray .boolean, 2) := dk_188_4 (dk_at dksX24_most_2 21 rfl rfl)
theorem dX24_most_71 : decode cX24_most 71 = .ok (.astore 6, 2) := dk_58 6 (dk_at dksX24_most_3 0 rfl rfl)
theorem dX24_most_73 : decode cX24_most 73 = .ok (.iconst 0, 1) := dk_3 (dk_at dksX24_most_3 2 rfl rfl)
theorem dX24_most_74 : decode cX24_most 74 = .ok (.istore 7, 2) := dk_54 7 (dk_at dksX24_most_3 3 rfl rfl)
theorem dX24_most_76 : decode cX24_most 76 = .ok (.iload 7, 2) := dk_21 7 (dk_at dksX24_most_3 5 rfl rfl)
theorem dX24_most_78 : decode cX24_most 78 = .ok (.iconst 1, 1) := dk_4 (dk_at dksX24_most_3 7 rfl rfl)
theorem dX24_most_79 : decode cX24_most 79 = .ok (.iload_n 3, 1) := dk_29 (dk_at dksX24_most_3 8 rfl rfl)
theorem dX24_most_80 : decode cX24_most 80 = .ok (.ishl, 1) := dk_120 (dk_at dksX24_most_3 9 rfl rfl)
theorem dX24_most_81 : decode cX24_most 81 = .ok (.if_icmp .ge 28, 3) := dk_162 0 28 (dk_at dksX24_most_3 10 rfl rfl)
theorem dX24_most_84 : decode cX24_most 84 = .ok (.aload 6, 2) := dk_25 6 (dk_at dksX24_most_3 13 rfl rfl)
theorem dX24_most_86 : decode cX24_most 86 = .ok (.iload 7, 2) := dk_21 7 (dk_at dksX24_most_3 15 rfl rfl)
theorem dX24_most_88 : decode cX24_most 88 = .ok (.aload_n 0, 1) := dk_42 (dk_at dksX24_most_3 17 rfl rfl)
theorem dX24_most_89 : decode cX24_most 89 = .ok (.aload 5, 2) := dk_25 5 (dk_at dksX24_most_3 18 rfl rfl)
theorem dX24_most_91 : decode cX24_most 91 = .ok (.iload 7, 2) := dk_21 7 (dk_at dksX24_most_3 20 rfl rfl)
theorem dX24_most_93 : decode cX24_most 93 = .ok (.aload_n 2, 1) := dk_44 (dk_at dksX24_most_3 22 rfl rfl)
theorem dX24_most_94 : decode cX24_most 94 = .ok (.iconst 1, 1) := dk_4 (dk_at dksX24_most_3 23 rfl rfl)
theorem dX24_most_95 : decode cX24_most 95 = .ok (.iaload, 1) := dk_46 (dk_at dksX24_most_4 0 rfl rfl)
theorem dX24_most_96 : decode cX24_most 96 = .ok (.aload_n 2, 1) := dk_44 (dk_at dksX24_most_4 1 rfl rfl)
theorem dX24_most_97 : decode cX24_most 97 = .ok (.iconst 2, 1) := dk_5 (dk_at dksX24_most_4 2 rfl rfl)
theorem dX24_most_98 : decode cX24_most 98 = .ok (.iaload, 1) := dk_46 (dk_at dksX24_most_4 3 rfl rfl)
theorem dX24_most_99 : decode cX24_most 99 = .ok (.invokevirtual 73, 3) := dk_182 0 73 (dk_at dksX24_most_4 4 rfl rfl)
theorem dX24_most_102 : decode cX24_most 102 = .ok (.bastore, 1) := dk_84 (dk_at dksX24_most_4 7 rfl rfl)
theorem dX24_most_103 : decode cX24_most 103 = .ok (.iinc 7 1, 3) := dk_132 7 1 (dk_at dksX24_most_4 8 rfl rfl)
theorem dX24_most_106 : decode cX24_most 106 = .ok (.goto (-30), 3) := dk_167 255 226 (dk_at dksX24_most_4 11 rfl rfl)
theorem dX24_most_109 : decode cX24_most 109 = .ok (.iconst 0, 1) := dk_3 (dk_at dksX24_most_4 14 rfl rfl)
theorem dX24_most_110 : decode cX24_most 110 = .ok (.istore 7, 2) := dk_54 7 (dk_at dksX24_most_4 15 rfl rfl)
theorem dX24_most_112 : decode cX24_most 112 = .ok (.iload 7, 2) := dk_21 7 (dk_at dksX24_most_4 17 rfl rfl)
theorem dX24_most_114 : decode cX24_most 114 = .ok (.iconst 1, 1) := dk_4 (dk_at dksX24_most_4 19 rfl rfl)
theorem dX24_most_115 : decode cX24_most 115 = .ok (.iload_n 3, 1) := dk_29 (dk_at dksX24_most_4 20 rfl rfl)
theorem dX24_most_116 : decode cX24_most 116 = .ok (.ishl, 1) := dk_120 (dk_at dksX24_most_4 21 rfl rfl)
theorem dX24_most_117 : decode cX24_most 117 = .ok (.if_icmp .ge 87, 3) := dk_162 0 87 (dk_at dksX24_most_5 0 rfl rfl)
theorem dX24_most_120 : decode cX24_most 120 = .ok (.iload 7, 2) := dk_21 7 (dk_at dksX24_most_5 3 rfl rfl)
theorem dX24_most_122 : decode cX24_most 122 = .ok (.invokestatic 77, 3) := dk_184 0 77 (dk_at dksX24_most_5 5 rfl rfl)
theorem dX24_most_125 : decode cX24_most 125 = .ok (.iload 4, 2) := dk_21 4 (dk_at dksX24_most_5 8 rfl rfl)
theorem dX24_most_127 : decode cX24_most 127 = .ok (.if_icmp .gt 6, 3) := dk_163 0 6 (dk_at dksX24_most_5 10 rfl rfl)
theorem dX24_most_130 : decode cX24_most 130 = .ok (.goto 68, 3) := dk_167 0 68 (dk_at dksX24_most_5 13 rfl rfl)
theorem dX24_most_133 : decode cX24_most 133 = .ok (.iload 7, 2) := dk_21 7 (dk_at dksX24_most_5 16 rfl rfl)
theorem dX24_most_135 : decode cX24_most 135 = .ok (.istore 8, 2) := dk_54 8 (dk_at dksX24_most_5 18 rfl rfl)
theorem dX24_most_137 : decode cX24_most 137 = .ok (.iload 8, 2) := dk_21 8 (dk_at dksX24_most_5 20 rfl rfl)
theorem dX24_most_139 : decode cX24_most 139 = .ok (.ifCond .lt 59, 3) := dk_155 0 59 (dk_at dksX24_most_6 0 rfl rfl)
theorem dX24_most_142 : decode cX24_most 142 = .ok (.aload 5, 2) := dk_25 5 (dk_at dksX24_most_6 3 rfl rfl)
theorem dX24_most_144 : decode cX24_most 144 = .ok (.iload 8, 2) := dk_21 8 (dk_at dksX24_most_6 5 rfl rfl)
theorem dX24_most_146 : decode cX24_most 146 = .ok (.iaload, 1) := dk_46 (dk_at dksX24_most_6 7 rfl rfl)
theorem dX24_most_147 : decode cX24_most 147 = .ok (.aload_n 2, 1) := dk_44 (dk_at dksX24_most_6 8 rfl rfl)
theorem dX24_most_148 : decode cX24_most 148 = .ok (.iconst 0, 1) := dk_3 (dk_at dksX24_most_6 9 rfl rfl)
theorem dX24_most_149 : decode cX24_most 149 = .ok (.iaload, 1) := dk_46 (dk_at dksX24_most_6 10 rfl rfl)
theorem dX24_most_150 : decode cX24_most 150 = .ok (.if_icmp .gt 27, 3) := dk_163 0 27 (dk_at dksX24_most_6 11 rfl rfl)
theorem dX24_most_153 : decode cX24_most 153 = .ok (.aload 6, 2) := dk_25 6 (dk_at dksX24_most_6 14 rfl rfl)
theorem dX24_most_155 : decode cX24_most 155 = .ok (.iload 7, 2) := dk_21 7 (dk_at dksX24_most_6 16 rfl rfl)
theorem dX24_most_157 : decode cX24_most 157 = .ok (.iload 8, 2) := dk_21 8 (dk_at dksX24_most_6 18 rfl rfl)
theorem dX24_most_159 : decode cX24_most 159 = .ok (.ixor, 1) := dk_130 (dk_at dksX24_most_6 20 rfl rfl)
theorem dX24_most_160 : decode cX24_most 160 = .ok (.baload, 1) := dk_51 (dk_at dksX24_most_6 21 rfl rfl)
theorem dX24_most_161 : decode cX24_most 161 = .ok (.ifCond .ne 6, 3) := dk_154 0 6 (dk_at dksX24_most_7 0 rfl rfl)
theorem dX24_most_164 : decode cX24_most 164 = .ok (.goto 13, 3) := dk_167 0 13 (dk_at dksX24_most_7 3 rfl rfl)
theorem dX24_most_167 : decode cX24_most 167 = .ok (.iload 7, 2) := dk_21 7 (dk_at dksX24_most_7 6 rfl rfl)
theorem dX24_most_169 : decode cX24_most 169 = .ok (.invokestatic 77, 3) := dk_184 0 77 (dk_at dksX24_most_7 8 rfl rfl)
theorem dX24_most_172 : decode cX24_most 172 = .ok (.istore 4, 2) := dk_54 4 (dk_at dksX24_most_7 11 rfl rfl)
theorem dX24_most_174 : decode cX24_most 174 = .ok (.goto 24, 3) := dk_167 0 24 (dk_at dksX24_most_7 13 rfl rfl)
theorem dX24_most_177 : decode cX24_most 177 = .ok (.iload 8, 2) := dk_21 8 (dk_at dksX24_most_7 16 rfl rfl)
theorem dX24_most_179 : decode cX24_most 179 = .ok (.ifCond .ne 7, 3) := dk_154 0 7 (dk_at dksX24_most_7 18 rfl rfl)
theorem dX24_most_182 : decode cX24_most 182 = .ok (.iconst (-1), 1) := dk_2 (dk_at dksX24_most_7 21 rfl rfl)
theorem dX24_most_183 : decode cX24_most 183 = .ok (.goto 10, 3) := dk_167 0 10 (dk_at dksX24_most_8 0 rfl rfl)
theorem dX24_most_186 : decode cX24_most 186 = .ok (.iload 8, 2) := dk_21 8 (dk_at dksX24_most_8 3 rfl rfl)
theorem dX24_most_188 : decode cX24_most 188 = .ok (.iconst 1, 1) := dk_4 (dk_at dksX24_most_8 5 rfl rfl)
theorem dX24_most_189 : decode cX24_most 189 = .ok (.isub, 1) := dk_100 (dk_at dksX24_most_8 6 rfl rfl)
theorem dX24_most_190 : decode cX24_most 190 = .ok (.iload 7, 2) := dk_21 7 (dk_at dksX24_most_8 7 rfl rfl)
theorem dX24_most_192 : decode cX24_most 192 = .ok (.iand, 1) := dk_126 (dk_at dksX24_most_8 9 rfl rfl)
theorem dX24_most_193 : decode cX24_most 193 = .ok (.istore 8, 2) := dk_54 8 (dk_at dksX24_most_8 10 rfl rfl)
theorem dX24_most_195 : decode cX24_most 195 = .ok (.goto (-58), 3) := dk_167 255 198 (dk_at dksX24_most_8 12 rfl rfl)
theorem dX24_most_198 : decode cX24_most 198 = .ok (.iinc 7 1, 3) := dk_132 7 1 (dk_at dksX24_most_8 15 rfl rfl)
theorem dX24_most_201 : decode cX24_most 201 = .ok (.goto (-89), 3) := dk_167 255 167 (dk_at dksX24_most_8 18 rfl rfl)
theorem dX24_most_204 : decode cX24_most 204 = .ok (.iload 4, 2) := dk_21 4 (dk_at dksX24_most_8 21 rfl rfl)
theorem dX24_most_206 : decode cX24_most 206 = .ok (.ireturn, 1) := dk_172 (dk_at dksX24_most_8 23 rfl rfl)
abbrev cX24_splits : ByteArray := prog_22_method_3_code
def yX24_splits : MethodName := ⟨RX24, "splits", "([IIII)Z"⟩
def dkwX24_splits_2 : List UInt8 := [167, 255, 213, 3, 172]
abbrev dktX24_splits_2 : List UInt8 := dkwX24_splits_2 ++ []
def dkwX24_splits_1 : List UInt8 := [163, 0, 5, 4, 172, 21, 5, 154, 0, 7, 2, 167, 0, 9, 21, 5, 4, 100, 28, 126, 54, 5]
abbrev dktX24_splits_1 : List UInt8 := dkwX24_splits_1 ++ dktX24_splits_2
def dkwX24_splits_0 : List UInt8 := [28, 54, 5, 21, 5, 155, 0, 44, 43, 21, 5, 46, 29, 163, 0, 16, 43, 28, 21, 5, 130, 46, 21, 4]
abbrev dktX24_splits_0 : List UInt8 := dkwX24_splits_0 ++ dktX24_splits_1
theorem dksX24_splits_0 : cX24_splits.data.toList.drop 0 = dktX24_splits_0 := by decide +kernel
theorem dksX24_splits_1 : cX24_splits.data.toList.drop 24 = dktX24_splits_1 := dk_seg dksX24_splits_0 24 rfl rfl
theorem dksX24_splits_2 : cX24_splits.data.toList.drop 46 = dktX24_splits_2 := dk_seg dksX24_splits_1 22 rfl rfl
theorem dX24_splits_0 : decode cX24_splits 0 = .ok (.iload_n 2, 1) := dk_28 (dk_at dksX24_splits_0 0 rfl rfl)
theorem dX24_splits_1 : decode cX24_splits 1 = .ok (.istore 5, 2) := dk_54 5 (dk_at dksX24_splits_0 1 rfl rfl)
theorem dX24_splits_3 : decode cX24_splits 3 = .ok (.iload 5, 2) := dk_21 5 (dk_at dksX24_splits_0 3 rfl rfl)
theorem dX24_splits_5 : decode cX24_splits 5 = .ok (.ifCond .lt 44, 3) := dk_155 0 44 (dk_at dksX24_splits_0 5 rfl rfl)
theorem dX24_splits_8 : decode cX24_splits 8 = .ok (.aload_n 1, 1) := dk_43 (dk_at dksX24_splits_0 8 rfl rfl)
theorem dX24_splits_9 : decode cX24_splits 9 = .ok (.iload 5, 2) := dk_21 5 (dk_at dksX24_splits_0 9 rfl rfl)
theorem dX24_splits_11 : decode cX24_splits 11 = .ok (.iaload, 1) := dk_46 (dk_at dksX24_splits_0 11 rfl rfl)
theorem dX24_splits_12 : decode cX24_splits 12 = .ok (.iload_n 3, 1) := dk_29 (dk_at dksX24_splits_0 12 rfl rfl)
theorem dX24_splits_13 : decode cX24_splits 13 = .ok (.if_icmp .gt 16, 3) := dk_163 0 16 (dk_at dksX24_splits_0 13 rfl rfl)
theorem dX24_splits_16 : decode cX24_splits 16 = .ok (.aload_n 1, 1) := dk_43 (dk_at dksX24_splits_0 16 rfl rfl)
theorem dX24_splits_17 : decode cX24_splits 17 = .ok (.iload_n 2, 1) := dk_28 (dk_at dksX24_splits_0 17 rfl rfl)
theorem dX24_splits_18 : decode cX24_splits 18 = .ok (.iload 5, 2) := dk_21 5 (dk_at dksX24_splits_0 18 rfl rfl)
theorem dX24_splits_20 : decode cX24_splits 20 = .ok (.ixor, 1) := dk_130 (dk_at dksX24_splits_0 20 rfl rfl)
theorem dX24_splits_21 : decode cX24_splits 21 = .ok (.iaload, 1) := dk_46 (dk_at dksX24_splits_0 21 rfl rfl)
theorem dX24_splits_22 : decode cX24_splits 22 = .ok (.iload 4, 2) := dk_21 4 (dk_at dksX24_splits_0 22 rfl rfl)
theorem dX24_splits_24 : decode cX24_splits 24 = .ok (.if_icmp .gt 5, 3) := dk_163 0 5 (dk_at dksX24_splits_1 0 rfl rfl)
theorem dX24_splits_27 : decode cX24_splits 27 = .ok (.iconst 1, 1) := dk_4 (dk_at dksX24_splits_1 3 rfl rfl)
theorem dX24_splits_28 : decode cX24_splits 28 = .ok (.ireturn, 1) := dk_172 (dk_at dksX24_splits_1 4 rfl rfl)
theorem dX24_splits_29 : decode cX24_splits 29 = .ok (.iload 5, 2) := dk_21 5 (dk_at dksX24_splits_1 5 rfl rfl)
theorem dX24_splits_31 : decode cX24_splits 31 = .ok (.ifCond .ne 7, 3) := dk_154 0 7 (dk_at dksX24_splits_1 7 rfl rfl)
theorem dX24_splits_34 : decode cX24_splits 34 = .ok (.iconst (-1), 1) := dk_2 (dk_at dksX24_splits_1 10 rfl rfl)
theorem dX24_splits_35 : decode cX24_splits 35 = .ok (.goto 9, 3) := dk_167 0 9 (dk_at dksX24_splits_1 11 rfl rfl)
theorem dX24_splits_38 : decode cX24_splits 38 = .ok (.iload 5, 2) := dk_21 5 (dk_at dksX24_splits_1 14 rfl rfl)
theorem dX24_splits_40 : decode cX24_splits 40 = .ok (.iconst 1, 1) := dk_4 (dk_at dksX24_splits_1 16 rfl rfl)
theorem dX24_splits_41 : decode cX24_splits 41 = .ok (.isub, 1) := dk_100 (dk_at dksX24_splits_1 17 rfl rfl)
theorem dX24_splits_42 : decode cX24_splits 42 = .ok (.iload_n 2, 1) := dk_28 (dk_at dksX24_splits_1 18 rfl rfl)
theorem dX24_splits_43 : decode cX24_splits 43 = .ok (.iand, 1) := dk_126 (dk_at dksX24_splits_1 19 rfl rfl)
theorem dX24_splits_44 : decode cX24_splits 44 = .ok (.istore 5, 2) := dk_54 5 (dk_at dksX24_splits_1 20 rfl rfl)
theorem dX24_splits_46 : decode cX24_splits 46 = .ok (.goto (-43), 3) := dk_167 255 213 (dk_at dksX24_splits_2 0 rfl rfl)
theorem dX24_splits_49 : decode cX24_splits 49 = .ok (.iconst 0, 1) := dk_3 (dk_at dksX24_splits_2 3 rfl rfl)
theorem dX24_splits_50 : decode cX24_splits 50 = .ok (.ireturn, 1) := dk_172 (dk_at dksX24_splits_2 4 rfl rfl)
theorem q162 : (Jvm.Cond.initialized "ExamSlips$Sharing") ∈ lw_all := lw_g (lw_at lw_m1 39 rfl) rfl
theorem q212 : (Jvm.Cond.fieldLinkNest "ExamSlips$Sharing" (39 : Nat) "ExamSlips$Exam" "questions" "Ljava/util/ArrayList;" "ExamSlips") ∈ lw_tbl := lw_at lw_m1 89 rfl
theorem q227 : (Jvm.Cond.fieldLinkNest "ExamSlips$Sharing" (57 : Nat) "ExamSlips$Exam" "friends" "[I" "ExamSlips") ∈ lw_tbl := lw_at lw_m1 104 rfl
theorem q291 : (Jvm.Cond.fieldLinkNest "ExamSlips$Sharing" (35 : Nat) "ExamSlips" "exam" "LExamSlips$Exam;" "ExamSlips") ∈ lw_tbl := lw_at lw_m1 168 rfl
theorem q463 : (Jvm.Cond.selects "ExamSlips$Sharing" ({ cls := "java/lang/Object", name := "getClass", desc := "()Ljava/lang/Class;" } : Jvm.MethodName) ({ cls := "java/lang/Object", name := "getClass", desc := "()Ljava/lang/Class;" } : Jvm.MethodName)) ∈ lw_all := lw_g (lw_at lw_m2 100 rfl) rfl
theorem q1394 : (Jvm.Cond.instantiable "ExamSlips$Sharing" (5 : Nat)) ∈ lw_all := lw_g (lw_at lw_m6 71 rfl) rfl
theorem q1396 : (Jvm.Cond.instanceMethod ({ cls := "ExamSlips$Sharing", name := "<init>", desc := "(LExamSlips;)V" } : Jvm.MethodName)) ∈ lw_all := lw_g (lw_at lw_m6 73 rfl) rfl
theorem q1397 : (Jvm.Cond.code ({ cls := "ExamSlips$Sharing", name := "<init>", desc := "(LExamSlips;)V" } : Jvm.MethodName) prog_22_method_1_code (6 : Nat) (Option.none : Option Jvm.ClassFile.FieldType)) ∈ lw_all := lw_g (lw_at lw_m6 74 rfl) rfl
theorem q1398 : (Jvm.Cond.methodLink "ExamSlips$Sharing" (9 : Nat) ({ cls := "java/lang/Object", name := "<init>", desc := "()V" } : Jvm.MethodName)) ∈ lw_all := lw_g (lw_at lw_m6 75 rfl) rfl
theorem q1399 : (Jvm.Cond.methodLinkNest "ExamSlips$Sharing" (15 : Nat) ({ cls := "ExamSlips", name := "many", desc := "()I" } : Jvm.MethodName) "ExamSlips") ∈ lw_tbl := lw_at lw_m6 76 rfl
theorem q1400 : (Jvm.Cond.methodLink "ExamSlips$Sharing" (19 : Nat) ({ cls := "java/lang/Math", name := "min", desc := "(II)I" } : Jvm.MethodName)) ∈ lw_all := lw_g (lw_at lw_m6 77 rfl) rfl
theorem q1401 : (Jvm.Cond.methodLink "ExamSlips$Sharing" (45 : Nat) ({ cls := "java/util/ArrayList", name := "get", desc := "(I)Ljava/lang/Object;" } : Jvm.MethodName)) ∈ lw_all := lw_g (lw_at lw_m6 78 rfl) rfl
theorem q1402 : (Jvm.Cond.classLink "ExamSlips$Sharing" (51 : Nat) "ExamSlips$Question") ∈ lw_all := lw_g (lw_at lw_m6 79 rfl) rfl
theorem q1403 : (Jvm.Cond.methodLinkNest "ExamSlips$Sharing" (53 : Nat) ({ cls := "ExamSlips", name := "takes", desc := "(LExamSlips$Question;III)I" } : Jvm.MethodName) "ExamSlips") ∈ lw_tbl := lw_at lw_m6 80 rfl
theorem q1404 : (Jvm.Cond.methodLink "ExamSlips$Sharing" (60 : Nat) ({ cls := "ExamSlips$Sharing", name := "most", desc := "(I[I)I" } : Jvm.MethodName)) ∈ lw_all := lw_g (lw_at lw_m6 81 rfl) rfl
theorem q1405 : (Jvm.Cond.privateMethod ({ cls := "ExamSlips$Sharing", name := "most", desc := "(I[I)I" } : Jvm.MethodName)) ∈ lw_tbl := lw_at lw_m6 82 rfl
theorem q1406 : (Jvm.Cond.instanceMethod ({ cls := "ExamSlips$Sharing", name := "most", desc := "(I[I)I" } : Jvm.MethodName)) ∈ lw_all := lw_g (lw_at lw_m6 83 rfl) rfl
theorem q1407 : (Jvm.Cond.code ({ cls := "ExamSlips$Sharing", name := "most", desc := "(I[I)I" } : Jvm.MethodName) prog_22_method_2_code (9 : Nat) (Option.some Jvm.ClassFile.FieldType.int)) ∈ lw_all := lw_g (lw_at lw_m6 84 rfl) rfl
theorem q1408 : (Jvm.Cond.methodLink "ExamSlips$Sharing" (67 : Nat) ({ cls := "java/lang/Integer", name := "numberOfTrailingZeros", desc := "(I)I" } : Jvm.MethodName)) ∈ lw_all := lw_g (lw_at lw_m6 85 rfl) rfl
theorem q1412 : (Jvm.Cond.methodLink "ExamSlips$Sharing" (73 : Nat) ({ cls := "ExamSlips$Sharing", name := "splits", desc := "([IIII)Z" } : Jvm.MethodName)) ∈ lw_all := lw_g (lw_at lw_m6 89 rfl) rfl
theorem q1413 : (Jvm.Cond.privateMethod ({ cls := "ExamSlips$Sharing", name := "splits", desc := "([IIII)Z" } : Jvm.MethodName)) ∈ lw_tbl := lw_at lw_m6 90 rfl
theorem q1414 : (Jvm.Cond.instanceMethod ({ cls := "ExamSlips$Sharing", name := "splits", desc := "([IIII)Z" } : Jvm.MethodName)) ∈ lw_all := lw_g (lw_at lw_m6 91 rfl) rfl
theorem q1415 : (Jvm.Cond.code ({ cls := "ExamSlips$Sharing", name := "splits", desc := "([IIII)Z" } : Jvm.MethodName) prog_22_method_3_code (6 : Nat) (Option.some Jvm.ClassFile.FieldType.boolean)) ∈ lw_all := lw_g (lw_at lw_m6 92 rfl) rfl
theorem q1416 : (Jvm.Cond.methodLink "ExamSlips$Sharing" (77 : Nat) ({ cls := "java/lang/Integer", name := "bitCount", desc := "(I)I" } : Jvm.MethodName)) ∈ lw_all := lw_g (lw_at lw_m6 93 rfl) rfl
theorem q1422 : (Jvm.Cond.fieldLink "ExamSlips$Sharing" (25 : Nat) "ExamSlips$Sharing" "many" "I") ∈ lw_all := lw_g (lw_at lw_m6 99 rfl) rfl
theorem q1424 : (Jvm.Cond.fieldLink "ExamSlips$Sharing" (28 : Nat) "ExamSlips$Sharing" "costs" "[I") ∈ lw_all := lw_g (lw_at lw_m6 101 rfl) rfl
theorem q1425 : (Jvm.Cond.fieldLink "ExamSlips$Sharing" (32 : Nat) "ExamSlips$Sharing" "who" "[I") ∈ lw_all := lw_g (lw_at lw_m6 102 rfl) rfl
theorem q1427 : (Jvm.Cond.fieldLink "ExamSlips$Sharing" (64 : Nat) "ExamSlips$Sharing" "all" "I") ∈ lw_all := lw_g (lw_at lw_m6 104 rfl) rfl
theorem q1429 : (Jvm.Cond.fieldLink "ExamSlips$Sharing" (3 : Nat) "ExamSlips$Sharing" "this$0" "LExamSlips;") ∈ lw_all := lw_g (lw_at lw_m6 106 rfl) rfl
theorem q1430 : (Jvm.Cond.laysFinal "ExamSlips$Sharing" "ExamSlips$Sharing" "many" "I") ∈ lw_all := lw_g (lw_at lw_m6 107 rfl) rfl
theorem q1431 : (Jvm.Cond.soleField "ExamSlips$Sharing" "many") ∈ lw_all := lw_g (lw_at lw_m6 108 rfl) rfl
theorem q1432 : (Jvm.Cond.laysFinal "ExamSlips$Sharing" "ExamSlips$Sharing" "costs" "[I") ∈ lw_all := lw_g (lw_at lw_m6 109 rfl) rfl
theorem q1433 : (Jvm.Cond.soleField "ExamSlips$Sharing" "costs") ∈ lw_all := lw_g (lw_at lw_m6 110 rfl) rfl
theorem q1434 : (Jvm.Cond.laysFinal "ExamSlips$Sharing" "ExamSlips$Sharing" "who" "[I") ∈ lw_all := lw_g (lw_at lw_m6 111 rfl) rfl
theorem q1435 : (Jvm.Cond.soleField "ExamSlips$Sharing" "who") ∈ lw_all := lw_g (lw_at lw_m6 112 rfl) rfl
theorem q1436 : (Jvm.Cond.lays "ExamSlips$Sharing" "ExamSlips$Sharing" "all" "I") ∈ lw_all := lw_g (lw_at lw_m6 113 rfl) rfl
theorem q1437 : (Jvm.Cond.soleField "ExamSlips$Sharing" "all") ∈ lw_all := lw_g (lw_at lw_m6 114 rfl) rfl
theorem q1438 : (Jvm.Cond.laysFinal "ExamSlips$Sharing" "ExamSlips$Sharing" "this$0" "LExamSlips;") ∈ lw_all := lw_g (lw_at lw_m6 115 rfl) rfl
theorem q1439 : (Jvm.Cond.soleField "ExamSlips$Sharing" "this$0") ∈ lw_all := lw_g (lw_at lw_m6 116 rfl) rfl
theorem q1440 : (Jvm.Cond.superclass "ExamSlips$Sharing" "java/lang/Object") ∈ lw_all := lw_g (lw_at lw_m6 117 rfl) rfl
theorem q2398 : (Jvm.Cond.castable "ExamSlips$Sharing" "java/lang/Object") ∈ lw_tbl := lw_at lw_m10 115 rfl
theorem in_X24 : ∀ w ∈ wsX240, w ∈ lw_all := lw_in wsX240 [1430, 1432, 1434, 1436, 1438] (by decide +kernel) (by decide +kernel)

/-! ExamSlips$Huge -/
set_option maxRecDepth 100000
def RX25 : String := "ExamSlips$Huge"
def TX25 : u_T := fun k => match k with
  | _ => ("ExamSlips$Huge", "places", "[I", true)
def tyX25 : Nat → FieldType := fun k => match k with
  | _ => .array .int
abbrev wsX250 : List Cond := u_ws RX25 TX25 1
theorem nmX25 : ∀ a, a < 1 → ∀ b, b < 1 → a ≠ b → (TX25 a).2.1 ≠ (TX25 b).2.1 := by decide +kernel
theorem tyX25_ok : ∀ k, k < 1 → parseFieldDescriptor (TX25 k).2.2.1 = some (tyX25 k) := by decide +kernel
abbrev cX25_init : ByteArray := prog_11_method_1_code
def yX25_init : MethodName := ⟨RX25, "<init>", "(I)V"⟩
def dkwX25_init_0 : List UInt8 := [42, 183, 0, 1, 42, 16, 20, 188, 10, 181, 0, 7, 42, 180, 0, 7, 3, 27, 79, 177]
abbrev dktX25_init_0 : List UInt8 := dkwX25_init_0 ++ []
theorem dksX25_init_0 : cX25_init.data.toList.drop 0 = dktX25_init_0 := by decide +kernel
theorem dX25_init_0 : decode cX25_init 0 = .ok (.aload_n 0, 1) := dk_42 (dk_at dksX25_init_0 0 rfl rfl)
theorem dX25_init_1 : decode cX25_init 1 = .ok (.invokespecial 1, 3) := dk_183 0 1 (dk_at dksX25_init_0 1 rfl rfl)
theorem dX25_init_4 : decode cX25_init 4 = .ok (.aload_n 0, 1) := dk_42 (dk_at dksX25_init_0 4 rfl rfl)
theorem dX25_init_5 : decode cX25_init 5 = .ok (.bipush 20, 2) := dk_16 20 (dk_at dksX25_init_0 5 rfl rfl)
theorem dX25_init_7 : decode cX25_init 7 = .ok (.newarray .int, 2) := dk_188_10 (dk_at dksX25_init_0 7 rfl rfl)
theorem dX25_init_9 : decode cX25_init 9 = .ok (.putfield 7, 3) := dk_181 0 7 (dk_at dksX25_init_0 9 rfl rfl)
theorem dX25_init_12 : decode cX25_init 12 = .ok (.aload_n 0, 1) := dk_42 (dk_at dksX25_init_0 12 rfl rfl)
theorem dX25_init_13 : decode cX25_init 13 = .ok (.getfield 7, 3) := dk_180 0 7 (dk_at dksX25_init_0 13 rfl rfl)
theorem dX25_init_16 : decode cX25_init 16 = .ok (.iconst 0, 1) := dk_3 (dk_at dksX25_init_0 16 rfl rfl)
theorem dX25_init_17 : decode cX25_init 17 = .ok (.iload_n 1, 1) := dk_27 (dk_at dksX25_init_0 17 rfl rfl)
theorem dX25_init_18 : decode cX25_init 18 = .ok (.iastore, 1) := dk_79 (dk_at dksX25_init_0 18 rfl rfl)
theorem dX25_init_19 : decode cX25_init 19 = .ok (.return_, 1) := dk_177 (dk_at dksX25_init_0 19 rfl rfl)
abbrev cX25_times : ByteArray := prog_11_method_3_code
def yX25_times : MethodName := ⟨RX25, "times", "(I)LExamSlips$Huge;"⟩
def dkwX25_times_2 : List UInt8 := [20, 0, 19, 109, 65, 132, 4, 1, 167, 255, 207, 42, 176]
abbrev dktX25_times_2 : List UInt8 := dkwX25_times_2 ++ []
def dkwX25_times_1 : List UInt8 := [133, 105, 32, 97, 55, 5, 42, 180, 0, 7, 21, 4, 22, 5, 20, 0, 19, 113, 136, 79, 22, 5]
abbrev dktX25_times_1 : List UInt8 := dkwX25_times_1 ++ dktX25_times_2
def dkwX25_times_0 : List UInt8 := [9, 65, 3, 54, 4, 21, 4, 42, 180, 0, 7, 190, 162, 0, 45, 42, 180, 0, 7, 21, 4, 46, 133, 27]
abbrev dktX25_times_0 : List UInt8 := dkwX25_times_0 ++ dktX25_times_1
theorem dksX25_times_0 : cX25_times.data.toList.drop 0 = dktX25_times_0 := by decide +kernel
theorem dksX25_times_1 : cX25_times.data.toList.drop 24 = dktX25_times_1 := dk_seg dksX25_times_0 24 rfl rfl
theorem dksX25_times_2 : cX25_times.data.toList.drop 46 = dktX25_times_2 := dk_seg dksX25_times_1 22 rfl rfl
theorem dX25_times_0 : decode cX25_times 0 = .ok (.lconst 0, 1) := dk_9 (dk_at dksX25_times_0 0 rfl rfl)
theorem dX25_times_1 : decode cX25_times 1 = .ok (.lstore_n 2, 1) := dk_65 (dk_at dksX25_times_0 1 rfl rfl)
theorem dX25_times_2 : decode cX25_times 2 = .ok (.iconst 0, 1) := dk_3 (dk_at dksX25_times_0 2 rfl rfl)
theorem dX25_times_3 : decode cX25_times 3 = .ok (.istore 4, 2) := dk_54 4 (dk_at dksX25_times_0 3 rfl rfl)
theorem dX25_times_5 : decode cX25_times 5 = .ok (.iload 4, 2) := dk_21 4 (dk_at dksX25_times_0 5 rfl rfl)
theorem dX25_times_7 : decode cX25_times 7 = .ok (.aload_n 0, 1) := dk_42 (dk_at dksX25_times_0 7 rfl rfl)
theorem dX25_times_8 : decode cX25_times 8 = .ok (.getfield 7, 3) := dk_180 0 7 (dk_at dksX25_times_0 8 rfl rfl)
theorem dX25_times_11 : decode cX25_times 11 = .ok (.arraylength, 1) := dk_190 (dk_at dksX25_times_0 11 rfl rfl)
theorem dX25_times_12 : decode cX25_times 12 = .ok (.if_icmp .ge 45, 3) := dk_162 0 45 (dk_at dksX25_times_0 12 rfl rfl)
theorem dX25_times_15 : decode cX25_times 15 = .ok (.aload_n 0, 1) := dk_42 (dk_at dksX25_times_0 15 rfl rfl)
theorem dX25_times_16 : decode cX25_times 16 = .ok (.getfield 7, 3) := dk_180 0 7 (dk_at dksX25_times_0 16 rfl rfl)
theorem dX25_times_19 : decode cX25_times 19 = .ok (.iload 4, 2) := dk_21 4 (dk_at dksX25_times_0 19 rfl rfl)
theorem dX25_times_21 : decode cX25_times 21 = .ok (.iaload, 1) := dk_46 (dk_at dksX25_times_0 21 rfl rfl)
theorem dX25_times_22 : decode cX25_times 22 = .ok (.i2l, 1) := dk_133 (dk_at dksX25_times_0 22 rfl rfl)
theorem dX25_times_23 : decode cX25_times 23 = .ok (.iload_n 1, 1) := dk_27 (dk_at dksX25_times_0 23 rfl rfl)
theorem dX25_times_24 : decode cX25_times 24 = .ok (.i2l, 1) := dk_133 (dk_at dksX25_times_1 0 rfl rfl)
theorem dX25_times_25 : decode cX25_times 25 = .ok (.lmul, 1) := dk_105 (dk_at dksX25_times_1 1 rfl rfl)
theorem dX25_times_26 : decode cX25_times 26 = .ok (.lload_n 2, 1) := dk_32 (dk_at dksX25_times_1 2 rfl rfl)
theorem dX25_times_27 : decode cX25_times 27 = .ok (.ladd, 1) := dk_97 (dk_at dksX25_times_1 3 rfl rfl)
theorem dX25_times_28 : decode cX25_times 28 = .ok (.lstore 5, 2) := dk_55 5 (dk_at dksX25_times_1 4 rfl rfl)
theorem dX25_times_30 : decode cX25_times 30 = .ok (.aload_n 0, 1) := dk_42 (dk_at dksX25_times_1 6 rfl rfl)
theorem dX25_times_31 : decode cX25_times 31 = .ok (.getfield 7, 3) := dk_180 0 7 (dk_at dksX25_times_1 7 rfl rfl)
theorem dX25_times_34 : decode cX25_times 34 = .ok (.iload 4, 2) := dk_21 4 (dk_at dksX25_times_1 10 rfl rfl)
theorem dX25_times_36 : decode cX25_times 36 = .ok (.lload 5, 2) := dk_22 5 (dk_at dksX25_times_1 12 rfl rfl)
theorem dX25_times_38 : decode cX25_times 38 = .ok (.ldc2_w 19, 3) := dk_20 0 19 (dk_at dksX25_times_1 14 rfl rfl)
theorem dX25_times_41 : decode cX25_times 41 = .ok (.lrem, 1) := dk_113 (dk_at dksX25_times_1 17 rfl rfl)
theorem dX25_times_42 : decode cX25_times 42 = .ok (.l2i, 1) := dk_136 (dk_at dksX25_times_1 18 rfl rfl)
theorem dX25_times_43 : decode cX25_times 43 = .ok (.iastore, 1) := dk_79 (dk_at dksX25_times_1 19 rfl rfl)
theorem dX25_times_44 : decode cX25_times 44 = .ok (.lload 5, 2) := dk_22 5 (dk_at dksX25_times_1 20 rfl rfl)
theorem dX25_times_46 : decode cX25_times 46 = .ok (.ldc2_w 19, 3) := dk_20 0 19 (dk_at dksX25_times_2 0 rfl rfl)
theorem dX25_times_49 : decode cX25_times 49 = .ok (.ldiv, 1) := dk_109 (dk_at dksX25_times_2 3 rfl rfl)
theorem dX25_times_50 : decode cX25_times 50 = .ok (.lstore_n 2, 1) := dk_65 (dk_at dksX25_times_2 4 rfl rfl)
theorem dX25_times_51 : decode cX25_times 51 = .ok (.iinc 4 1, 3) := dk_132 4 1 (dk_at dksX25_times_2 5 rfl rfl)
theorem dX25_times_54 : decode cX25_times 54 = .ok (.goto (-49), 3) := dk_167 255 207 (dk_at dksX25_times_2 8 rfl rfl)
theorem dX25_times_57 : decode cX25_times 57 = .ok (.aload_n 0, 1) := dk_42 (dk_at dksX25_times_2 11 rfl rfl)
theorem dX25_times_58 : decode cX25_times 58 = .ok (.areturn, 1) := dk_176 (dk_at dksX25_times_2 12 rfl rfl)
abbrev cX25_init_2 : ByteArray := prog_11_method_2_code
def yX25_init_2 : MethodName := ⟨RX25, "<init>", "(LExamSlips$Huge;)V"⟩
def dkwX25_init_2_1 : List UInt8 := [180, 0, 7, 190, 184, 0, 13, 177]
abbrev dktX25_init_2_1 : List UInt8 := dkwX25_init_2_1 ++ []
def dkwX25_init_2_0 : List UInt8 := [42, 183, 0, 1, 42, 16, 20, 188, 10, 181, 0, 7, 43, 180, 0, 7, 3, 42, 180, 0, 7, 3, 42]
abbrev dktX25_init_2_0 : List UInt8 := dkwX25_init_2_0 ++ dktX25_init_2_1
theorem dksX25_init_2_0 : cX25_init_2.data.toList.drop 0 = dktX25_init_2_0 := by decide +kernel
theorem dksX25_init_2_1 : cX25_init_2.data.toList.drop 23 = dktX25_init_2_1 := dk_seg dksX25_init_2_0 23 rfl rfl
theorem dX25_init_2_0 : decode cX25_init_2 0 = .ok (.aload_n 0, 1) := dk_42 (dk_at dksX25_init_2_0 0 rfl rfl)
theorem dX25_init_2_1 : decode cX25_init_2 1 = .ok (.invokespecial 1, 3) := dk_183 0 1 (dk_at dksX25_init_2_0 1 rfl rfl)
theorem dX25_init_2_4 : decode cX25_init_2 4 = .ok (.aload_n 0, 1) := dk_42 (dk_at dksX25_init_2_0 4 rfl rfl)
theorem dX25_init_2_5 : decode cX25_init_2 5 = .ok (.bipush 20, 2) := dk_16 20 (dk_at dksX25_init_2_0 5 rfl rfl)
theorem dX25_init_2_7 : decode cX25_init_2 7 = .ok (.newarray .int, 2) := dk_188_10 (dk_at dksX25_init_2_0 7 rfl rfl)
theorem dX25_init_2_9 : decode cX25_init_2 9 = .ok (.putfield 7, 3) := dk_181 0 7 (dk_at dksX25_init_2_0 9 rfl rfl)
theorem dX25_init_2_12 : decode cX25_init_2 12 = .ok (.aload_n 1, 1) := dk_43 (dk_at dksX25_init_2_0 12 rfl rfl)
theorem dX25_init_2_13 : decode cX25_init_2 13 = .ok (.getfield 7, 3) := dk_180 0 7 (dk_at dksX25_init_2_0 13 rfl rfl)
theorem dX25_init_2_16 : decode cX25_init_2 16 = .ok (.iconst 0, 1) := dk_3 (dk_at dksX25_init_2_0 16 rfl rfl)
theorem dX25_init_2_17 : decode cX25_init_2 17 = .ok (.aload_n 0, 1) := dk_42 (dk_at dksX25_init_2_0 17 rfl rfl)
theorem dX25_init_2_18 : decode cX25_init_2 18 = .ok (.getfield 7, 3) := dk_180 0 7 (dk_at dksX25_init_2_0 18 rfl rfl)
theorem dX25_init_2_21 : decode cX25_init_2 21 = .ok (.iconst 0, 1) := dk_3 (dk_at dksX25_init_2_0 21 rfl rfl)
theorem dX25_init_2_22 : decode cX25_init_2 22 = .ok (.aload_n 0, 1) := dk_42 (dk_at dksX25_init_2_0 22 rfl rfl)
theorem dX25_init_2_23 : decode cX25_init_2 23 = .ok (.getfield 7, 3) := dk_180 0 7 (dk_at dksX25_init_2_1 0 rfl rfl)
theorem dX25_init_2_26 : decode cX25_init_2 26 = .ok (.arraylength, 1) := dk_190 (dk_at dksX25_init_2_1 3 rfl rfl)
theorem dX25_init_2_27 : decode cX25_init_2 27 = .ok (.invokestatic 13, 3) := dk_184 0 13 (dk_at dksX25_init_2_1 4 rfl rfl)
theorem dX25_init_2_30 : decode cX25_init_2 30 = .ok (.return_, 1) := dk_177 (dk_at dksX25_init_2_1 7 rfl rfl)
abbrev cX25_plus : ByteArray := prog_11_method_4_code
def yX25_plus : MethodName := ⟨RX25, "plus", "(LExamSlips$Huge;)LExamSlips$Huge;"⟩
def dkwX25_plus_2 : List UInt8 := [61, 132, 3, 1, 167, 255, 208, 42, 176]
abbrev dktX25_plus_2 : List UInt8 := dkwX25_plus_2 ++ []
def dkwX25_plus_1 : List UInt8 := [46, 96, 28, 96, 54, 4, 42, 180, 0, 7, 29, 21, 4, 17, 39, 16, 112, 79, 21, 4, 17, 39, 16, 108]
abbrev dktX25_plus_1 : List UInt8 := dkwX25_plus_1 ++ dktX25_plus_2
def dkwX25_plus_0 : List UInt8 := [3, 61, 3, 62, 29, 42, 180, 0, 7, 190, 162, 0, 45, 42, 180, 0, 7, 29, 46, 43, 180, 0, 7, 29]
abbrev dktX25_plus_0 : List UInt8 := dkwX25_plus_0 ++ dktX25_plus_1
theorem dksX25_plus_0 : cX25_plus.data.toList.drop 0 = dktX25_plus_0 := by decide +kernel
theorem dksX25_plus_1 : cX25_plus.data.toList.drop 24 = dktX25_plus_1 := dk_seg dksX25_plus_0 24 rfl rfl
theorem dksX25_plus_2 : cX25_plus.data.toList.drop 48 = dktX25_plus_2 := dk_seg dksX25_plus_1 24 rfl rfl
theorem dX25_plus_0 : decode cX25_plus 0 = .ok (.iconst 0, 1) := dk_3 (dk_at dksX25_plus_0 0 rfl rfl)
theorem dX25_plus_1 : decode cX25_plus 1 = .ok (.istore_n 2, 1) := dk_61 (dk_at dksX25_plus_0 1 rfl rfl)
theorem dX25_plus_2 : decode cX25_plus 2 = .ok (.iconst 0, 1) := dk_3 (dk_at dksX25_plus_0 2 rfl rfl)
theorem dX25_plus_3 : decode cX25_plus 3 = .ok (.istore_n 3, 1) := dk_62 (dk_at dksX25_plus_0 3 rfl rfl)
theorem dX25_plus_4 : decode cX25_plus 4 = .ok (.iload_n 3, 1) := dk_29 (dk_at dksX25_plus_0 4 rfl rfl)
theorem dX25_plus_5 : decode cX25_plus 5 = .ok (.aload_n 0, 1) := dk_42 (dk_at dksX25_plus_0 5 rfl rfl)
theorem dX25_plus_6 : decode cX25_plus 6 = .ok (.getfield 7, 3) := dk_180 0 7 (dk_at dksX25_plus_0 6 rfl rfl)
theorem dX25_plus_9 : decode cX25_plus 9 = .ok (.arraylength, 1) := dk_190 (dk_at dksX25_plus_0 9 rfl rfl)
theorem dX25_plus_10 : decode cX25_plus 10 = .ok (.if_icmp .ge 45, 3) := dk_162 0 45 (dk_at dksX25_plus_0 10 rfl rfl)
theorem dX25_plus_13 : decode cX25_plus 13 = .ok (.aload_n 0, 1) := dk_42 (dk_at dksX25_plus_0 13 rfl rfl)
theorem dX25_plus_14 : decode cX25_plus 14 = .ok (.getfield 7, 3) := dk_180 0 7 (dk_at dksX25_plus_0 14 rfl rfl)
theorem dX25_plus_17 : decode cX25_plus 17 = .ok (.iload_n 3, 1) := dk_29 (dk_at dksX25_plus_0 17 rfl rfl)
theorem dX25_plus_18 : decode cX25_plus 18 = .ok (.iaload, 1) := dk_46 (dk_at dksX25_plus_0 18 rfl rfl)
theorem dX25_plus_19 : decode cX25_plus 19 = .ok (.aload_n 1, 1) := dk_43 (dk_at dksX25_plus_0 19 rfl rfl)
theorem dX25_plus_20 : decode cX25_plus 20 = .ok (.getfield 7, 3) := dk_180 0 7 (dk_at dksX25_plus_0 20 rfl rfl)
theorem dX25_plus_23 : decode cX25_plus 23 = .ok (.iload_n 3, 1) := dk_29 (dk_at dksX25_plus_0 23 rfl rfl)
theorem dX25_plus_24 : decode cX25_plus 24 = .ok (.iaload, 1) := dk_46 (dk_at dksX25_plus_1 0 rfl rfl)
theorem dX25_plus_25 : decode cX25_plus 25 = .ok (.iadd, 1) := dk_96 (dk_at dksX25_plus_1 1 rfl rfl)
theorem dX25_plus_26 : decode cX25_plus 26 = .ok (.iload_n 2, 1) := dk_28 (dk_at dksX25_plus_1 2 rfl rfl)
theorem dX25_plus_27 : decode cX25_plus 27 = .ok (.iadd, 1) := dk_96 (dk_at dksX25_plus_1 3 rfl rfl)
theorem dX25_plus_28 : decode cX25_plus 28 = .ok (.istore 4, 2) := dk_54 4 (dk_at dksX25_plus_1 4 rfl rfl)
theorem dX25_plus_30 : decode cX25_plus 30 = .ok (.aload_n 0, 1) := dk_42 (dk_at dksX25_plus_1 6 rfl rfl)
theorem dX25_plus_31 : decode cX25_plus 31 = .ok (.getfield 7, 3) := dk_180 0 7 (dk_at dksX25_plus_1 7 rfl rfl)
theorem dX25_plus_34 : decode cX25_plus 34 = .ok (.iload_n 3, 1) := dk_29 (dk_at dksX25_plus_1 10 rfl rfl)
theorem dX25_plus_35 : decode cX25_plus 35 = .ok (.iload 4, 2) := dk_21 4 (dk_at dksX25_plus_1 11 rfl rfl)
theorem dX25_plus_37 : decode cX25_plus 37 = .ok (.sipush 10000, 3) := dk_17 39 16 (dk_at dksX25_plus_1 13 rfl rfl)
theorem dX25_plus_40 : decode cX25_plus 40 = .ok (.irem, 1) := dk_112 (dk_at dksX25_plus_1 16 rfl rfl)
theorem dX25_plus_41 : decode cX25_plus 41 = .ok (.iastore, 1) := dk_79 (dk_at dksX25_plus_1 17 rfl rfl)
theorem dX25_plus_42 : decode cX25_plus 42 = .ok (.iload 4, 2) := dk_21 4 (dk_at dksX25_plus_1 18 rfl rfl)
theorem dX25_plus_44 : decode cX25_plus 44 = .ok (.sipush 10000, 3) := dk_17 39 16 (dk_at dksX25_plus_1 20 rfl rfl)
theorem dX25_plus_47 : decode cX25_plus 47 = .ok (.idiv, 1) := dk_108 (dk_at dksX25_plus_1 23 rfl rfl)
theorem dX25_plus_48 : decode cX25_plus 48 = .ok (.istore_n 2, 1) := dk_61 (dk_at dksX25_plus_2 0 rfl rfl)
theorem dX25_plus_49 : decode cX25_plus 49 = .ok (.iinc 3 1, 3) := dk_132 3 1 (dk_at dksX25_plus_2 1 rfl rfl)
theorem dX25_plus_52 : decode cX25_plus 52 = .ok (.goto (-48), 3) := dk_167 255 208 (dk_at dksX25_plus_2 4 rfl rfl)
theorem dX25_plus_55 : decode cX25_plus 55 = .ok (.aload_n 0, 1) := dk_42 (dk_at dksX25_plus_2 7 rfl rfl)
theorem dX25_plus_56 : decode cX25_plus 56 = .ok (.areturn, 1) := dk_176 (dk_at dksX25_plus_2 8 rfl rfl)
abbrev cX25_has : ByteArray := prog_11_method_6_code
def yX25_has : MethodName := ⟨RX25, "has", "(LExamSlips$Huge;I)I"⟩
def dkwX25_has_2 : List UInt8 := [167, 0, 9, 21, 5, 4, 100, 54, 4, 167, 255, 206, 29, 172]
abbrev dktX25_has_2 : List UInt8 := dkwX25_has_2 ++ []
def dkwX25_has_1 : List UInt8 := [187, 0, 8, 89, 43, 183, 0, 27, 21, 5, 182, 0, 30, 42, 182, 0, 34, 157, 0, 9, 21, 5, 62]
abbrev dktX25_has_1 : List UInt8 := dkwX25_has_1 ++ dktX25_has_2
def dkwX25_has_0 : List UInt8 := [3, 62, 28, 54, 4, 29, 21, 4, 162, 0, 50, 29, 21, 4, 29, 100, 4, 96, 5, 108, 96, 54, 5]
abbrev dktX25_has_0 : List UInt8 := dkwX25_has_0 ++ dktX25_has_1
theorem dksX25_has_0 : cX25_has.data.toList.drop 0 = dktX25_has_0 := by decide +kernel
theorem dksX25_has_1 : cX25_has.data.toList.drop 23 = dktX25_has_1 := dk_seg dksX25_has_0 23 rfl rfl
theorem dksX25_has_2 : cX25_has.data.toList.drop 46 = dktX25_has_2 := dk_seg dksX25_has_1 23 rfl rfl
theorem dX25_has_0 : decode cX25_has 0 = .ok (.iconst 0, 1) := dk_3 (dk_at dksX25_has_0 0 rfl rfl)
theorem dX25_has_1 : decode cX25_has 1 = .ok (.istore_n 3, 1) := dk_62 (dk_at dksX25_has_0 1 rfl rfl)
theorem dX25_has_2 : decode cX25_has 2 = .ok (.iload_n 2, 1) := dk_28 (dk_at dksX25_has_0 2 rfl rfl)
theorem dX25_has_3 : decode cX25_has 3 = .ok (.istore 4, 2) := dk_54 4 (dk_at dksX25_has_0 3 rfl rfl)
theorem dX25_has_5 : decode cX25_has 5 = .ok (.iload_n 3, 1) := dk_29 (dk_at dksX25_has_0 5 rfl rfl)
theorem dX25_has_6 : decode cX25_has 6 = .ok (.iload 4, 2) := dk_21 4 (dk_at dksX25_has_0 6 rfl rfl)
theorem dX25_has_8 : decode cX25_has 8 = .ok (.if_icmp .ge 50, 3) := dk_162 0 50 (dk_at dksX25_has_0 8 rfl rfl)
theorem dX25_has_11 : decode cX25_has 11 = .ok (.iload_n 3, 1) := dk_29 (dk_at dksX25_has_0 11 rfl rfl)
theorem dX25_has_12 : decode cX25_has 12 = .ok (.iload 4, 2) := dk_21 4 (dk_at dksX25_has_0 12 rfl rfl)
theorem dX25_has_14 : decode cX25_has 14 = .ok (.iload_n 3, 1) := dk_29 (dk_at dksX25_has_0 14 rfl rfl)
theorem dX25_has_15 : decode cX25_has 15 = .ok (.isub, 1) := dk_100 (dk_at dksX25_has_0 15 rfl rfl)
theorem dX25_has_16 : decode cX25_has 16 = .ok (.iconst 1, 1) := dk_4 (dk_at dksX25_has_0 16 rfl rfl)
theorem dX25_has_17 : decode cX25_has 17 = .ok (.iadd, 1) := dk_96 (dk_at dksX25_has_0 17 rfl rfl)
theorem dX25_has_18 : decode cX25_has 18 = .ok (.iconst 2, 1) := dk_5 (dk_at dksX25_has_0 18 rfl rfl)
theorem dX25_has_19 : decode cX25_has 19 = .ok (.idiv, 1) := dk_108 (dk_at dksX25_has_0 19 rfl rfl)
theorem dX25_has_20 : decode cX25_has 20 = .ok (.iadd, 1) := dk_96 (dk_at dksX25_has_0 20 rfl rfl)
theorem dX25_has_21 : decode cX25_has 21 = .ok (.istore 5, 2) := dk_54 5 (dk_at dksX25_has_0 21 rfl rfl)
theorem dX25_has_23 : decode cX25_has 23 = .ok (.new 8, 3) := dk_187 0 8 (dk_at dksX25_has_1 0 rfl rfl)
theorem dX25_has_26 : decode cX25_has 26 = .ok (.dup, 1) := dk_89 (dk_at dksX25_has_1 3 rfl rfl)
theorem dX25_has_27 : decode cX25_has 27 = .ok (.aload_n 1, 1) := dk_43 (dk_at dksX25_has_1 4 rfl rfl)
theorem dX25_has_28 : decode cX25_has 28 = .ok (.invokespecial 27, 3) := dk_183 0 27 (dk_at dksX25_has_1 5 rfl rfl)
theorem dX25_has_31 : decode cX25_has 31 = .ok (.iload 5, 2) := dk_21 5 (dk_at dksX25_has_1 8 rfl rfl)
theorem dX25_has_33 : decode cX25_has 33 = .ok (.invokevirtual 30, 3) := dk_182 0 30 (dk_at dksX25_has_1 10 rfl rfl)
theorem dX25_has_36 : decode cX25_has 36 = .ok (.aload_n 0, 1) := dk_42 (dk_at dksX25_has_1 13 rfl rfl)
theorem dX25_has_37 : decode cX25_has 37 = .ok (.invokevirtual 34, 3) := dk_182 0 34 (dk_at dksX25_has_1 14 rfl rfl)
theorem dX25_has_40 : decode cX25_has 40 = .ok (.ifCond .gt 9, 3) := dk_157 0 9 (dk_at dksX25_has_1 17 rfl rfl)
theorem dX25_has_43 : decode cX25_has 43 = .ok (.iload 5, 2) := dk_21 5 (dk_at dksX25_has_1 20 rfl rfl)
theorem dX25_has_45 : decode cX25_has 45 = .ok (.istore_n 3, 1) := dk_62 (dk_at dksX25_has_1 22 rfl rfl)
theorem dX25_has_46 : decode cX25_has 46 = .ok (.goto 9, 3) := dk_167 0 9 (dk_at dksX25_has_2 0 rfl rfl)
theorem dX25_has_49 : decode cX25_has 49 = .ok (.iload 5, 2) := dk_21 5 (dk_at dksX25_has_2 3 rfl rfl)
theorem dX25_has_51 : decode cX25_has 51 = .ok (.iconst 1, 1) := dk_4 (dk_at dksX25_has_2 5 rfl rfl)
theorem dX25_has_52 : decode cX25_has 52 = .ok (.isub, 1) := dk_100 (dk_at dksX25_has_2 6 rfl rfl)
theorem dX25_has_53 : decode cX25_has 53 = .ok (.istore 4, 2) := dk_54 4 (dk_at dksX25_has_2 7 rfl rfl)
theorem dX25_has_55 : decode cX25_has 55 = .ok (.goto (-50), 3) := dk_167 255 206 (dk_at dksX25_has_2 9 rfl rfl)
theorem dX25_has_58 : decode cX25_has 58 = .ok (.iload_n 3, 1) := dk_29 (dk_at dksX25_has_2 12 rfl rfl)
theorem dX25_has_59 : decode cX25_has 59 = .ok (.ireturn, 1) := dk_172 (dk_at dksX25_has_2 13 rfl rfl)
abbrev cX25_compare : ByteArray := prog_11_method_5_code
def yX25_compare : MethodName := ⟨RX25, "compare", "(LExamSlips$Huge;)I"⟩
def dkwX25_compare_2 : List UInt8 := [167, 255, 218, 3, 172]
abbrev dktX25_compare_2 : List UInt8 := dkwX25_compare_2 ++ []
def dkwX25_compare_1 : List UInt8 := [159, 0, 19, 42, 180, 0, 7, 28, 46, 43, 180, 0, 7, 28, 46, 184, 0, 21, 172, 132, 2, 255]
abbrev dktX25_compare_1 : List UInt8 := dkwX25_compare_1 ++ dktX25_compare_2
def dkwX25_compare_0 : List UInt8 := [42, 180, 0, 7, 190, 4, 100, 61, 28, 155, 0, 40, 42, 180, 0, 7, 28, 46, 43, 180, 0, 7, 28, 46]
abbrev dktX25_compare_0 : List UInt8 := dkwX25_compare_0 ++ dktX25_compare_1
theorem dksX25_compare_0 : cX25_compare.data.toList.drop 0 = dktX25_compare_0 := by decide +kernel
theorem dksX25_compare_1 : cX25_compare.data.toList.drop 24 = dktX25_compare_1 := dk_seg dksX25_compare_0 24 rfl rfl
theorem dksX25_compare_2 : cX25_compare.data.toList.drop 46 = dktX25_compare_2 := dk_seg dksX25_compare_1 22 rfl rfl
theorem dX25_compare_0 : decode cX25_compare 0 = .ok (.aload_n 0, 1) := dk_42 (dk_at dksX25_compare_0 0 rfl rfl)
theorem dX25_compare_1 : decode cX25_compare 1 = .ok (.getfield 7, 3) := dk_180 0 7 (dk_at dksX25_compare_0 1 rfl rfl)
theorem dX25_compare_4 : decode cX25_compare 4 = .ok (.arraylength, 1) := dk_190 (dk_at dksX25_compare_0 4 rfl rfl)
theorem dX25_compare_5 : decode cX25_compare 5 = .ok (.iconst 1, 1) := dk_4 (dk_at dksX25_compare_0 5 rfl rfl)
theorem dX25_compare_6 : decode cX25_compare 6 = .ok (.isub, 1) := dk_100 (dk_at dksX25_compare_0 6 rfl rfl)
theorem dX25_compare_7 : decode cX25_compare 7 = .ok (.istore_n 2, 1) := dk_61 (dk_at dksX25_compare_0 7 rfl rfl)
theorem dX25_compare_8 : decode cX25_compare 8 = .ok (.iload_n 2, 1) := dk_28 (dk_at dksX25_compare_0 8 rfl rfl)
theorem dX25_compare_9 : decode cX25_compare 9 = .ok (.ifCond .lt 40, 3) := dk_155 0 40 (dk_at dksX25_compare_0 9 rfl rfl)
theorem dX25_compare_12 : decode cX25_compare 12 = .ok (.aload_n 0, 1) := dk_42 (dk_at dksX25_compare_0 12 rfl rfl)
theorem dX25_compare_13 : decode cX25_compare 13 = .ok (.getfield 7, 3) := dk_180 0 7 (dk_at dksX25_compare_0 13 rfl rfl)
theorem dX25_compare_16 : decode cX25_compare 16 = .ok (.iload_n 2, 1) := dk_28 (dk_at dksX25_compare_0 16 rfl rfl)
theorem dX25_compare_17 : decode cX25_compare 17 = .ok (.iaload, 1) := dk_46 (dk_at dksX25_compare_0 17 rfl rfl)
theorem dX25_compare_18 : decode cX25_compare 18 = .ok (.aload_n 1, 1) := dk_43 (dk_at dksX25_compare_0 18 rfl rfl)
theorem dX25_compare_19 : decode cX25_compare 19 = .ok (.getfield 7, 3) := dk_180 0 7 (dk_at dksX25_compare_0 19 rfl rfl)
theorem dX25_compare_22 : decode cX25_compare 22 = .ok (.iload_n 2, 1) := dk_28 (dk_at dksX25_compare_0 22 rfl rfl)
theorem dX25_compare_23 : decode cX25_compare 23 = .ok (.iaload, 1) := dk_46 (dk_at dksX25_compare_0 23 rfl rfl)
theorem dX25_compare_24 : decode cX25_compare 24 = .ok (.if_icmp .eq 19, 3) := dk_159 0 19 (dk_at dksX25_compare_1 0 rfl rfl)
theorem dX25_compare_27 : decode cX25_compare 27 = .ok (.aload_n 0, 1) := dk_42 (dk_at dksX25_compare_1 3 rfl rfl)
theorem dX25_compare_28 : decode cX25_compare 28 = .ok (.getfield 7, 3) := dk_180 0 7 (dk_at dksX25_compare_1 4 rfl rfl)
theorem dX25_compare_31 : decode cX25_compare 31 = .ok (.iload_n 2, 1) := dk_28 (dk_at dksX25_compare_1 7 rfl rfl)
theorem dX25_compare_32 : decode cX25_compare 32 = .ok (.iaload, 1) := dk_46 (dk_at dksX25_compare_1 8 rfl rfl)
theorem dX25_compare_33 : decode cX25_compare 33 = .ok (.aload_n 1, 1) := dk_43 (dk_at dksX25_compare_1 9 rfl rfl)
theorem dX25_compare_34 : decode cX25_compare 34 = .ok (.getfield 7, 3) := dk_180 0 7 (dk_at dksX25_compare_1 10 rfl rfl)
theorem dX25_compare_37 : decode cX25_compare 37 = .ok (.iload_n 2, 1) := dk_28 (dk_at dksX25_compare_1 13 rfl rfl)
theorem dX25_compare_38 : decode cX25_compare 38 = .ok (.iaload, 1) := dk_46 (dk_at dksX25_compare_1 14 rfl rfl)
theorem dX25_compare_39 : decode cX25_compare 39 = .ok (.invokestatic 21, 3) := dk_184 0 21 (dk_at dksX25_compare_1 15 rfl rfl)
theorem dX25_compare_42 : decode cX25_compare 42 = .ok (.ireturn, 1) := dk_172 (dk_at dksX25_compare_1 18 rfl rfl)
theorem dX25_compare_43 : decode cX25_compare 43 = .ok (.iinc 2 (-1), 3) := dk_132 2 255 (dk_at dksX25_compare_1 19 rfl rfl)
theorem dX25_compare_46 : decode cX25_compare 46 = .ok (.goto (-38), 3) := dk_167 255 218 (dk_at dksX25_compare_2 0 rfl rfl)
theorem dX25_compare_49 : decode cX25_compare 49 = .ok (.iconst 0, 1) := dk_3 (dk_at dksX25_compare_2 3 rfl rfl)
theorem dX25_compare_50 : decode cX25_compare 50 = .ok (.ireturn, 1) := dk_172 (dk_at dksX25_compare_2 4 rfl rfl)
theorem q167 : (Jvm.Cond.initialized "ExamSlips$Huge") ∈ lw_all := lw_g (lw_at lw_m1 44 rfl) rfl
theorem q452 : (Jvm.Cond.selects "ExamSlips$Huge" ({ cls := "java/lang/Object", name := "getClass", desc := "()Ljava/lang/Class;" } : Jvm.MethodName) ({ cls := "java/lang/Object", name := "getClass", desc := "()Ljava/lang/Class;" } : Jvm.MethodName)) ∈ lw_all := lw_g (lw_at lw_m2 89 rfl) rfl
theorem q1515 : (Jvm.Cond.instantiable "ExamSlips$Huge" (1 : Nat)) ∈ lw_all := lw_g (lw_at lw_m6 192 rfl) rfl
theorem q1517 : (Jvm.Cond.instanceMethod ({ cls := "ExamSlips$Huge", name := "<init>", desc := "(I)V" } : Jvm.MethodName)) ∈ lw_all := lw_g (lw_at lw_m6 194 rfl) rfl
theorem q1518 : (Jvm.Cond.code ({ cls := "ExamSlips$Huge", name := "<init>", desc := "(I)V" } : Jvm.MethodName) prog_11_method_1_code (2 : Nat) (Option.none : Option Jvm.ClassFile.FieldType)) ∈ lw_all := lw_g (lw_at lw_m6 195 rfl) rfl
theorem q1519 : (Jvm.Cond.methodLink "ExamSlips$Huge" (1 : Nat) ({ cls := "java/lang/Object", name := "<init>", desc := "()V" } : Jvm.MethodName)) ∈ lw_all := lw_g (lw_at lw_m6 196 rfl) rfl
theorem q1520 : (Jvm.Cond.fieldLink "ExamSlips$Huge" (7 : Nat) "ExamSlips$Huge" "places" "[I") ∈ lw_all := lw_g (lw_at lw_m6 197 rfl) rfl
theorem q1521 : (Jvm.Cond.laysFinal "ExamSlips$Huge" "ExamSlips$Huge" "places" "[I") ∈ lw_all := lw_g (lw_at lw_m6 198 rfl) rfl
theorem q1522 : (Jvm.Cond.soleField "ExamSlips$Huge" "places") ∈ lw_all := lw_g (lw_at lw_m6 199 rfl) rfl
theorem q1523 : (Jvm.Cond.superclass "ExamSlips$Huge" "java/lang/Object") ∈ lw_all := lw_g (lw_at lw_m6 200 rfl) rfl
theorem q1525 : (Jvm.Cond.instanceMethod ({ cls := "ExamSlips$Huge", name := "times", desc := "(I)LExamSlips$Huge;" } : Jvm.MethodName)) ∈ lw_all := lw_g (lw_at lw_m6 202 rfl) rfl
theorem q1526 : (Jvm.Cond.selects "ExamSlips$Huge" ({ cls := "ExamSlips$Huge", name := "times", desc := "(I)LExamSlips$Huge;" } : Jvm.MethodName) ({ cls := "ExamSlips$Huge", name := "times", desc := "(I)LExamSlips$Huge;" } : Jvm.MethodName)) ∈ lw_all := lw_g (lw_at lw_m6 203 rfl) rfl
theorem q1527 : (Jvm.Cond.code ({ cls := "ExamSlips$Huge", name := "times", desc := "(I)LExamSlips$Huge;" } : Jvm.MethodName) prog_11_method_3_code (7 : Nat) (Option.some (Jvm.ClassFile.FieldType.object "ExamSlips$Huge"))) ∈ lw_all := lw_g (lw_at lw_m6 204 rfl) rfl
theorem q1528 : (Jvm.Cond.constantLong "ExamSlips$Huge" (19 : Nat) (10000 : Int64)) ∈ lw_all := lw_g (lw_at lw_m6 205 rfl) rfl
theorem q1530 : (Jvm.Cond.instanceMethod ({ cls := "ExamSlips$Huge", name := "<init>", desc := "(LExamSlips$Huge;)V" } : Jvm.MethodName)) ∈ lw_all := lw_g (lw_at lw_m6 207 rfl) rfl
theorem q1531 : (Jvm.Cond.code ({ cls := "ExamSlips$Huge", name := "<init>", desc := "(LExamSlips$Huge;)V" } : Jvm.MethodName) prog_11_method_2_code (2 : Nat) (Option.none : Option Jvm.ClassFile.FieldType)) ∈ lw_all := lw_g (lw_at lw_m6 208 rfl) rfl
theorem q1532 : (Jvm.Cond.methodLink "ExamSlips$Huge" (13 : Nat) ({ cls := "java/lang/System", name := "arraycopy", desc := "(Ljava/lang/Object;ILjava/lang/Object;II)V" } : Jvm.MethodName)) ∈ lw_all := lw_g (lw_at lw_m6 209 rfl) rfl
theorem q1534 : (Jvm.Cond.instanceMethod ({ cls := "ExamSlips$Huge", name := "plus", desc := "(LExamSlips$Huge;)LExamSlips$Huge;" } : Jvm.MethodName)) ∈ lw_all := lw_g (lw_at lw_m6 211 rfl) rfl
theorem q1535 : (Jvm.Cond.selects "ExamSlips$Huge" ({ cls := "ExamSlips$Huge", name := "plus", desc := "(LExamSlips$Huge;)LExamSlips$Huge;" } : Jvm.MethodName) ({ cls := "ExamSlips$Huge", name := "plus", desc := "(LExamSlips$Huge;)LExamSlips$Huge;" } : Jvm.MethodName)) ∈ lw_all := lw_g (lw_at lw_m6 212 rfl) rfl
theorem q1536 : (Jvm.Cond.code ({ cls := "ExamSlips$Huge", name := "plus", desc := "(LExamSlips$Huge;)LExamSlips$Huge;" } : Jvm.MethodName) prog_11_method_4_code (5 : Nat) (Option.some (Jvm.ClassFile.FieldType.object "ExamSlips$Huge"))) ∈ lw_all := lw_g (lw_at lw_m6 213 rfl) rfl
theorem q1544 : (Jvm.Cond.instanceMethod ({ cls := "ExamSlips$Huge", name := "has", desc := "(LExamSlips$Huge;I)I" } : Jvm.MethodName)) ∈ lw_all := lw_g (lw_at lw_m6 221 rfl) rfl
theorem q1545 : (Jvm.Cond.selects "ExamSlips$Huge" ({ cls := "ExamSlips$Huge", name := "has", desc := "(LExamSlips$Huge;I)I" } : Jvm.MethodName) ({ cls := "ExamSlips$Huge", name := "has", desc := "(LExamSlips$Huge;I)I" } : Jvm.MethodName)) ∈ lw_all := lw_g (lw_at lw_m6 222 rfl) rfl
theorem q1546 : (Jvm.Cond.code ({ cls := "ExamSlips$Huge", name := "has", desc := "(LExamSlips$Huge;I)I" } : Jvm.MethodName) prog_11_method_6_code (6 : Nat) (Option.some Jvm.ClassFile.FieldType.int)) ∈ lw_all := lw_g (lw_at lw_m6 223 rfl) rfl
theorem q1547 : (Jvm.Cond.classLink "ExamSlips$Huge" (8 : Nat) "ExamSlips$Huge") ∈ lw_all := lw_g (lw_at lw_m6 224 rfl) rfl
theorem q1548 : (Jvm.Cond.methodLink "ExamSlips$Huge" (27 : Nat) ({ cls := "ExamSlips$Huge", name := "<init>", desc := "(LExamSlips$Huge;)V" } : Jvm.MethodName)) ∈ lw_all := lw_g (lw_at lw_m6 225 rfl) rfl
theorem q1549 : (Jvm.Cond.methodLink "ExamSlips$Huge" (30 : Nat) ({ cls := "ExamSlips$Huge", name := "times", desc := "(I)LExamSlips$Huge;" } : Jvm.MethodName)) ∈ lw_all := lw_g (lw_at lw_m6 226 rfl) rfl
theorem q1550 : (Jvm.Cond.methodLink "ExamSlips$Huge" (34 : Nat) ({ cls := "ExamSlips$Huge", name := "compare", desc := "(LExamSlips$Huge;)I" } : Jvm.MethodName)) ∈ lw_all := lw_g (lw_at lw_m6 227 rfl) rfl
theorem q1551 : (Jvm.Cond.instanceMethod ({ cls := "ExamSlips$Huge", name := "compare", desc := "(LExamSlips$Huge;)I" } : Jvm.MethodName)) ∈ lw_all := lw_g (lw_at lw_m6 228 rfl) rfl
theorem q1552 : (Jvm.Cond.selects "ExamSlips$Huge" ({ cls := "ExamSlips$Huge", name := "compare", desc := "(LExamSlips$Huge;)I" } : Jvm.MethodName) ({ cls := "ExamSlips$Huge", name := "compare", desc := "(LExamSlips$Huge;)I" } : Jvm.MethodName)) ∈ lw_all := lw_g (lw_at lw_m6 229 rfl) rfl
theorem q1553 : (Jvm.Cond.code ({ cls := "ExamSlips$Huge", name := "compare", desc := "(LExamSlips$Huge;)I" } : Jvm.MethodName) prog_11_method_5_code (3 : Nat) (Option.some Jvm.ClassFile.FieldType.int)) ∈ lw_all := lw_g (lw_at lw_m6 230 rfl) rfl
theorem q1554 : (Jvm.Cond.methodLink "ExamSlips$Huge" (21 : Nat) ({ cls := "java/lang/Integer", name := "compare", desc := "(II)I" } : Jvm.MethodName)) ∈ lw_all := lw_g (lw_at lw_m6 231 rfl) rfl
theorem q2377 : (Jvm.Cond.castable "ExamSlips$Huge" "java/lang/Object") ∈ lw_tbl := lw_at lw_m10 94 rfl
theorem in_X25 : ∀ w ∈ wsX250, w ∈ lw_all := lw_in wsX250 [1521] (by decide +kernel) (by decide +kernel)

/-! ExamSlips$Draws -/
set_option maxRecDepth 100000
def RX26 : String := "ExamSlips$Draws"
def TX26 : u_T := fun k => match k with
  | _ => ("ExamSlips$Draws", "state", "J", false)
def tyX26 : Nat → FieldType := fun k => match k with
  | _ => .long
abbrev wsX260 : List Cond := u_ws RX26 TX26 1
theorem nmX26 : ∀ a, a < 1 → ∀ b, b < 1 → a ≠ b → (TX26 a).2.1 ≠ (TX26 b).2.1 := by decide +kernel
theorem tyX26_ok : ∀ k, k < 1 → parseFieldDescriptor (TX26 k).2.2.1 = some (tyX26 k) := by decide +kernel
abbrev cX26_init : ByteArray := prog_9_method_1_code
def yX26_init : MethodName := ⟨RX26, "<init>", "(I)V"⟩
def dkwX26_init_0 : List UInt8 := [42, 183, 0, 1, 42, 27, 133, 181, 0, 7, 177]
abbrev dktX26_init_0 : List UInt8 := dkwX26_init_0 ++ []
theorem dksX26_init_0 : cX26_init.data.toList.drop 0 = dktX26_init_0 := by decide +kernel
theorem dX26_init_0 : decode cX26_init 0 = .ok (.aload_n 0, 1) := dk_42 (dk_at dksX26_init_0 0 rfl rfl)
theorem dX26_init_1 : decode cX26_init 1 = .ok (.invokespecial 1, 3) := dk_183 0 1 (dk_at dksX26_init_0 1 rfl rfl)
theorem dX26_init_4 : decode cX26_init 4 = .ok (.aload_n 0, 1) := dk_42 (dk_at dksX26_init_0 4 rfl rfl)
theorem dX26_init_5 : decode cX26_init 5 = .ok (.iload_n 1, 1) := dk_27 (dk_at dksX26_init_0 5 rfl rfl)
theorem dX26_init_6 : decode cX26_init 6 = .ok (.i2l, 1) := dk_133 (dk_at dksX26_init_0 6 rfl rfl)
theorem dX26_init_7 : decode cX26_init 7 = .ok (.putfield 7, 3) := dk_181 0 7 (dk_at dksX26_init_0 7 rfl rfl)
theorem dX26_init_10 : decode cX26_init 10 = .ok (.return_, 1) := dk_177 (dk_at dksX26_init_0 10 rfl rfl)
abbrev cX26_of : ByteArray := prog_9_method_2_code
def yX26_of : MethodName := ⟨RX26, "of", "(I)I"⟩
def dkwX26_of_1 : List UInt8 := [27, 133, 113, 136, 172]
abbrev dktX26_of_1 : List UInt8 := dkwX26_of_1 ++ []
def dkwX26_of_0 : List UInt8 := [42, 42, 180, 0, 7, 20, 0, 13, 105, 20, 0, 15, 97, 20, 0, 17, 113, 181, 0, 7, 42, 180, 0, 7]
abbrev dktX26_of_0 : List UInt8 := dkwX26_of_0 ++ dktX26_of_1
theorem dksX26_of_0 : cX26_of.data.toList.drop 0 = dktX26_of_0 := by decide +kernel
theorem dksX26_of_1 : cX26_of.data.toList.drop 24 = dktX26_of_1 := dk_seg dksX26_of_0 24 rfl rfl
theorem dX26_of_0 : decode cX26_of 0 = .ok (.aload_n 0, 1) := dk_42 (dk_at dksX26_of_0 0 rfl rfl)
theorem dX26_of_1 : decode cX26_of 1 = .ok (.aload_n 0, 1) := dk_42 (dk_at dksX26_of_0 1 rfl rfl)
theorem dX26_of_2 : decode cX26_of 2 = .ok (.getfield 7, 3) := dk_180 0 7 (dk_at dksX26_of_0 2 rfl rfl)
theorem dX26_of_5 : decode cX26_of 5 = .ok (.ldc2_w 13, 3) := dk_20 0 13 (dk_at dksX26_of_0 5 rfl rfl)
theorem dX26_of_8 : decode cX26_of 8 = .ok (.lmul, 1) := dk_105 (dk_at dksX26_of_0 8 rfl rfl)
theorem dX26_of_9 : decode cX26_of 9 = .ok (.ldc2_w 15, 3) := dk_20 0 15 (dk_at dksX26_of_0 9 rfl rfl)
theorem dX26_of_12 : decode cX26_of 12 = .ok (.ladd, 1) := dk_97 (dk_at dksX26_of_0 12 rfl rfl)
theorem dX26_of_13 : decode cX26_of 13 = .ok (.ldc2_w 17, 3) := dk_20 0 17 (dk_at dksX26_of_0 13 rfl rfl)
theorem dX26_of_16 : decode cX26_of 16 = .ok (.lrem, 1) := dk_113 (dk_at dksX26_of_0 16 rfl rfl)
theorem dX26_of_17 : decode cX26_of 17 = .ok (.putfield 7, 3) := dk_181 0 7 (dk_at dksX26_of_0 17 rfl rfl)
theorem dX26_of_20 : decode cX26_of 20 = .ok (.aload_n 0, 1) := dk_42 (dk_at dksX26_of_0 20 rfl rfl)
theorem dX26_of_21 : decode cX26_of 21 = .ok (.getfield 7, 3) := dk_180 0 7 (dk_at dksX26_of_0 21 rfl rfl)
theorem dX26_of_24 : decode cX26_of 24 = .ok (.iload_n 1, 1) := dk_27 (dk_at dksX26_of_1 0 rfl rfl)
theorem dX26_of_25 : decode cX26_of 25 = .ok (.i2l, 1) := dk_133 (dk_at dksX26_of_1 1 rfl rfl)
theorem dX26_of_26 : decode cX26_of 26 = .ok (.lrem, 1) := dk_113 (dk_at dksX26_of_1 2 rfl rfl)
theorem dX26_of_27 : decode cX26_of 27 = .ok (.l2i, 1) := dk_136 (dk_at dksX26_of_1 3 rfl rfl)
theorem dX26_of_28 : decode cX26_of 28 = .ok (.ireturn, 1) := dk_172 (dk_at dksX26_of_1 4 rfl rfl)
theorem q168 : (Jvm.Cond.initialized "ExamSlips$Draws") ∈ lw_all := lw_g (lw_at lw_m1 45 rfl) rfl
theorem q450 : (Jvm.Cond.selects "ExamSlips$Draws" ({ cls := "java/lang/Object", name := "getClass", desc := "()Ljava/lang/Class;" } : Jvm.MethodName) ({ cls := "java/lang/Object", name := "getClass", desc := "()Ljava/lang/Class;" } : Jvm.MethodName)) ∈ lw_all := lw_g (lw_at lw_m2 87 rfl) rfl
theorem q1564 : (Jvm.Cond.instantiable "ExamSlips$Draws" (1 : Nat)) ∈ lw_all := lw_g (lw_at lw_m7 1 rfl) rfl
theorem q1566 : (Jvm.Cond.instanceMethod ({ cls := "ExamSlips$Draws", name := "<init>", desc := "(I)V" } : Jvm.MethodName)) ∈ lw_all := lw_g (lw_at lw_m7 3 rfl) rfl
theorem q1567 : (Jvm.Cond.code ({ cls := "ExamSlips$Draws", name := "<init>", desc := "(I)V" } : Jvm.MethodName) prog_9_method_1_code (2 : Nat) (Option.none : Option Jvm.ClassFile.FieldType)) ∈ lw_all := lw_g (lw_at lw_m7 4 rfl) rfl
theorem q1568 : (Jvm.Cond.methodLink "ExamSlips$Draws" (1 : Nat) ({ cls := "java/lang/Object", name := "<init>", desc := "()V" } : Jvm.MethodName)) ∈ lw_all := lw_g (lw_at lw_m7 5 rfl) rfl
theorem q1569 : (Jvm.Cond.fieldLink "ExamSlips$Draws" (7 : Nat) "ExamSlips$Draws" "state" "J") ∈ lw_all := lw_g (lw_at lw_m7 6 rfl) rfl
theorem q1570 : (Jvm.Cond.lays "ExamSlips$Draws" "ExamSlips$Draws" "state" "J") ∈ lw_all := lw_g (lw_at lw_m7 7 rfl) rfl
theorem q1571 : (Jvm.Cond.soleField "ExamSlips$Draws" "state") ∈ lw_all := lw_g (lw_at lw_m7 8 rfl) rfl
theorem q1572 : (Jvm.Cond.superclass "ExamSlips$Draws" "java/lang/Object") ∈ lw_all := lw_g (lw_at lw_m7 9 rfl) rfl
theorem q1596 : (Jvm.Cond.instanceMethod ({ cls := "ExamSlips$Draws", name := "of", desc := "(I)I" } : Jvm.MethodName)) ∈ lw_all := lw_g (lw_at lw_m7 33 rfl) rfl
theorem q1597 : (Jvm.Cond.selects "ExamSlips$Draws" ({ cls := "ExamSlips$Draws", name := "of", desc := "(I)I" } : Jvm.MethodName) ({ cls := "ExamSlips$Draws", name := "of", desc := "(I)I" } : Jvm.MethodName)) ∈ lw_all := lw_g (lw_at lw_m7 34 rfl) rfl
theorem q1598 : (Jvm.Cond.code ({ cls := "ExamSlips$Draws", name := "of", desc := "(I)I" } : Jvm.MethodName) prog_9_method_2_code (2 : Nat) (Option.some Jvm.ClassFile.FieldType.int)) ∈ lw_all := lw_g (lw_at lw_m7 35 rfl) rfl
theorem q1599 : (Jvm.Cond.constantLong "ExamSlips$Draws" (13 : Nat) (1103 : Int64)) ∈ lw_all := lw_g (lw_at lw_m7 36 rfl) rfl
theorem q1600 : (Jvm.Cond.constantLong "ExamSlips$Draws" (15 : Nat) (12345 : Int64)) ∈ lw_all := lw_g (lw_at lw_m7 37 rfl) rfl
theorem q1601 : (Jvm.Cond.constantLong "ExamSlips$Draws" (17 : Nat) (1000003 : Int64)) ∈ lw_all := lw_g (lw_at lw_m7 38 rfl) rfl
theorem q2400 : (Jvm.Cond.castable "ExamSlips$Draws" "java/lang/Object") ∈ lw_tbl := lw_at lw_m10 117 rfl
theorem in_X26 : ∀ w ∈ wsX260, w ∈ lw_all := lw_in wsX260 [1570] (by decide +kernel) (by decide +kernel)

/-! ExamSlips$Table -/
set_option maxRecDepth 100000
def RX27 : String := "ExamSlips$Table"
def TX27 : u_T := fun k => match k with
  | 0 => ("ExamSlips$Table", "lay", "I", false)
  | 1 => ("ExamSlips$Table", "answered", "I", false)
  | _ => ("ExamSlips$Table", "right", "I", false)
def tyX27 : Nat → FieldType := fun k => match k with
  | 0 => .int
  | 1 => .int
  | _ => .int
abbrev wsX270 : List Cond := u_ws RX27 TX27 3
theorem nmX27 : ∀ a, a < 3 → ∀ b, b < 3 → a ≠ b → (TX27 a).2.1 ≠ (TX27 b).2.1 := by decide +kernel
theorem tyX27_ok : ∀ k, k < 3 → parseFieldDescriptor (TX27 k).2.2.1 = some (tyX27 k) := by decide +kernel
abbrev cX27_init : ByteArray := prog_24_method_1_code
def yX27_init : MethodName := ⟨RX27, "<init>", "()V"⟩
theorem dX27_init_0 : decode cX27_init 0 = .ok (.aload_n 0, 1) := by decide +kernel
theorem dX27_init_1 : decode cX27_init 1 = .ok (.invokespecial 1, 3) := by decide +kernel
theorem dX27_init_4 : decode cX27_init 4 = .ok (.return_, 1) := by decide +kernel
abbrev cX27_rights : ByteArray := prog_24_method_2_code
def yX27_rights : MethodName := ⟨RX27, "rights", "()I"⟩
def dkwX27_rights_0 : List UInt8 := [42, 180, 0, 7, 184, 0, 13, 172]
abbrev dktX27_rights_0 : List UInt8 := dkwX27_rights_0 ++ []
theorem dksX27_rights_0 : cX27_rights.data.toList.drop 0 = dktX27_rights_0 := by decide +kernel
theorem dX27_rights_0 : decode cX27_rights 0 = .ok (.aload_n 0, 1) := dk_42 (dk_at dksX27_rights_0 0 rfl rfl)
theorem dX27_rights_1 : decode cX27_rights 1 = .ok (.getfield 7, 3) := dk_180 0 7 (dk_at dksX27_rights_0 1 rfl rfl)
theorem dX27_rights_4 : decode cX27_rights 4 = .ok (.invokestatic 13, 3) := dk_184 0 13 (dk_at dksX27_rights_0 4 rfl rfl)
theorem dX27_rights_7 : decode cX27_rights 7 = .ok (.ireturn, 1) := dk_172 (dk_at dksX27_rights_0 7 rfl rfl)
theorem q169 : (Jvm.Cond.initialized "ExamSlips$Table") ∈ lw_all := lw_g (lw_at lw_m1 46 rfl) rfl
theorem q464 : (Jvm.Cond.selects "ExamSlips$Table" ({ cls := "java/lang/Object", name := "getClass", desc := "()Ljava/lang/Class;" } : Jvm.MethodName) ({ cls := "java/lang/Object", name := "getClass", desc := "()Ljava/lang/Class;" } : Jvm.MethodName)) ∈ lw_all := lw_g (lw_at lw_m2 101 rfl) rfl
theorem q1578 : (Jvm.Cond.instantiable "ExamSlips$Table" (3 : Nat)) ∈ lw_all := lw_g (lw_at lw_m7 15 rfl) rfl
theorem q1580 : (Jvm.Cond.instanceMethod ({ cls := "ExamSlips$Table", name := "<init>", desc := "()V" } : Jvm.MethodName)) ∈ lw_all := lw_g (lw_at lw_m7 17 rfl) rfl
theorem q1581 : (Jvm.Cond.code ({ cls := "ExamSlips$Table", name := "<init>", desc := "()V" } : Jvm.MethodName) prog_24_method_1_code (1 : Nat) (Option.none : Option Jvm.ClassFile.FieldType)) ∈ lw_all := lw_g (lw_at lw_m7 18 rfl) rfl
theorem q1582 : (Jvm.Cond.methodLink "ExamSlips$Table" (1 : Nat) ({ cls := "java/lang/Object", name := "<init>", desc := "()V" } : Jvm.MethodName)) ∈ lw_all := lw_g (lw_at lw_m7 19 rfl) rfl
theorem q1585 : (Jvm.Cond.fieldLink "ExamSlips$Table" (7 : Nat) "ExamSlips$Table" "right" "I") ∈ lw_all := lw_g (lw_at lw_m7 22 rfl) rfl
theorem q1587 : (Jvm.Cond.lays "ExamSlips$Table" "ExamSlips$Table" "lay" "I") ∈ lw_all := lw_g (lw_at lw_m7 24 rfl) rfl
theorem q1588 : (Jvm.Cond.soleField "ExamSlips$Table" "lay") ∈ lw_all := lw_g (lw_at lw_m7 25 rfl) rfl
theorem q1589 : (Jvm.Cond.lays "ExamSlips$Table" "ExamSlips$Table" "answered" "I") ∈ lw_all := lw_g (lw_at lw_m7 26 rfl) rfl
theorem q1590 : (Jvm.Cond.soleField "ExamSlips$Table" "answered") ∈ lw_all := lw_g (lw_at lw_m7 27 rfl) rfl
theorem q1591 : (Jvm.Cond.lays "ExamSlips$Table" "ExamSlips$Table" "right" "I") ∈ lw_all := lw_g (lw_at lw_m7 28 rfl) rfl
theorem q1592 : (Jvm.Cond.soleField "ExamSlips$Table" "right") ∈ lw_all := lw_g (lw_at lw_m7 29 rfl) rfl
theorem q1593 : (Jvm.Cond.superclass "ExamSlips$Table" "java/lang/Object") ∈ lw_all := lw_g (lw_at lw_m7 30 rfl) rfl
theorem q1610 : (Jvm.Cond.instanceMethod ({ cls := "ExamSlips$Table", name := "rights", desc := "()I" } : Jvm.MethodName)) ∈ lw_all := lw_g (lw_at lw_m7 47 rfl) rfl
theorem q1611 : (Jvm.Cond.selects "ExamSlips$Table" ({ cls := "ExamSlips$Table", name := "rights", desc := "()I" } : Jvm.MethodName) ({ cls := "ExamSlips$Table", name := "rights", desc := "()I" } : Jvm.MethodName)) ∈ lw_all := lw_g (lw_at lw_m7 48 rfl) rfl
theorem q1612 : (Jvm.Cond.code ({ cls := "ExamSlips$Table", name := "rights", desc := "()I" } : Jvm.MethodName) prog_24_method_2_code (1 : Nat) (Option.some Jvm.ClassFile.FieldType.int)) ∈ lw_all := lw_g (lw_at lw_m7 49 rfl) rfl
theorem q1613 : (Jvm.Cond.methodLink "ExamSlips$Table" (13 : Nat) ({ cls := "java/lang/Integer", name := "bitCount", desc := "(I)I" } : Jvm.MethodName)) ∈ lw_all := lw_g (lw_at lw_m7 50 rfl) rfl
theorem q2401 : (Jvm.Cond.castable "ExamSlips$Table" "java/lang/Object") ∈ lw_tbl := lw_at lw_m10 118 rfl
theorem in_X27 : ∀ w ∈ wsX270, w ∈ lw_all := lw_in wsX270 [1587, 1589, 1591] (by decide +kernel) (by decide +kernel)
