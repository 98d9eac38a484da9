set_option maxRecDepth 100000
abbrev cX4_isHelped : ByteArray := prog_29_method_93_code
def yX4_isHelped : MethodName := ⟨RX4, "isHelped", "(I)Z"⟩
def dkwX4_isHelped_2 : List UInt8 := [180, 0, 96, 29, 46, 158, 0, 7, 4, 167, 0, 4, 3, 61, 132, 3, 1, 167, 255, 197, 28, 172]
abbrev dktX4_isHelped_2 : List UInt8 := dkwX4_isHelped_2 ++ []
def dkwX4_isHelped_1 : List UInt8 := [182, 0, 150, 158, 0, 31, 42, 29, 3, 182, 0, 150, 42, 27, 3, 182, 0, 150, 160, 0, 16, 42]
abbrev dktX4_isHelped_1 : List UInt8 := dkwX4_isHelped_1 ++ dktX4_isHelped_2
def dkwX4_isHelped_0 : List UInt8 := [3, 61, 3, 62, 29, 42, 182, 0, 146, 162, 0, 57, 28, 154, 0, 41, 29, 27, 159, 0, 40, 42, 27, 3]
abbrev dktX4_isHelped_0 : List UInt8 := dkwX4_isHelped_0 ++ dktX4_isHelped_1
theorem dksX4_isHelped_0 : cX4_isHelped.data.toList.drop 0 = dktX4_isHelped_0 := by decide +kernel
theorem dksX4_isHelped_1 : cX4_isHelped.data.toList.drop 24 = dktX4_isHelped_1 := dk_seg dksX4_isHelped_0 24 rfl rfl
theorem dksX4_isHelped_2 : cX4_isHelped.data.toList.drop 46 = dktX4_isHelped_2 := dk_seg dksX4_isHelped_1 22 rfl rfl
theorem dX4_isHelped_0 : decode cX4_isHelped 0 = .ok (.iconst 0, 1) := dk_3 (dk_at dksX4_isHelped_0 0 rfl rfl)
theorem dX4_isHelped_1 : decode cX4_isHelped 1 = .ok (.istore_n 2, 1) := dk_61 (dk_at dksX4_isHelped_0 1 rfl rfl)
theorem dX4_isHelped_2 : decode cX4_isHelped 2 = .ok (.iconst 0, 1) := dk_3 (dk_at dksX4_isHelped_0 2 rfl rfl)
theorem dX4_isHelped_3 : decode cX4_isHelped 3 = .ok (.istore_n 3, 1) := dk_62 (dk_at dksX4_isHelped_0 3 rfl rfl)
theorem dX4_isHelped_4 : decode cX4_isHelped 4 = .ok (.iload_n 3, 1) := dk_29 (dk_at dksX4_isHelped_0 4 rfl rfl)
theorem dX4_isHelped_5 : decode cX4_isHelped 5 = .ok (.aload_n 0, 1) := dk_42 (dk_at dksX4_isHelped_0 5 rfl rfl)
theorem dX4_isHelped_6 : decode cX4_isHelped 6 = .ok (.invokevirtual 146, 3) := dk_182 0 146 (dk_at dksX4_isHelped_0 6 rfl rfl)
theorem dX4_isHelped_9 : decode cX4_isHelped 9 = .ok (.if_icmp .ge 57, 3) := dk_162 0 57 (dk_at dksX4_isHelped_0 9 rfl rfl)
theorem dX4_isHelped_12 : decode cX4_isHelped 12 = .ok (.iload_n 2, 1) := dk_28 (dk_at dksX4_isHelped_0 12 rfl rfl)
theorem dX4_isHelped_13 : decode cX4_isHelped 13 = .ok (.ifCond .ne 41, 3) := dk_154 0 41 (dk_at dksX4_isHelped_0 13 rfl rfl)
theorem dX4_isHelped_16 : decode cX4_isHelped 16 = .ok (.iload_n 3, 1) := dk_29 (dk_at dksX4_isHelped_0 16 rfl rfl)
theorem dX4_isHelped_17 : decode cX4_isHelped 17 = .ok (.iload_n 1, 1) := dk_27 (dk_at dksX4_isHelped_0 17 rfl rfl)
theorem dX4_isHelped_18 : decode cX4_isHelped 18 = .ok (.if_icmp .eq 40, 3) := dk_159 0 40 (dk_at dksX4_isHelped_0 18 rfl rfl)
theorem dX4_isHelped_21 : decode cX4_isHelped 21 = .ok (.aload_n 0, 1) := dk_42 (dk_at dksX4_isHelped_0 21 rfl rfl)
theorem dX4_isHelped_22 : decode cX4_isHelped 22 = .ok (.iload_n 1, 1) := dk_27 (dk_at dksX4_isHelped_0 22 rfl rfl)
theorem dX4_isHelped_23 : decode cX4_isHelped 23 = .ok (.iconst 0, 1) := dk_3 (dk_at dksX4_isHelped_0 23 rfl rfl)
theorem dX4_isHelped_24 : decode cX4_isHelped 24 = .ok (.invokevirtual 150, 3) := dk_182 0 150 (dk_at dksX4_isHelped_1 0 rfl rfl)
theorem dX4_isHelped_27 : decode cX4_isHelped 27 = .ok (.ifCond .le 31, 3) := dk_158 0 31 (dk_at dksX4_isHelped_1 3 rfl rfl)
theorem dX4_isHelped_30 : decode cX4_isHelped 30 = .ok (.aload_n 0, 1) := dk_42 (dk_at dksX4_isHelped_1 6 rfl rfl)
theorem dX4_isHelped_31 : decode cX4_isHelped 31 = .ok (.iload_n 3, 1) := dk_29 (dk_at dksX4_isHelped_1 7 rfl rfl)
theorem dX4_isHelped_32 : decode cX4_isHelped 32 = .ok (.iconst 0, 1) := dk_3 (dk_at dksX4_isHelped_1 8 rfl rfl)
theorem dX4_isHelped_33 : decode cX4_isHelped 33 = .ok (.invokevirtual 150, 3) := dk_182 0 150 (dk_at dksX4_isHelped_1 9 rfl rfl)
theorem dX4_isHelped_36 : decode cX4_isHelped 36 = .ok (.aload_n 0, 1) := dk_42 (dk_at dksX4_isHelped_1 12 rfl rfl)
theorem dX4_isHelped_37 : decode cX4_isHelped 37 = .ok (.iload_n 1, 1) := dk_27 (dk_at dksX4_isHelped_1 13 rfl rfl)
theorem dX4_isHelped_38 : decode cX4_isHelped 38 = .ok (.iconst 0, 1) := dk_3 (dk_at dksX4_isHelped_1 14 rfl rfl)
theorem dX4_isHelped_39 : decode cX4_isHelped 39 = .ok (.invokevirtual 150, 3) := dk_182 0 150 (dk_at dksX4_isHelped_1 15 rfl rfl)
theorem dX4_isHelped_42 : decode cX4_isHelped 42 = .ok (.if_icmp .ne 16, 3) := dk_160 0 16 (dk_at dksX4_isHelped_1 18 rfl rfl)
theorem dX4_isHelped_45 : decode cX4_isHelped 45 = .ok (.aload_n 0, 1) := dk_42 (dk_at dksX4_isHelped_1 21 rfl rfl)
theorem dX4_isHelped_46 : decode cX4_isHelped 46 = .ok (.getfield 96, 3) := dk_180 0 96 (dk_at dksX4_isHelped_2 0 rfl rfl)
theorem dX4_isHelped_49 : decode cX4_isHelped 49 = .ok (.iload_n 3, 1) := dk_29 (dk_at dksX4_isHelped_2 3 rfl rfl)
theorem dX4_isHelped_50 : decode cX4_isHelped 50 = .ok (.iaload, 1) := dk_46 (dk_at dksX4_isHelped_2 4 rfl rfl)
theorem dX4_isHelped_51 : decode cX4_isHelped 51 = .ok (.ifCond .le 7, 3) := dk_158 0 7 (dk_at dksX4_isHelped_2 5 rfl rfl)
theorem dX4_isHelped_54 : decode cX4_isHelped 54 = .ok (.iconst 1, 1) := dk_4 (dk_at dksX4_isHelped_2 8 rfl rfl)
theorem dX4_isHelped_55 : decode cX4_isHelped 55 = .ok (.goto 4, 3) := dk_167 0 4 (dk_at dksX4_isHelped_2 9 rfl rfl)
theorem dX4_isHelped_58 : decode cX4_isHelped 58 = .ok (.iconst 0, 1) := dk_3 (dk_at dksX4_isHelped_2 12 rfl rfl)
theorem dX4_isHelped_59 : decode cX4_isHelped 59 = .ok (.istore_n 2, 1) := dk_61 (dk_at dksX4_isHelped_2 13 rfl rfl)
theorem dX4_isHelped_60 : decode cX4_isHelped 60 = .ok (.iinc 3 1, 3) := dk_132 3 1 (dk_at dksX4_isHelped_2 14 rfl rfl)
theorem dX4_isHelped_63 : decode cX4_isHelped 63 = .ok (.goto (-59), 3) := dk_167 255 197 (dk_at dksX4_isHelped_2 17 rfl rfl)
theorem dX4_isHelped_66 : decode cX4_isHelped 66 = .ok (.iload_n 2, 1) := dk_28 (dk_at dksX4_isHelped_2 20 rfl rfl)
theorem dX4_isHelped_67 : decode cX4_isHelped 67 = .ok (.ireturn, 1) := dk_172 (dk_at dksX4_isHelped_2 21 rfl rfl)
abbrev cX4_judge : ByteArray := prog_29_method_97_code
def yX4_judge : MethodName := ⟨RX4, "judge", "(I)I"⟩
def dkwX4_judge_1 : List UInt8 := [167, 0, 19, 27, 4, 160, 0, 10, 42, 180, 1, 163, 167, 0, 7, 42, 180, 1, 166, 172]
abbrev dktX4_judge_1 : List UInt8 := dkwX4_judge_1 ++ []
def dkwX4_judge_0 : List UInt8 := [27, 3, 5, 184, 0, 135, 154, 0, 5, 2, 172, 42, 182, 1, 175, 27, 154, 0, 10, 42, 180, 1, 160]
abbrev dktX4_judge_0 : List UInt8 := dkwX4_judge_0 ++ dktX4_judge_1
theorem dksX4_judge_0 : cX4_judge.data.toList.drop 0 = dktX4_judge_0 := by decide +kernel
theorem dksX4_judge_1 : cX4_judge.data.toList.drop 23 = dktX4_judge_1 := dk_seg dksX4_judge_0 23 rfl rfl
theorem dX4_judge_0 : decode cX4_judge 0 = .ok (.iload_n 1, 1) := dk_27 (dk_at dksX4_judge_0 0 rfl rfl)
theorem dX4_judge_1 : decode cX4_judge 1 = .ok (.iconst 0, 1) := dk_3 (dk_at dksX4_judge_0 1 rfl rfl)
theorem dX4_judge_2 : decode cX4_judge 2 = .ok (.iconst 2, 1) := dk_5 (dk_at dksX4_judge_0 2 rfl rfl)
theorem dX4_judge_3 : decode cX4_judge 3 = .ok (.invokestatic 135, 3) := dk_184 0 135 (dk_at dksX4_judge_0 3 rfl rfl)
theorem dX4_judge_6 : decode cX4_judge 6 = .ok (.ifCond .ne 5, 3) := dk_154 0 5 (dk_at dksX4_judge_0 6 rfl rfl)
theorem dX4_judge_9 : decode cX4_judge 9 = .ok (.iconst (-1), 1) := dk_2 (dk_at dksX4_judge_0 9 rfl rfl)
theorem dX4_judge_10 : decode cX4_judge 10 = .ok (.ireturn, 1) := dk_172 (dk_at dksX4_judge_0 10 rfl rfl)
theorem dX4_judge_11 : decode cX4_judge 11 = .ok (.aload_n 0, 1) := dk_42 (dk_at dksX4_judge_0 11 rfl rfl)
theorem dX4_judge_12 : decode cX4_judge 12 = .ok (.invokevirtual 431, 3) := dk_182 1 175 (dk_at dksX4_judge_0 12 rfl rfl)
theorem dX4_judge_15 : decode cX4_judge 15 = .ok (.iload_n 1, 1) := dk_27 (dk_at dksX4_judge_0 15 rfl rfl)
theorem dX4_judge_16 : decode cX4_judge 16 = .ok (.ifCond .ne 10, 3) := dk_154 0 10 (dk_at dksX4_judge_0 16 rfl rfl)
theorem dX4_judge_19 : decode cX4_judge 19 = .ok (.aload_n 0, 1) := dk_42 (dk_at dksX4_judge_0 19 rfl rfl)
theorem dX4_judge_20 : decode cX4_judge 20 = .ok (.getfield 416, 3) := dk_180 1 160 (dk_at dksX4_judge_0 20 rfl rfl)
theorem dX4_judge_23 : decode cX4_judge 23 = .ok (.goto 19, 3) := dk_167 0 19 (dk_at dksX4_judge_1 0 rfl rfl)
theorem dX4_judge_26 : decode cX4_judge 26 = .ok (.iload_n 1, 1) := dk_27 (dk_at dksX4_judge_1 3 rfl rfl)
theorem dX4_judge_27 : decode cX4_judge 27 = .ok (.iconst 1, 1) := dk_4 (dk_at dksX4_judge_1 4 rfl rfl)
theorem dX4_judge_28 : decode cX4_judge 28 = .ok (.if_icmp .ne 10, 3) := dk_160 0 10 (dk_at dksX4_judge_1 5 rfl rfl)
theorem dX4_judge_31 : decode cX4_judge 31 = .ok (.aload_n 0, 1) := dk_42 (dk_at dksX4_judge_1 8 rfl rfl)
theorem dX4_judge_32 : decode cX4_judge 32 = .ok (.getfield 419, 3) := dk_180 1 163 (dk_at dksX4_judge_1 9 rfl rfl)
theorem dX4_judge_35 : decode cX4_judge 35 = .ok (.goto 7, 3) := dk_167 0 7 (dk_at dksX4_judge_1 12 rfl rfl)
theorem dX4_judge_38 : decode cX4_judge 38 = .ok (.aload_n 0, 1) := dk_42 (dk_at dksX4_judge_1 15 rfl rfl)
theorem dX4_judge_39 : decode cX4_judge 39 = .ok (.getfield 422, 3) := dk_180 1 166 (dk_at dksX4_judge_1 16 rfl rfl)
theorem dX4_judge_42 : decode cX4_judge 42 = .ok (.ireturn, 1) := dk_172 (dk_at dksX4_judge_1 19 rfl rfl)
abbrev cX4_learn : ByteArray := prog_29_method_98_code
def yX4_learn : MethodName := ⟨RX4, "learn", "()I"⟩
def dkwX4_learn_2 : List UInt8 := [3, 96, 60, 132, 2, 1, 167, 255, 210, 42, 27, 182, 0, 143, 172]
abbrev dktX4_learn_2 : List UInt8 := dkwX4_learn_2 ++ []
def dkwX4_learn_1 : List UInt8 := [96, 5, 96, 42, 180, 0, 96, 28, 46, 79, 27, 42, 180, 0, 96, 28, 46, 158, 0, 7, 4, 167, 0, 4]
abbrev dktX4_learn_1 : List UInt8 := dkwX4_learn_1 ++ dktX4_learn_2
def dkwX4_learn_0 : List UInt8 := [42, 182, 1, 175, 3, 60, 3, 61, 28, 42, 182, 0, 146, 162, 0, 44, 42, 180, 0, 20, 3, 8, 28, 104]
abbrev dktX4_learn_0 : List UInt8 := dkwX4_learn_0 ++ dktX4_learn_1
theorem dksX4_learn_0 : cX4_learn.data.toList.drop 0 = dktX4_learn_0 := by decide +kernel
theorem dksX4_learn_1 : cX4_learn.data.toList.drop 24 = dktX4_learn_1 := dk_seg dksX4_learn_0 24 rfl rfl
theorem dksX4_learn_2 : cX4_learn.data.toList.drop 48 = dktX4_learn_2 := dk_seg dksX4_learn_1 24 rfl rfl
theorem dX4_learn_0 : decode cX4_learn 0 = .ok (.aload_n 0, 1) := dk_42 (dk_at dksX4_learn_0 0 rfl rfl)
theorem dX4_learn_1 : decode cX4_learn 1 = .ok (.invokevirtual 431, 3) := dk_182 1 175 (dk_at dksX4_learn_0 1 rfl rfl)
theorem dX4_learn_4 : decode cX4_learn 4 = .ok (.iconst 0, 1) := dk_3 (dk_at dksX4_learn_0 4 rfl rfl)
theorem dX4_learn_5 : decode cX4_learn 5 = .ok (.istore_n 1, 1) := dk_60 (dk_at dksX4_learn_0 5 rfl rfl)
theorem dX4_learn_6 : decode cX4_learn 6 = .ok (.iconst 0, 1) := dk_3 (dk_at dksX4_learn_0 6 rfl rfl)
theorem dX4_learn_7 : decode cX4_learn 7 = .ok (.istore_n 2, 1) := dk_61 (dk_at dksX4_learn_0 7 rfl rfl)
theorem dX4_learn_8 : decode cX4_learn 8 = .ok (.iload_n 2, 1) := dk_28 (dk_at dksX4_learn_0 8 rfl rfl)
theorem dX4_learn_9 : decode cX4_learn 9 = .ok (.aload_n 0, 1) := dk_42 (dk_at dksX4_learn_0 9 rfl rfl)
theorem dX4_learn_10 : decode cX4_learn 10 = .ok (.invokevirtual 146, 3) := dk_182 0 146 (dk_at dksX4_learn_0 10 rfl rfl)
theorem dX4_learn_13 : decode cX4_learn 13 = .ok (.if_icmp .ge 44, 3) := dk_162 0 44 (dk_at dksX4_learn_0 13 rfl rfl)
theorem dX4_learn_16 : decode cX4_learn 16 = .ok (.aload_n 0, 1) := dk_42 (dk_at dksX4_learn_0 16 rfl rfl)
theorem dX4_learn_17 : decode cX4_learn 17 = .ok (.getfield 20, 3) := dk_180 0 20 (dk_at dksX4_learn_0 17 rfl rfl)
theorem dX4_learn_20 : decode cX4_learn 20 = .ok (.iconst 0, 1) := dk_3 (dk_at dksX4_learn_0 20 rfl rfl)
theorem dX4_learn_21 : decode cX4_learn 21 = .ok (.iconst 5, 1) := dk_8 (dk_at dksX4_learn_0 21 rfl rfl)
theorem dX4_learn_22 : decode cX4_learn 22 = .ok (.iload_n 2, 1) := dk_28 (dk_at dksX4_learn_0 22 rfl rfl)
theorem dX4_learn_23 : decode cX4_learn 23 = .ok (.imul, 1) := dk_104 (dk_at dksX4_learn_0 23 rfl rfl)
theorem dX4_learn_24 : decode cX4_learn 24 = .ok (.iadd, 1) := dk_96 (dk_at dksX4_learn_1 0 rfl rfl)
theorem dX4_learn_25 : decode cX4_learn 25 = .ok (.iconst 2, 1) := dk_5 (dk_at dksX4_learn_1 1 rfl rfl)
theorem dX4_learn_26 : decode cX4_learn 26 = .ok (.iadd, 1) := dk_96 (dk_at dksX4_learn_1 2 rfl rfl)
theorem dX4_learn_27 : decode cX4_learn 27 = .ok (.aload_n 0, 1) := dk_42 (dk_at dksX4_learn_1 3 rfl rfl)
theorem dX4_learn_28 : decode cX4_learn 28 = .ok (.getfield 96, 3) := dk_180 0 96 (dk_at dksX4_learn_1 4 rfl rfl)
theorem dX4_learn_31 : decode cX4_learn 31 = .ok (.iload_n 2, 1) := dk_28 (dk_at dksX4_learn_1 7 rfl rfl)
theorem dX4_learn_32 : decode cX4_learn 32 = .ok (.iaload, 1) := dk_46 (dk_at dksX4_learn_1 8 rfl rfl)
theorem dX4_learn_33 : decode cX4_learn 33 = .ok (.iastore, 1) := dk_79 (dk_at dksX4_learn_1 9 rfl rfl)
theorem dX4_learn_34 : decode cX4_learn 34 = .ok (.iload_n 1, 1) := dk_27 (dk_at dksX4_learn_1 10 rfl rfl)
theorem dX4_learn_35 : decode cX4_learn 35 = .ok (.aload_n 0, 1) := dk_42 (dk_at dksX4_learn_1 11 rfl rfl)
theorem dX4_learn_36 : decode cX4_learn 36 = .ok (.getfield 96, 3) := dk_180 0 96 (dk_at dksX4_learn_1 12 rfl rfl)
theorem dX4_learn_39 : decode cX4_learn 39 = .ok (.iload_n 2, 1) := dk_28 (dk_at dksX4_learn_1 15 rfl rfl)
theorem dX4_learn_40 : decode cX4_learn 40 = .ok (.iaload, 1) := dk_46 (dk_at dksX4_learn_1 16 rfl rfl)
theorem dX4_learn_41 : decode cX4_learn 41 = .ok (.ifCond .le 7, 3) := dk_158 0 7 (dk_at dksX4_learn_1 17 rfl rfl)
theorem dX4_learn_44 : decode cX4_learn 44 = .ok (.iconst 1, 1) := dk_4 (dk_at dksX4_learn_1 20 rfl rfl)
theorem dX4_learn_45 : decode cX4_learn 45 = .ok (.goto 4, 3) := dk_167 0 4 (dk_at dksX4_learn_1 21 rfl rfl)
theorem dX4_learn_48 : decode cX4_learn 48 = .ok (.iconst 0, 1) := dk_3 (dk_at dksX4_learn_2 0 rfl rfl)
theorem dX4_learn_49 : decode cX4_learn 49 = .ok (.iadd, 1) := dk_96 (dk_at dksX4_learn_2 1 rfl rfl)
theorem dX4_learn_50 : decode cX4_learn 50 = .ok (.istore_n 1, 1) := dk_60 (dk_at dksX4_learn_2 2 rfl rfl)
theorem dX4_learn_51 : decode cX4_learn 51 = .ok (.iinc 2 1, 3) := dk_132 2 1 (dk_at dksX4_learn_2 3 rfl rfl)
theorem dX4_learn_54 : decode cX4_learn 54 = .ok (.goto (-46), 3) := dk_167 255 210 (dk_at dksX4_learn_2 6 rfl rfl)
theorem dX4_learn_57 : decode cX4_learn 57 = .ok (.aload_n 0, 1) := dk_42 (dk_at dksX4_learn_2 9 rfl rfl)
theorem dX4_learn_58 : decode cX4_learn 58 = .ok (.iload_n 1, 1) := dk_27 (dk_at dksX4_learn_2 10 rfl rfl)
theorem dX4_learn_59 : decode cX4_learn 59 = .ok (.invokevirtual 143, 3) := dk_182 0 143 (dk_at dksX4_learn_2 11 rfl rfl)
theorem dX4_learn_62 : decode cX4_learn 62 = .ok (.ireturn, 1) := dk_172 (dk_at dksX4_learn_2 14 rfl rfl)
abbrev cX4_backward : ByteArray := prog_29_method_101_code
def yX4_backward : MethodName := ⟨RX4, "backward", "(II)I"⟩
def dkwX4_backward_2 : List UInt8 := [28, 4, 160, 0, 10, 42, 180, 1, 184, 167, 0, 7, 42, 180, 1, 187, 172]
abbrev dktX4_backward_2 : List UInt8 := dkwX4_backward_2 ++ []
def dkwX4_backward_1 : List UInt8 := [42, 182, 1, 194, 27, 2, 159, 0, 18, 42, 180, 0, 102, 5, 27, 104, 28, 96, 4, 100, 46, 167, 0, 19]
abbrev dktX4_backward_1 : List UInt8 := dkwX4_backward_1 ++ dktX4_backward_2
def dkwX4_backward_0 : List UInt8 := [27, 2, 159, 0, 11, 42, 27, 182, 0, 158, 153, 0, 12, 28, 4, 5, 184, 0, 135, 154, 0, 5, 2, 172]
abbrev dktX4_backward_0 : List UInt8 := dkwX4_backward_0 ++ dktX4_backward_1
theorem dksX4_backward_0 : cX4_backward.data.toList.drop 0 = dktX4_backward_0 := by decide +kernel
theorem dksX4_backward_1 : cX4_backward.data.toList.drop 24 = dktX4_backward_1 := dk_seg dksX4_backward_0 24 rfl rfl
theorem dksX4_backward_2 : cX4_backward.data.toList.drop 48 = dktX4_backward_2 := dk_seg dksX4_backward_1 24 rfl rfl
theorem dX4_backward_0 : decode cX4_backward 0 = .ok (.iload_n 1, 1) := dk_27 (dk_at dksX4_backward_0 0 rfl rfl)
theorem dX4_backward_1 : decode cX4_backward 1 = .ok (.iconst (-1), 1) := dk_2 (dk_at dksX4_backward_0 1 rfl rfl)
theorem dX4_backward_2 : decode cX4_backward 2 = .ok (.if_icmp .eq 11, 3) := dk_159 0 11 (dk_at dksX4_backward_0 2 rfl rfl)
theorem dX4_backward_5 : decode cX4_backward 5 = .ok (.aload_n 0, 1) := dk_42 (dk_at dksX4_backward_0 5 rfl rfl)
theorem dX4_backward_6 : decode cX4_backward 6 = .ok (.iload_n 1, 1) := dk_27 (dk_at dksX4_backward_0 6 rfl rfl)
theorem dX4_backward_7 : decode cX4_backward 7 = .ok (.invokevirtual 158, 3) := dk_182 0 158 (dk_at dksX4_backward_0 7 rfl rfl)
theorem dX4_backward_10 : decode cX4_backward 10 = .ok (.ifCond .eq 12, 3) := dk_153 0 12 (dk_at dksX4_backward_0 10 rfl rfl)
theorem dX4_backward_13 : decode cX4_backward 13 = .ok (.iload_n 2, 1) := dk_28 (dk_at dksX4_backward_0 13 rfl rfl)
theorem dX4_backward_14 : decode cX4_backward 14 = .ok (.iconst 1, 1) := dk_4 (dk_at dksX4_backward_0 14 rfl rfl)
theorem dX4_backward_15 : decode cX4_backward 15 = .ok (.iconst 2, 1) := dk_5 (dk_at dksX4_backward_0 15 rfl rfl)
theorem dX4_backward_16 : decode cX4_backward 16 = .ok (.invokestatic 135, 3) := dk_184 0 135 (dk_at dksX4_backward_0 16 rfl rfl)
theorem dX4_backward_19 : decode cX4_backward 19 = .ok (.ifCond .ne 5, 3) := dk_154 0 5 (dk_at dksX4_backward_0 19 rfl rfl)
theorem dX4_backward_22 : decode cX4_backward 22 = .ok (.iconst (-1), 1) := dk_2 (dk_at dksX4_backward_0 22 rfl rfl)
theorem dX4_backward_23 : decode cX4_backward 23 = .ok (.ireturn, 1) := dk_172 (dk_at dksX4_backward_0 23 rfl rfl)
theorem dX4_backward_24 : decode cX4_backward 24 = .ok (.aload_n 0, 1) := dk_42 (dk_at dksX4_backward_1 0 rfl rfl)
theorem dX4_backward_25 : decode cX4_backward 25 = .ok (.invokevirtual 450, 3) := dk_182 1 194 (dk_at dksX4_backward_1 1 rfl rfl)
theorem dX4_backward_28 : decode cX4_backward 28 = .ok (.iload_n 1, 1) := dk_27 (dk_at dksX4_backward_1 4 rfl rfl)
theorem dX4_backward_29 : decode cX4_backward 29 = .ok (.iconst (-1), 1) := dk_2 (dk_at dksX4_backward_1 5 rfl rfl)
theorem dX4_backward_30 : decode cX4_backward 30 = .ok (.if_icmp .eq 18, 3) := dk_159 0 18 (dk_at dksX4_backward_1 6 rfl rfl)
theorem dX4_backward_33 : decode cX4_backward 33 = .ok (.aload_n 0, 1) := dk_42 (dk_at dksX4_backward_1 9 rfl rfl)
theorem dX4_backward_34 : decode cX4_backward 34 = .ok (.getfield 102, 3) := dk_180 0 102 (dk_at dksX4_backward_1 10 rfl rfl)
theorem dX4_backward_37 : decode cX4_backward 37 = .ok (.iconst 2, 1) := dk_5 (dk_at dksX4_backward_1 13 rfl rfl)
theorem dX4_backward_38 : decode cX4_backward 38 = .ok (.iload_n 1, 1) := dk_27 (dk_at dksX4_backward_1 14 rfl rfl)
theorem dX4_backward_39 : decode cX4_backward 39 = .ok (.imul, 1) := dk_104 (dk_at dksX4_backward_1 15 rfl rfl)
theorem dX4_backward_40 : decode cX4_backward 40 = .ok (.iload_n 2, 1) := dk_28 (dk_at dksX4_backward_1 16 rfl rfl)
theorem dX4_backward_41 : decode cX4_backward 41 = .ok (.iadd, 1) := dk_96 (dk_at dksX4_backward_1 17 rfl rfl)
theorem dX4_backward_42 : decode cX4_backward 42 = .ok (.iconst 1, 1) := dk_4 (dk_at dksX4_backward_1 18 rfl rfl)
theorem dX4_backward_43 : decode cX4_backward 43 = .ok (.isub, 1) := dk_100 (dk_at dksX4_backward_1 19 rfl rfl)
theorem dX4_backward_44 : decode cX4_backward 44 = .ok (.iaload, 1) := dk_46 (dk_at dksX4_backward_1 20 rfl rfl)
theorem dX4_backward_45 : decode cX4_backward 45 = .ok (.goto 19, 3) := dk_167 0 19 (dk_at dksX4_backward_1 21 rfl rfl)
theorem dX4_backward_48 : decode cX4_backward 48 = .ok (.iload_n 2, 1) := dk_28 (dk_at dksX4_backward_2 0 rfl rfl)
theorem dX4_backward_49 : decode cX4_backward 49 = .ok (.iconst 1, 1) := dk_4 (dk_at dksX4_backward_2 1 rfl rfl)
theorem dX4_backward_50 : decode cX4_backward 50 = .ok (.if_icmp .ne 10, 3) := dk_160 0 10 (dk_at dksX4_backward_2 2 rfl rfl)
theorem dX4_backward_53 : decode cX4_backward 53 = .ok (.aload_n 0, 1) := dk_42 (dk_at dksX4_backward_2 5 rfl rfl)
theorem dX4_backward_54 : decode cX4_backward 54 = .ok (.getfield 440, 3) := dk_180 1 184 (dk_at dksX4_backward_2 6 rfl rfl)
theorem dX4_backward_57 : decode cX4_backward 57 = .ok (.goto 7, 3) := dk_167 0 7 (dk_at dksX4_backward_2 9 rfl rfl)
theorem dX4_backward_60 : decode cX4_backward 60 = .ok (.aload_n 0, 1) := dk_42 (dk_at dksX4_backward_2 12 rfl rfl)
theorem dX4_backward_61 : decode cX4_backward 61 = .ok (.getfield 443, 3) := dk_180 1 187 (dk_at dksX4_backward_2 13 rfl rfl)
theorem dX4_backward_64 : decode cX4_backward 64 = .ok (.ireturn, 1) := dk_172 (dk_at dksX4_backward_2 16 rfl rfl)
abbrev cX4_laysBackward : ByteArray := prog_29_method_100_code
def yX4_laysBackward : MethodName := ⟨RX4, "laysBackward", "()V"⟩
def dkwX4_laysBackward_8 : List UInt8 := [96, 46, 182, 1, 190, 132, 3, 1, 167, 255, 160, 132, 1, 255, 167, 255, 146, 177]
abbrev dktX4_laysBackward_8 : List UInt8 := dkwX4_laysBackward_8 ++ []
def dkwX4_laysBackward_7 : List UInt8 := [21, 4, 104, 96, 4, 96, 46, 182, 1, 190, 42, 29, 4, 42, 180, 0, 81, 7, 29, 104, 5, 21, 4, 104]
abbrev dktX4_laysBackward_7 : List UInt8 := dkwX4_laysBackward_7 ++ dktX4_laysBackward_8
def dkwX4_laysBackward_6 : List UInt8 := [27, 159, 0, 6, 167, 0, 48, 27, 5, 160, 0, 24, 42, 29, 5, 42, 180, 0, 81, 7, 29, 104, 5]
abbrev dktX4_laysBackward_6 : List UInt8 := dkwX4_laysBackward_6 ++ dktX4_laysBackward_7
def dkwX4_laysBackward_5 : List UInt8 := [167, 0, 76, 42, 29, 28, 182, 1, 128, 54, 4, 42, 29, 28, 182, 1, 131, 61, 42, 180, 0, 87, 29, 46]
abbrev dktX4_laysBackward_5 : List UInt8 := dkwX4_laysBackward_5 ++ dktX4_laysBackward_6
def dkwX4_laysBackward_4 : List UInt8 := [158, 0, 112, 3, 61, 3, 62, 29, 42, 182, 0, 146, 162, 0, 94, 42, 180, 0, 87, 29, 46, 157, 0, 6]
abbrev dktX4_laysBackward_4 : List UInt8 := dkwX4_laysBackward_4 ++ dktX4_laysBackward_5
def dkwX4_laysBackward_3 : List UInt8 := [100, 181, 1, 181, 42, 3, 181, 1, 184, 42, 2, 181, 1, 187, 42, 3, 181, 1, 178, 5, 60, 27]
abbrev dktX4_laysBackward_3 : List UInt8 := dkwX4_laysBackward_3 ++ dktX4_laysBackward_4
def dkwX4_laysBackward_2 : List UInt8 := [180, 0, 105, 27, 42, 16, 6, 182, 1, 62, 79, 132, 1, 1, 167, 255, 235, 42, 42, 8, 182, 1, 62, 4]
abbrev dktX4_laysBackward_2 : List UInt8 := dkwX4_laysBackward_2 ++ dktX4_laysBackward_3
def dkwX4_laysBackward_1 : List UInt8 := [42, 180, 0, 102, 27, 2, 79, 132, 1, 1, 167, 255, 240, 3, 60, 27, 16, 20, 162, 0, 21, 42]
abbrev dktX4_laysBackward_1 : List UInt8 := dkwX4_laysBackward_1 ++ dktX4_laysBackward_2
def dkwX4_laysBackward_0 : List UInt8 := [42, 42, 8, 182, 1, 62, 42, 16, 6, 182, 1, 62, 104, 182, 1, 157, 3, 60, 27, 16, 40, 162, 0, 16]
abbrev dktX4_laysBackward_0 : List UInt8 := dkwX4_laysBackward_0 ++ dktX4_laysBackward_1
theorem dksX4_laysBackward_0 : cX4_laysBackward.data.toList.drop 0 = dktX4_laysBackward_0 := by decide +kernel
theorem dksX4_laysBackward_1 : cX4_laysBackward.data.toList.drop 24 = dktX4_laysBackward_1 := dk_seg dksX4_laysBackward_0 24 rfl rfl
theorem dksX4_laysBackward_2 : cX4_laysBackward.data.toList.drop 46 = dktX4_laysBackward_2 := dk_seg dksX4_laysBackward_1 22 rfl rfl
theorem dksX4_laysBackward_3 : cX4_laysBackward.data.toList.drop 70 = dktX4_laysBackward_3 := dk_seg dksX4_laysBackward_2 24 rfl rfl
theorem dksX4_laysBackward_4 : cX4_laysBackward.data.toList.drop 92 = dktX4_laysBackward_4 := dk_seg dksX4_laysBackward_3 22 rfl rfl
theorem dksX4_laysBackward_5 : cX4_laysBackward.data.toList.drop 116 = dktX4_laysBackward_5 := dk_seg dksX4_laysBackward_4 24 rfl rfl
theorem dksX4_laysBackward_6 : cX4_laysBackward.data.toList.drop 140 = dktX4_laysBackward_6 := dk_seg dksX4_laysBackward_5 24 rfl rfl
theorem dksX4_laysBackward_7 : cX4_laysBackward.data.toList.drop 163 = dktX4_laysBackward_7 := dk_seg dksX4_laysBackward_6 23 rfl rfl
theorem dksX4_laysBackward_8 : cX4_laysBackward.data.toList.drop 187 = dktX4_laysBackward_8 := dk_seg dksX4_laysBackward_7 24 rfl rfl
theorem dX4_laysBackward_0 : decode cX4_laysBackward 0 = .ok (.aload_n 0, 1) := dk_42 (dk_at dksX4_laysBackward_0 0 rfl rfl)
theorem dX4_laysBackward_1 : decode cX4_laysBackward 1 = .ok (.aload_n 0, 1) := dk_42 (dk_at dksX4_laysBackward_0 1 rfl rfl)
theorem dX4_laysBackward_2 : decode cX4_laysBackward 2 = .ok (.iconst 5, 1) := dk_8 (dk_at dksX4_laysBackward_0 2 rfl rfl)
theorem dX4_laysBackward_3 : decode cX4_laysBackward 3 = .ok (.invokevirtual 318, 3) := dk_182 1 62 (dk_at dksX4_laysBackward_0 3 rfl rfl)
theorem dX4_laysBackward_6 : decode cX4_laysBackward 6 = .ok (.aload_n 0, 1) := dk_42 (dk_at dksX4_laysBackward_0 6 rfl rfl)
theorem dX4_laysBackward_7 : decode cX4_laysBackward 7 = .ok (.bipush 6, 2) := dk_16 6 (dk_at dksX4_laysBackward_0 7 rfl rfl)
theorem dX4_laysBackward_9 : decode cX4_laysBackward 9 = .ok (.invokevirtual 318, 3) := dk_182 1 62 (dk_at dksX4_laysBackward_0 9 rfl rfl)
theorem dX4_laysBackward_12 : decode cX4_laysBackward 12 = .ok (.imul, 1) := dk_104 (dk_at dksX4_laysBackward_0 12 rfl rfl)
theorem dX4_laysBackward_13 : decode cX4_laysBackward 13 = .ok (.invokevirtual 413, 3) := dk_182 1 157 (dk_at dksX4_laysBackward_0 13 rfl rfl)
theorem dX4_laysBackward_16 : decode cX4_laysBackward 16 = .ok (.iconst 0, 1) := dk_3 (dk_at dksX4_laysBackward_0 16 rfl rfl)
theorem dX4_laysBackward_17 : decode cX4_laysBackward 17 = .ok (.istore_n 1, 1) := dk_60 (dk_at dksX4_laysBackward_0 17 rfl rfl)
theorem dX4_laysBackward_18 : decode cX4_laysBackward 18 = .ok (.iload_n 1, 1) := dk_27 (dk_at dksX4_laysBackward_0 18 rfl rfl)
theorem dX4_laysBackward_19 : decode cX4_laysBackward 19 = .ok (.bipush 40, 2) := dk_16 40 (dk_at dksX4_laysBackward_0 19 rfl rfl)
theorem dX4_laysBackward_21 : decode cX4_laysBackward 21 = .ok (.if_icmp .ge 16, 3) := dk_162 0 16 (dk_at dksX4_laysBackward_0 21 rfl rfl)
theorem dX4_laysBackward_24 : decode cX4_laysBackward 24 = .ok (.aload_n 0, 1) := dk_42 (dk_at dksX4_laysBackward_1 0 rfl rfl)
theorem dX4_laysBackward_25 : decode cX4_laysBackward 25 = .ok (.getfield 102, 3) := dk_180 0 102 (dk_at dksX4_laysBackward_1 1 rfl rfl)
theorem dX4_laysBackward_28 : decode cX4_laysBackward 28 = .ok (.iload_n 1, 1) := dk_27 (dk_at dksX4_laysBackward_1 4 rfl rfl)
theorem dX4_laysBackward_29 : decode cX4_laysBackward 29 = .ok (.iconst (-1), 1) := dk_2 (dk_at dksX4_laysBackward_1 5 rfl rfl)
theorem dX4_laysBackward_30 : decode cX4_laysBackward 30 = .ok (.iastore, 1) := dk_79 (dk_at dksX4_laysBackward_1 6 rfl rfl)
theorem dX4_laysBackward_31 : decode cX4_laysBackward 31 = .ok (.iinc 1 1, 3) := dk_132 1 1 (dk_at dksX4_laysBackward_1 7 rfl rfl)
theorem dX4_laysBackward_34 : decode cX4_laysBackward 34 = .ok (.goto (-16), 3) := dk_167 255 240 (dk_at dksX4_laysBackward_1 10 rfl rfl)
theorem dX4_laysBackward_37 : decode cX4_laysBackward 37 = .ok (.iconst 0, 1) := dk_3 (dk_at dksX4_laysBackward_1 13 rfl rfl)
theorem dX4_laysBackward_38 : decode cX4_laysBackward 38 = .ok (.istore_n 1, 1) := dk_60 (dk_at dksX4_laysBackward_1 14 rfl rfl)
theorem dX4_laysBackward_39 : decode cX4_laysBackward 39 = .ok (.iload_n 1, 1) := dk_27 (dk_at dksX4_laysBackward_1 15 rfl rfl)
theorem dX4_laysBackward_40 : decode cX4_laysBackward 40 = .ok (.bipush 20, 2) := dk_16 20 (dk_at dksX4_laysBackward_1 16 rfl rfl)
theorem dX4_laysBackward_42 : decode cX4_laysBackward 42 = .ok (.if_icmp .ge 21, 3) := dk_162 0 21 (dk_at dksX4_laysBackward_1 18 rfl rfl)
theorem dX4_laysBackward_45 : decode cX4_laysBackward 45 = .ok (.aload_n 0, 1) := dk_42 (dk_at dksX4_laysBackward_1 21 rfl rfl)
theorem dX4_laysBackward_46 : decode cX4_laysBackward 46 = .ok (.getfield 105, 3) := dk_180 0 105 (dk_at dksX4_laysBackward_2 0 rfl rfl)
theorem dX4_laysBackward_49 : decode cX4_laysBackward 49 = .ok (.iload_n 1, 1) := dk_27 (dk_at dksX4_laysBackward_2 3 rfl rfl)
theorem dX4_laysBackward_50 : decode cX4_laysBackward 50 = .ok (.aload_n 0, 1) := dk_42 (dk_at dksX4_laysBackward_2 4 rfl rfl)
theorem dX4_laysBackward_51 : decode cX4_laysBackward 51 = .ok (.bipush 6, 2) := dk_16 6 (dk_at dksX4_laysBackward_2 5 rfl rfl)
theorem dX4_laysBackward_53 : decode cX4_laysBackward 53 = .ok (.invokevirtual 318, 3) := dk_182 1 62 (dk_at dksX4_laysBackward_2 7 rfl rfl)
theorem dX4_laysBackward_56 : decode cX4_laysBackward 56 = .ok (.iastore, 1) := dk_79 (dk_at dksX4_laysBackward_2 10 rfl rfl)
theorem dX4_laysBackward_57 : decode cX4_laysBackward 57 = .ok (.iinc 1 1, 3) := dk_132 1 1 (dk_at dksX4_laysBackward_2 11 rfl rfl)
theorem dX4_laysBackward_60 : decode cX4_laysBackward 60 = .ok (.goto (-21), 3) := dk_167 255 235 (dk_at dksX4_laysBackward_2 14 rfl rfl)
theorem dX4_laysBackward_63 : decode cX4_laysBackward 63 = .ok (.aload_n 0, 1) := dk_42 (dk_at dksX4_laysBackward_2 17 rfl rfl)
theorem dX4_laysBackward_64 : decode cX4_laysBackward 64 = .ok (.aload_n 0, 1) := dk_42 (dk_at dksX4_laysBackward_2 18 rfl rfl)
theorem dX4_laysBackward_65 : decode cX4_laysBackward 65 = .ok (.iconst 5, 1) := dk_8 (dk_at dksX4_laysBackward_2 19 rfl rfl)
theorem dX4_laysBackward_66 : decode cX4_laysBackward 66 = .ok (.invokevirtual 318, 3) := dk_182 1 62 (dk_at dksX4_laysBackward_2 20 rfl rfl)
theorem dX4_laysBackward_69 : decode cX4_laysBackward 69 = .ok (.iconst 1, 1) := dk_4 (dk_at dksX4_laysBackward_2 23 rfl rfl)
theorem dX4_laysBackward_70 : decode cX4_laysBackward 70 = .ok (.isub, 1) := dk_100 (dk_at dksX4_laysBackward_3 0 rfl rfl)
theorem dX4_laysBackward_71 : decode cX4_laysBackward 71 = .ok (.putfield 437, 3) := dk_181 1 181 (dk_at dksX4_laysBackward_3 1 rfl rfl)
theorem dX4_laysBackward_74 : decode cX4_laysBackward 74 = .ok (.aload_n 0, 1) := dk_42 (dk_at dksX4_laysBackward_3 4 rfl rfl)
theorem dX4_laysBackward_75 : decode cX4_laysBackward 75 = .ok (.iconst 0, 1) := dk_3 (dk_at dksX4_laysBackward_3 5 rfl rfl)
theorem dX4_laysBackward_76 : decode cX4_laysBackward 76 = .ok (.putfield 440, 3) := dk_181 1 184 (dk_at dksX4_laysBackward_3 6 rfl rfl)
theorem dX4_laysBackward_79 : decode cX4_laysBackward 79 = .ok (.aload_n 0, 1) := dk_42 (dk_at dksX4_laysBackward_3 9 rfl rfl)
theorem dX4_laysBackward_80 : decode cX4_laysBackward 80 = .ok (.iconst (-1), 1) := dk_2 (dk_at dksX4_laysBackward_3 10 rfl rfl)
theorem dX4_laysBackward_81 : decode cX4_laysBackward 81 = .ok (.putfield 443, 3) := dk_181 1 187 (dk_at dksX4_laysBackward_3 11 rfl rfl)
theorem dX4_laysBackward_84 : decode cX4_laysBackward 84 = .ok (.aload_n 0, 1) := dk_42 (dk_at dksX4_laysBackward_3 14 rfl rfl)
theorem dX4_laysBackward_85 : decode cX4_laysBackward 85 = .ok (.iconst 0, 1) := dk_3 (dk_at dksX4_laysBackward_3 15 rfl rfl)
theorem dX4_laysBackward_86 : decode cX4_laysBackward 86 = .ok (.putfield 434, 3) := dk_181 1 178 (dk_at dksX4_laysBackward_3 16 rfl rfl)
theorem dX4_laysBackward_89 : decode cX4_laysBackward 89 = .ok (.iconst 2, 1) := dk_5 (dk_at dksX4_laysBackward_3 19 rfl rfl)
theorem dX4_laysBackward_90 : decode cX4_laysBackward 90 = .ok (.istore_n 1, 1) := dk_60 (dk_at dksX4_laysBackward_3 20 rfl rfl)
theorem dX4_laysBackward_91 : decode cX4_laysBackward 91 = .ok (.iload_n 1, 1) := dk_27 (dk_at dksX4_laysBackward_3 21 rfl rfl)
theorem dX4_laysBackward_92 : decode cX4_laysBackward 92 = .ok (.ifCond .le 112, 3) := dk_158 0 112 (dk_at dksX4_laysBackward_4 0 rfl rfl)
theorem dX4_laysBackward_95 : decode cX4_laysBackward 95 = .ok (.iconst 0, 1) := dk_3 (dk_at dksX4_laysBackward_4 3 rfl rfl)
theorem dX4_laysBackward_96 : decode cX4_laysBackward 96 = .ok (.istore_n 2, 1) := dk_61 (dk_at dksX4_laysBackward_4 4 rfl rfl)
theorem dX4_laysBackward_97 : decode cX4_laysBackward 97 = .ok (.iconst 0, 1) := dk_3 (dk_at dksX4_laysBackward_4 5 rfl rfl)
theorem dX4_laysBackward_98 : decode cX4_laysBackward 98 = .ok (.istore_n 3, 1) := dk_62 (dk_at dksX4_laysBackward_4 6 rfl rfl)
theorem dX4_laysBackward_99 : decode cX4_laysBackward 99 = .ok (.iload_n 3, 1) := dk_29 (dk_at dksX4_laysBackward_4 7 rfl rfl)
theorem dX4_laysBackward_100 : decode cX4_laysBackward 100 = .ok (.aload_n 0, 1) := dk_42 (dk_at dksX4_laysBackward_4 8 rfl rfl)
theorem dX4_laysBackward_101 : decode cX4_laysBackward 101 = .ok (.invokevirtual 146, 3) := dk_182 0 146 (dk_at dksX4_laysBackward_4 9 rfl rfl)
theorem dX4_laysBackward_104 : decode cX4_laysBackward 104 = .ok (.if_icmp .ge 94, 3) := dk_162 0 94 (dk_at dksX4_laysBackward_4 12 rfl rfl)
theorem dX4_laysBackward_107 : decode cX4_laysBackward 107 = .ok (.aload_n 0, 1) := dk_42 (dk_at dksX4_laysBackward_4 15 rfl rfl)
theorem dX4_laysBackward_108 : decode cX4_laysBackward 108 = .ok (.getfield 87, 3) := dk_180 0 87 (dk_at dksX4_laysBackward_4 16 rfl rfl)
theorem dX4_laysBackward_111 : decode cX4_laysBackward 111 = .ok (.iload_n 3, 1) := dk_29 (dk_at dksX4_laysBackward_4 19 rfl rfl)
theorem dX4_laysBackward_112 : decode cX4_laysBackward 112 = .ok (.iaload, 1) := dk_46 (dk_at dksX4_laysBackward_4 20 rfl rfl)
theorem dX4_laysBackward_113 : decode cX4_laysBackward 113 = .ok (.ifCond .gt 6, 3) := dk_157 0 6 (dk_at dksX4_laysBackward_4 21 rfl rfl)
theorem dX4_laysBackward_116 : decode cX4_laysBackward 116 = .ok (.goto 76, 3) := dk_167 0 76 (dk_at dksX4_laysBackward_5 0 rfl rfl)
theorem dX4_laysBackward_119 : decode cX4_laysBackward 119 = .ok (.aload_n 0, 1) := dk_42 (dk_at dksX4_laysBackward_5 3 rfl rfl)
theorem dX4_laysBackward_120 : decode cX4_laysBackward 120 = .ok (.iload_n 3, 1) := dk_29 (dk_at dksX4_laysBackward_5 4 rfl rfl)
theorem dX4_laysBackward_121 : decode cX4_laysBackward 121 = .ok (.iload_n 2, 1) := dk_28 (dk_at dksX4_laysBackward_5 5 rfl rfl)
theorem dX4_laysBackward_122 : decode cX4_laysBackward 122 = .ok (.invokevirtual 384, 3) := dk_182 1 128 (dk_at dksX4_laysBackward_5 6 rfl rfl)
theorem dX4_laysBackward_125 : decode cX4_laysBackward 125 = .ok (.istore 4, 2) := dk_54 4 (dk_at dksX4_laysBackward_5 9 rfl rfl)
theorem dX4_laysBackward_127 : decode cX4_laysBackward 127 = .ok (.aload_n 0, 1) := dk_42 (dk_at dksX4_laysBackward_5 11 rfl rfl)
theorem dX4_laysBackward_128 : decode cX4_laysBackward 128 = .ok (.iload_n 3, 1) := dk_29 (dk_at dksX4_laysBackward_5 12 rfl rfl)
theorem dX4_laysBackward_129 : decode cX4_laysBackward 129 = .ok (.iload_n 2, 1) := dk_28 (dk_at dksX4_laysBackward_5 13 rfl rfl)
theorem dX4_laysBackward_130 : decode cX4_laysBackward 130 = .ok (.invokevirtual 387, 3) := dk_182 1 131 (dk_at dksX4_laysBackward_5 14 rfl rfl)
theorem dX4_laysBackward_133 : decode cX4_laysBackward 133 = .ok (.istore_n 2, 1) := dk_61 (dk_at dksX4_laysBackward_5 17 rfl rfl)
theorem dX4_laysBackward_134 : decode cX4_laysBackward 134 = .ok (.aload_n 0, 1) := dk_42 (dk_at dksX4_laysBackward_5 18 rfl rfl)
theorem dX4_laysBackward_135 : decode cX4_laysBackward 135 = .ok (.getfield 87, 3) := dk_180 0 87 (dk_at dksX4_laysBackward_5 19 rfl rfl)
theorem dX4_laysBackward_138 : decode cX4_laysBackward 138 = .ok (.iload_n 3, 1) := dk_29 (dk_at dksX4_laysBackward_5 22 rfl rfl)
theorem dX4_laysBackward_139 : decode cX4_laysBackward 139 = .ok (.iaload, 1) := dk_46 (dk_at dksX4_laysBackward_5 23 rfl rfl)
theorem dX4_laysBackward_140 : decode cX4_laysBackward 140 = .ok (.iload_n 1, 1) := dk_27 (dk_at dksX4_laysBackward_6 0 rfl rfl)
theorem dX4_laysBackward_141 : decode cX4_laysBackward 141 = .ok (.if_icmp .eq 6, 3) := dk_159 0 6 (dk_at dksX4_laysBackward_6 1 rfl rfl)
theorem dX4_laysBackward_144 : decode cX4_laysBackward 144 = .ok (.goto 48, 3) := dk_167 0 48 (dk_at dksX4_laysBackward_6 4 rfl rfl)
theorem dX4_laysBackward_147 : decode cX4_laysBackward 147 = .ok (.iload_n 1, 1) := dk_27 (dk_at dksX4_laysBackward_6 7 rfl rfl)
theorem dX4_laysBackward_148 : decode cX4_laysBackward 148 = .ok (.iconst 2, 1) := dk_5 (dk_at dksX4_laysBackward_6 8 rfl rfl)
theorem dX4_laysBackward_149 : decode cX4_laysBackward 149 = .ok (.if_icmp .ne 24, 3) := dk_160 0 24 (dk_at dksX4_laysBackward_6 9 rfl rfl)
theorem dX4_laysBackward_152 : decode cX4_laysBackward 152 = .ok (.aload_n 0, 1) := dk_42 (dk_at dksX4_laysBackward_6 12 rfl rfl)
theorem dX4_laysBackward_153 : decode cX4_laysBackward 153 = .ok (.iload_n 3, 1) := dk_29 (dk_at dksX4_laysBackward_6 13 rfl rfl)
theorem dX4_laysBackward_154 : decode cX4_laysBackward 154 = .ok (.iconst 2, 1) := dk_5 (dk_at dksX4_laysBackward_6 14 rfl rfl)
theorem dX4_laysBackward_155 : decode cX4_laysBackward 155 = .ok (.aload_n 0, 1) := dk_42 (dk_at dksX4_laysBackward_6 15 rfl rfl)
theorem dX4_laysBackward_156 : decode cX4_laysBackward 156 = .ok (.getfield 81, 3) := dk_180 0 81 (dk_at dksX4_laysBackward_6 16 rfl rfl)
theorem dX4_laysBackward_159 : decode cX4_laysBackward 159 = .ok (.iconst 4, 1) := dk_7 (dk_at dksX4_laysBackward_6 19 rfl rfl)
theorem dX4_laysBackward_160 : decode cX4_laysBackward 160 = .ok (.iload_n 3, 1) := dk_29 (dk_at dksX4_laysBackward_6 20 rfl rfl)
theorem dX4_laysBackward_161 : decode cX4_laysBackward 161 = .ok (.imul, 1) := dk_104 (dk_at dksX4_laysBackward_6 21 rfl rfl)
theorem dX4_laysBackward_162 : decode cX4_laysBackward 162 = .ok (.iconst 2, 1) := dk_5 (dk_at dksX4_laysBackward_6 22 rfl rfl)
theorem dX4_laysBackward_163 : decode cX4_laysBackward 163 = .ok (.iload 4, 2) := dk_21 4 (dk_at dksX4_laysBackward_7 0 rfl rfl)
theorem dX4_laysBackward_165 : decode cX4_laysBackward 165 = .ok (.imul, 1) := dk_104 (dk_at dksX4_laysBackward_7 2 rfl rfl)
theorem dX4_laysBackward_166 : decode cX4_laysBackward 166 = .ok (.iadd, 1) := dk_96 (dk_at dksX4_laysBackward_7 3 rfl rfl)
theorem dX4_laysBackward_167 : decode cX4_laysBackward 167 = .ok (.iconst 1, 1) := dk_4 (dk_at dksX4_laysBackward_7 4 rfl rfl)
theorem dX4_laysBackward_168 : decode cX4_laysBackward 168 = .ok (.iadd, 1) := dk_96 (dk_at dksX4_laysBackward_7 5 rfl rfl)
theorem dX4_laysBackward_169 : decode cX4_laysBackward 169 = .ok (.iaload, 1) := dk_46 (dk_at dksX4_laysBackward_7 6 rfl rfl)
theorem dX4_laysBackward_170 : decode cX4_laysBackward 170 = .ok (.invokevirtual 446, 3) := dk_182 1 190 (dk_at dksX4_laysBackward_7 7 rfl rfl)
theorem dX4_laysBackward_173 : decode cX4_laysBackward 173 = .ok (.aload_n 0, 1) := dk_42 (dk_at dksX4_laysBackward_7 10 rfl rfl)
theorem dX4_laysBackward_174 : decode cX4_laysBackward 174 = .ok (.iload_n 3, 1) := dk_29 (dk_at dksX4_laysBackward_7 11 rfl rfl)
theorem dX4_laysBackward_175 : decode cX4_laysBackward 175 = .ok (.iconst 1, 1) := dk_4 (dk_at dksX4_laysBackward_7 12 rfl rfl)
theorem dX4_laysBackward_176 : decode cX4_laysBackward 176 = .ok (.aload_n 0, 1) := dk_42 (dk_at dksX4_laysBackward_7 13 rfl rfl)
theorem dX4_laysBackward_177 : decode cX4_laysBackward 177 = .ok (.getfield 81, 3) := dk_180 0 81 (dk_at dksX4_laysBackward_7 14 rfl rfl)
theorem dX4_laysBackward_180 : decode cX4_laysBackward 180 = .ok (.iconst 4, 1) := dk_7 (dk_at dksX4_laysBackward_7 17 rfl rfl)
theorem dX4_laysBackward_181 : decode cX4_laysBackward 181 = .ok (.iload_n 3, 1) := dk_29 (dk_at dksX4_laysBackward_7 18 rfl rfl)
theorem dX4_laysBackward_182 : decode cX4_laysBackward 182 = .ok (.imul, 1) := dk_104 (dk_at dksX4_laysBackward_7 19 rfl rfl)
theorem dX4_laysBackward_183 : decode cX4_laysBackward 183 = .ok (.iconst 2, 1) := dk_5 (dk_at dksX4_laysBackward_7 20 rfl rfl)
theorem dX4_laysBackward_184 : decode cX4_laysBackward 184 = .ok (.iload 4, 2) := dk_21 4 (dk_at dksX4_laysBackward_7 21 rfl rfl)
theorem dX4_laysBackward_186 : decode cX4_laysBackward 186 = .ok (.imul, 1) := dk_104 (dk_at dksX4_laysBackward_7 23 rfl rfl)
theorem dX4_laysBackward_187 : decode cX4_laysBackward 187 = .ok (.iadd, 1) := dk_96 (dk_at dksX4_laysBackward_8 0 rfl rfl)
theorem dX4_laysBackward_188 : decode cX4_laysBackward 188 = .ok (.iaload, 1) := dk_46 (dk_at dksX4_laysBackward_8 1 rfl rfl)
theorem dX4_laysBackward_189 : decode cX4_laysBackward 189 = .ok (.invokevirtual 446, 3) := dk_182 1 190 (dk_at dksX4_laysBackward_8 2 rfl rfl)
theorem dX4_laysBackward_192 : decode cX4_laysBackward 192 = .ok (.iinc 3 1, 3) := dk_132 3 1 (dk_at dksX4_laysBackward_8 5 rfl rfl)
theorem dX4_laysBackward_195 : decode cX4_laysBackward 195 = .ok (.goto (-96), 3) := dk_167 255 160 (dk_at dksX4_laysBackward_8 8 rfl rfl)
theorem dX4_laysBackward_198 : decode cX4_laysBackward 198 = .ok (.iinc 1 (-1), 3) := dk_132 1 255 (dk_at dksX4_laysBackward_8 11 rfl rfl)
theorem dX4_laysBackward_201 : decode cX4_laysBackward 201 = .ok (.goto (-110), 3) := dk_167 255 146 (dk_at dksX4_laysBackward_8 14 rfl rfl)
theorem dX4_laysBackward_204 : decode cX4_laysBackward 204 = .ok (.return_, 1) := dk_177 (dk_at dksX4_laysBackward_8 17 rfl rfl)
abbrev cX4_laysLesson : ByteArray := prog_29_method_99_code
def yX4_laysLesson : MethodName := ⟨RX4, "laysLesson", "(III)V"⟩
def dkwX4_laysLesson_4 : List UInt8 := [180, 0, 102, 5, 27, 104, 28, 96, 4, 100, 42, 180, 1, 181, 79, 42, 42, 180, 1, 181, 181, 1, 187, 177]
abbrev dktX4_laysLesson_4 : List UInt8 := dkwX4_laysLesson_4 ++ []
def dkwX4_laysLesson_3 : List UInt8 := [180, 1, 184, 4, 96, 181, 1, 184, 177, 42, 180, 0, 105, 42, 180, 1, 181, 92, 46, 29, 100, 79, 42]
abbrev dktX4_laysLesson_3 : List UInt8 := dkwX4_laysLesson_3 ++ dktX4_laysLesson_4
def dkwX4_laysLesson_2 : List UInt8 := [42, 180, 1, 181, 156, 0, 7, 4, 167, 0, 4, 3, 181, 1, 178, 42, 180, 1, 178, 153, 0, 14, 42, 89]
abbrev dktX4_laysLesson_2 : List UInt8 := dkwX4_laysLesson_2 ++ dktX4_laysLesson_3
def dkwX4_laysLesson_1 : List UInt8 := [162, 0, 16, 42, 89, 180, 1, 181, 4, 100, 181, 1, 181, 167, 255, 219, 42, 42, 180, 1, 178, 154, 0, 10]
abbrev dktX4_laysLesson_1 : List UInt8 := dkwX4_laysLesson_1 ++ dktX4_laysLesson_2
def dkwX4_laysLesson_0 : List UInt8 := [42, 180, 1, 178, 154, 0, 36, 42, 180, 1, 181, 155, 0, 29, 42, 180, 0, 105, 42, 180, 1, 181, 46, 29]
abbrev dktX4_laysLesson_0 : List UInt8 := dkwX4_laysLesson_0 ++ dktX4_laysLesson_1
theorem dksX4_laysLesson_0 : cX4_laysLesson.data.toList.drop 0 = dktX4_laysLesson_0 := by decide +kernel
theorem dksX4_laysLesson_1 : cX4_laysLesson.data.toList.drop 24 = dktX4_laysLesson_1 := dk_seg dksX4_laysLesson_0 24 rfl rfl
theorem dksX4_laysLesson_2 : cX4_laysLesson.data.toList.drop 48 = dktX4_laysLesson_2 := dk_seg dksX4_laysLesson_1 24 rfl rfl
theorem dksX4_laysLesson_3 : cX4_laysLesson.data.toList.drop 72 = dktX4_laysLesson_3 := dk_seg dksX4_laysLesson_2 24 rfl rfl
theorem dksX4_laysLesson_4 : cX4_laysLesson.data.toList.drop 95 = dktX4_laysLesson_4 := dk_seg dksX4_laysLesson_3 23 rfl rfl
theorem dX4_laysLesson_0 : decode cX4_laysLesson 0 = .ok (.aload_n 0, 1) := dk_42 (dk_at dksX4_laysLesson_0 0 rfl rfl)
theorem dX4_laysLesson_1 : decode cX4_laysLesson 1 = .ok (.getfield 434, 3) := dk_180 1 178 (dk_at dksX4_laysLesson_0 1 rfl rfl)
theorem dX4_laysLesson_4 : decode cX4_laysLesson 4 = .ok (.ifCond .ne 36, 3) := dk_154 0 36 (dk_at dksX4_laysLesson_0 4 rfl rfl)
theorem dX4_laysLesson_7 : decode cX4_laysLesson 7 = .ok (.aload_n 0, 1) := dk_42 (dk_at dksX4_laysLesson_0 7 rfl rfl)
theorem dX4_laysLesson_8 : decode cX4_laysLesson 8 = .ok (.getfield 437, 3) := dk_180 1 181 (dk_at dksX4_laysLesson_0 8 rfl rfl)
theorem dX4_laysLesson_11 : decode cX4_laysLesson 11 = .ok (.ifCond .lt 29, 3) := dk_155 0 29 (dk_at dksX4_laysLesson_0 11 rfl rfl)
theorem dX4_laysLesson_14 : decode cX4_laysLesson 14 = .ok (.aload_n 0, 1) := dk_42 (dk_at dksX4_laysLesson_0 14 rfl rfl)
theorem dX4_laysLesson_15 : decode cX4_laysLesson 15 = .ok (.getfield 105, 3) := dk_180 0 105 (dk_at dksX4_laysLesson_0 15 rfl rfl)
theorem dX4_laysLesson_18 : decode cX4_laysLesson 18 = .ok (.aload_n 0, 1) := dk_42 (dk_at dksX4_laysLesson_0 18 rfl rfl)
theorem dX4_laysLesson_19 : decode cX4_laysLesson 19 = .ok (.getfield 437, 3) := dk_180 1 181 (dk_at dksX4_laysLesson_0 19 rfl rfl)
theorem dX4_laysLesson_22 : decode cX4_laysLesson 22 = .ok (.iaload, 1) := dk_46 (dk_at dksX4_laysLesson_0 22 rfl rfl)
theorem dX4_laysLesson_23 : decode cX4_laysLesson 23 = .ok (.iload_n 3, 1) := dk_29 (dk_at dksX4_laysLesson_0 23 rfl rfl)
theorem dX4_laysLesson_24 : decode cX4_laysLesson 24 = .ok (.if_icmp .ge 16, 3) := dk_162 0 16 (dk_at dksX4_laysLesson_1 0 rfl rfl)
theorem dX4_laysLesson_27 : decode cX4_laysLesson 27 = .ok (.aload_n 0, 1) := dk_42 (dk_at dksX4_laysLesson_1 3 rfl rfl)
theorem dX4_laysLesson_28 : decode cX4_laysLesson 28 = .ok (.dup, 1) := dk_89 (dk_at dksX4_laysLesson_1 4 rfl rfl)
theorem dX4_laysLesson_29 : decode cX4_laysLesson 29 = .ok (.getfield 437, 3) := dk_180 1 181 (dk_at dksX4_laysLesson_1 5 rfl rfl)
theorem dX4_laysLesson_32 : decode cX4_laysLesson 32 = .ok (.iconst 1, 1) := dk_4 (dk_at dksX4_laysLesson_1 8 rfl rfl)
theorem dX4_laysLesson_33 : decode cX4_laysLesson 33 = .ok (.isub, 1) := dk_100 (dk_at dksX4_laysLesson_1 9 rfl rfl)
theorem dX4_laysLesson_34 : decode cX4_laysLesson 34 = .ok (.putfield 437, 3) := dk_181 1 181 (dk_at dksX4_laysLesson_1 10 rfl rfl)
theorem dX4_laysLesson_37 : decode cX4_laysLesson 37 = .ok (.goto (-37), 3) := dk_167 255 219 (dk_at dksX4_laysLesson_1 13 rfl rfl)
theorem dX4_laysLesson_40 : decode cX4_laysLesson 40 = .ok (.aload_n 0, 1) := dk_42 (dk_at dksX4_laysLesson_1 16 rfl rfl)
theorem dX4_laysLesson_41 : decode cX4_laysLesson 41 = .ok (.aload_n 0, 1) := dk_42 (dk_at dksX4_laysLesson_1 17 rfl rfl)
theorem dX4_laysLesson_42 : decode cX4_laysLesson 42 = .ok (.getfield 434, 3) := dk_180 1 178 (dk_at dksX4_laysLesson_1 18 rfl rfl)
theorem dX4_laysLesson_45 : decode cX4_laysLesson 45 = .ok (.ifCond .ne 10, 3) := dk_154 0 10 (dk_at dksX4_laysLesson_1 21 rfl rfl)
theorem dX4_laysLesson_48 : decode cX4_laysLesson 48 = .ok (.aload_n 0, 1) := dk_42 (dk_at dksX4_laysLesson_2 0 rfl rfl)
theorem dX4_laysLesson_49 : decode cX4_laysLesson 49 = .ok (.getfield 437, 3) := dk_180 1 181 (dk_at dksX4_laysLesson_2 1 rfl rfl)
theorem dX4_laysLesson_52 : decode cX4_laysLesson 52 = .ok (.ifCond .ge 7, 3) := dk_156 0 7 (dk_at dksX4_laysLesson_2 4 rfl rfl)
theorem dX4_laysLesson_55 : decode cX4_laysLesson 55 = .ok (.iconst 1, 1) := dk_4 (dk_at dksX4_laysLesson_2 7 rfl rfl)
theorem dX4_laysLesson_56 : decode cX4_laysLesson 56 = .ok (.goto 4, 3) := dk_167 0 4 (dk_at dksX4_laysLesson_2 8 rfl rfl)
theorem dX4_laysLesson_59 : decode cX4_laysLesson 59 = .ok (.iconst 0, 1) := dk_3 (dk_at dksX4_laysLesson_2 11 rfl rfl)
theorem dX4_laysLesson_60 : decode cX4_laysLesson 60 = .ok (.putfield 434, 3) := dk_181 1 178 (dk_at dksX4_laysLesson_2 12 rfl rfl)
theorem dX4_laysLesson_63 : decode cX4_laysLesson 63 = .ok (.aload_n 0, 1) := dk_42 (dk_at dksX4_laysLesson_2 15 rfl rfl)
theorem dX4_laysLesson_64 : decode cX4_laysLesson 64 = .ok (.getfield 434, 3) := dk_180 1 178 (dk_at dksX4_laysLesson_2 16 rfl rfl)
theorem dX4_laysLesson_67 : decode cX4_laysLesson 67 = .ok (.ifCond .eq 14, 3) := dk_153 0 14 (dk_at dksX4_laysLesson_2 19 rfl rfl)
theorem dX4_laysLesson_70 : decode cX4_laysLesson 70 = .ok (.aload_n 0, 1) := dk_42 (dk_at dksX4_laysLesson_2 22 rfl rfl)
theorem dX4_laysLesson_71 : decode cX4_laysLesson 71 = .ok (.dup, 1) := dk_89 (dk_at dksX4_laysLesson_2 23 rfl rfl)
theorem dX4_laysLesson_72 : decode cX4_laysLesson 72 = .ok (.getfield 440, 3) := dk_180 1 184 (dk_at dksX4_laysLesson_3 0 rfl rfl)
theorem dX4_laysLesson_75 : decode cX4_laysLesson 75 = .ok (.iconst 1, 1) := dk_4 (dk_at dksX4_laysLesson_3 3 rfl rfl)
theorem dX4_laysLesson_76 : decode cX4_laysLesson 76 = .ok (.iadd, 1) := dk_96 (dk_at dksX4_laysLesson_3 4 rfl rfl)
theorem dX4_laysLesson_77 : decode cX4_laysLesson 77 = .ok (.putfield 440, 3) := dk_181 1 184 (dk_at dksX4_laysLesson_3 5 rfl rfl)
theorem dX4_laysLesson_80 : decode cX4_laysLesson 80 = .ok (.return_, 1) := dk_177 (dk_at dksX4_laysLesson_3 8 rfl rfl)
theorem dX4_laysLesson_81 : decode cX4_laysLesson 81 = .ok (.aload_n 0, 1) := dk_42 (dk_at dksX4_laysLesson_3 9 rfl rfl)
theorem dX4_laysLesson_82 : decode cX4_laysLesson 82 = .ok (.getfield 105, 3) := dk_180 0 105 (dk_at dksX4_laysLesson_3 10 rfl rfl)
theorem dX4_laysLesson_85 : decode cX4_laysLesson 85 = .ok (.aload_n 0, 1) := dk_42 (dk_at dksX4_laysLesson_3 13 rfl rfl)
theorem dX4_laysLesson_86 : decode cX4_laysLesson 86 = .ok (.getfield 437, 3) := dk_180 1 181 (dk_at dksX4_laysLesson_3 14 rfl rfl)
theorem dX4_laysLesson_89 : decode cX4_laysLesson 89 = .ok (.dup2, 1) := dk_92 (dk_at dksX4_laysLesson_3 17 rfl rfl)
theorem dX4_laysLesson_90 : decode cX4_laysLesson 90 = .ok (.iaload, 1) := dk_46 (dk_at dksX4_laysLesson_3 18 rfl rfl)
theorem dX4_laysLesson_91 : decode cX4_laysLesson 91 = .ok (.iload_n 3, 1) := dk_29 (dk_at dksX4_laysLesson_3 19 rfl rfl)
theorem dX4_laysLesson_92 : decode cX4_laysLesson 92 = .ok (.isub, 1) := dk_100 (dk_at dksX4_laysLesson_3 20 rfl rfl)
theorem dX4_laysLesson_93 : decode cX4_laysLesson 93 = .ok (.iastore, 1) := dk_79 (dk_at dksX4_laysLesson_3 21 rfl rfl)
theorem dX4_laysLesson_94 : decode cX4_laysLesson 94 = .ok (.aload_n 0, 1) := dk_42 (dk_at dksX4_laysLesson_3 22 rfl rfl)
theorem dX4_laysLesson_95 : decode cX4_laysLesson 95 = .ok (.getfield 102, 3) := dk_180 0 102 (dk_at dksX4_laysLesson_4 0 rfl rfl)
theorem dX4_laysLesson_98 : decode cX4_laysLesson 98 = .ok (.iconst 2, 1) := dk_5 (dk_at dksX4_laysLesson_4 3 rfl rfl)
theorem dX4_laysLesson_99 : decode cX4_laysLesson 99 = .ok (.iload_n 1, 1) := dk_27 (dk_at dksX4_laysLesson_4 4 rfl rfl)
theorem dX4_laysLesson_100 : decode cX4_laysLesson 100 = .ok (.imul, 1) := dk_104 (dk_at dksX4_laysLesson_4 5 rfl rfl)
theorem dX4_laysLesson_101 : decode cX4_laysLesson 101 = .ok (.iload_n 2, 1) := dk_28 (dk_at dksX4_laysLesson_4 6 rfl rfl)
theorem dX4_laysLesson_102 : decode cX4_laysLesson 102 = .ok (.iadd, 1) := dk_96 (dk_at dksX4_laysLesson_4 7 rfl rfl)
theorem dX4_laysLesson_103 : decode cX4_laysLesson 103 = .ok (.iconst 1, 1) := dk_4 (dk_at dksX4_laysLesson_4 8 rfl rfl)
theorem dX4_laysLesson_104 : decode cX4_laysLesson 104 = .ok (.isub, 1) := dk_100 (dk_at dksX4_laysLesson_4 9 rfl rfl)
theorem dX4_laysLesson_105 : decode cX4_laysLesson 105 = .ok (.aload_n 0, 1) := dk_42 (dk_at dksX4_laysLesson_4 10 rfl rfl)
theorem dX4_laysLesson_106 : decode cX4_laysLesson 106 = .ok (.getfield 437, 3) := dk_180 1 181 (dk_at dksX4_laysLesson_4 11 rfl rfl)
theorem dX4_laysLesson_109 : decode cX4_laysLesson 109 = .ok (.iastore, 1) := dk_79 (dk_at dksX4_laysLesson_4 14 rfl rfl)
theorem dX4_laysLesson_110 : decode cX4_laysLesson 110 = .ok (.aload_n 0, 1) := dk_42 (dk_at dksX4_laysLesson_4 15 rfl rfl)
theorem dX4_laysLesson_111 : decode cX4_laysLesson 111 = .ok (.aload_n 0, 1) := dk_42 (dk_at dksX4_laysLesson_4 16 rfl rfl)
theorem dX4_laysLesson_112 : decode cX4_laysLesson 112 = .ok (.getfield 437, 3) := dk_180 1 181 (dk_at dksX4_laysLesson_4 17 rfl rfl)
theorem dX4_laysLesson_115 : decode cX4_laysLesson 115 = .ok (.putfield 443, 3) := dk_181 1 187 (dk_at dksX4_laysLesson_4 20 rfl rfl)
theorem dX4_laysLesson_118 : decode cX4_laysLesson 118 = .ok (.return_, 1) := dk_177 (dk_at dksX4_laysLesson_4 23 rfl rfl)
abbrev cX4_friend : ByteArray := prog_29_method_102_code
def yX4_friend : MethodName := ⟨RX4, "friend", "(II)I"⟩
def dkwX4_friend_1 : List UInt8 := [96, 28, 182, 0, 161, 167, 0, 8, 42, 2, 182, 0, 139, 172]
abbrev dktX4_friend_1 : List UInt8 := dkwX4_friend_1 ++ []
def dkwX4_friend_0 : List UInt8 := [27, 3, 5, 184, 0, 135, 153, 0, 26, 28, 3, 16, 99, 184, 0, 135, 153, 0, 16, 42, 17, 1, 91, 27]
abbrev dktX4_friend_0 : List UInt8 := dkwX4_friend_0 ++ dktX4_friend_1
theorem dksX4_friend_0 : cX4_friend.data.toList.drop 0 = dktX4_friend_0 := by decide +kernel
theorem dksX4_friend_1 : cX4_friend.data.toList.drop 24 = dktX4_friend_1 := dk_seg dksX4_friend_0 24 rfl rfl
theorem dX4_friend_0 : decode cX4_friend 0 = .ok (.iload_n 1, 1) := dk_27 (dk_at dksX4_friend_0 0 rfl rfl)
theorem dX4_friend_1 : decode cX4_friend 1 = .ok (.iconst 0, 1) := dk_3 (dk_at dksX4_friend_0 1 rfl rfl)
theorem dX4_friend_2 : decode cX4_friend 2 = .ok (.iconst 2, 1) := dk_5 (dk_at dksX4_friend_0 2 rfl rfl)
theorem dX4_friend_3 : decode cX4_friend 3 = .ok (.invokestatic 135, 3) := dk_184 0 135 (dk_at dksX4_friend_0 3 rfl rfl)
theorem dX4_friend_6 : decode cX4_friend 6 = .ok (.ifCond .eq 26, 3) := dk_153 0 26 (dk_at dksX4_friend_0 6 rfl rfl)
theorem dX4_friend_9 : decode cX4_friend 9 = .ok (.iload_n 2, 1) := dk_28 (dk_at dksX4_friend_0 9 rfl rfl)
theorem dX4_friend_10 : decode cX4_friend 10 = .ok (.iconst 0, 1) := dk_3 (dk_at dksX4_friend_0 10 rfl rfl)
theorem dX4_friend_11 : decode cX4_friend 11 = .ok (.bipush 99, 2) := dk_16 99 (dk_at dksX4_friend_0 11 rfl rfl)
theorem dX4_friend_13 : decode cX4_friend 13 = .ok (.invokestatic 135, 3) := dk_184 0 135 (dk_at dksX4_friend_0 13 rfl rfl)
theorem dX4_friend_16 : decode cX4_friend 16 = .ok (.ifCond .eq 16, 3) := dk_153 0 16 (dk_at dksX4_friend_0 16 rfl rfl)
theorem dX4_friend_19 : decode cX4_friend 19 = .ok (.aload_n 0, 1) := dk_42 (dk_at dksX4_friend_0 19 rfl rfl)
theorem dX4_friend_20 : decode cX4_friend 20 = .ok (.sipush 347, 3) := dk_17 1 91 (dk_at dksX4_friend_0 20 rfl rfl)
theorem dX4_friend_23 : decode cX4_friend 23 = .ok (.iload_n 1, 1) := dk_27 (dk_at dksX4_friend_0 23 rfl rfl)
theorem dX4_friend_24 : decode cX4_friend 24 = .ok (.iadd, 1) := dk_96 (dk_at dksX4_friend_1 0 rfl rfl)
theorem dX4_friend_25 : decode cX4_friend 25 = .ok (.iload_n 2, 1) := dk_28 (dk_at dksX4_friend_1 1 rfl rfl)
theorem dX4_friend_26 : decode cX4_friend 26 = .ok (.invokevirtual 161, 3) := dk_182 0 161 (dk_at dksX4_friend_1 2 rfl rfl)
theorem dX4_friend_29 : decode cX4_friend 29 = .ok (.goto 8, 3) := dk_167 0 8 (dk_at dksX4_friend_1 5 rfl rfl)
theorem dX4_friend_32 : decode cX4_friend 32 = .ok (.aload_n 0, 1) := dk_42 (dk_at dksX4_friend_1 8 rfl rfl)
theorem dX4_friend_33 : decode cX4_friend 33 = .ok (.iconst (-1), 1) := dk_2 (dk_at dksX4_friend_1 9 rfl rfl)
theorem dX4_friend_34 : decode cX4_friend 34 = .ok (.invokevirtual 139, 3) := dk_182 0 139 (dk_at dksX4_friend_1 10 rfl rfl)
theorem dX4_friend_37 : decode cX4_friend 37 = .ok (.ireturn, 1) := dk_172 (dk_at dksX4_friend_1 13 rfl rfl)
abbrev cX4_share : ByteArray := prog_29_method_104_code
def yX4_share : MethodName := ⟨RX4, "share", "(I)I"⟩
def dkwX4_share_6 : List UInt8 := [167, 0, 9, 42, 180, 0, 114, 27, 46, 172]
abbrev dktX4_share_6 : List UInt8 := dkwX4_share_6 ++ []
def dkwX4_share_5 : List UInt8 := [167, 255, 232, 42, 2, 181, 1, 200, 42, 3, 3, 182, 1, 203, 27, 2, 160, 0, 10, 42, 180, 1, 200]
abbrev dktX4_share_5 : List UInt8 := dkwX4_share_5 ++ dktX4_share_6
def dkwX4_share_4 : List UInt8 := [6, 162, 0, 25, 42, 180, 0, 108, 28, 42, 180, 0, 20, 17, 1, 91, 28, 96, 46, 79, 132, 2, 1]
abbrev dktX4_share_4 : List UInt8 := dkwX4_share_4 ++ dktX4_share_5
def dkwX4_share_3 : List UInt8 := [3, 3, 182, 1, 42, 42, 28, 5, 3, 3, 182, 1, 42, 96, 79, 132, 2, 1, 167, 255, 222, 3, 61, 28]
abbrev dktX4_share_3 : List UInt8 := dkwX4_share_3 ++ dktX4_share_4
def dkwX4_share_2 : List UInt8 := [180, 0, 11, 181, 0, 120, 3, 61, 28, 42, 180, 1, 197, 162, 0, 32, 42, 180, 0, 117, 28, 42, 28, 4]
abbrev dktX4_share_2 : List UInt8 := dkwX4_share_2 ++ dktX4_share_3
def dkwX4_share_1 : List UInt8 := [4, 100, 184, 0, 135, 154, 0, 5, 2, 172, 42, 180, 0, 120, 42, 180, 0, 11, 159, 0, 90, 42, 42]
abbrev dktX4_share_1 : List UInt8 := dkwX4_share_1 ++ dktX4_share_2
def dkwX4_share_0 : List UInt8 := [42, 16, 12, 42, 182, 0, 146, 184, 1, 138, 181, 1, 197, 27, 2, 159, 0, 19, 27, 3, 42, 180, 1, 197]
abbrev dktX4_share_0 : List UInt8 := dkwX4_share_0 ++ dktX4_share_1
theorem dksX4_share_0 : cX4_share.data.toList.drop 0 = dktX4_share_0 := by decide +kernel
theorem dksX4_share_1 : cX4_share.data.toList.drop 24 = dktX4_share_1 := dk_seg dksX4_share_0 24 rfl rfl
theorem dksX4_share_2 : cX4_share.data.toList.drop 47 = dktX4_share_2 := dk_seg dksX4_share_1 23 rfl rfl
theorem dksX4_share_3 : cX4_share.data.toList.drop 71 = dktX4_share_3 := dk_seg dksX4_share_2 24 rfl rfl
theorem dksX4_share_4 : cX4_share.data.toList.drop 95 = dktX4_share_4 := dk_seg dksX4_share_3 24 rfl rfl
theorem dksX4_share_5 : cX4_share.data.toList.drop 118 = dktX4_share_5 := dk_seg dksX4_share_4 23 rfl rfl
theorem dksX4_share_6 : cX4_share.data.toList.drop 141 = dktX4_share_6 := dk_seg dksX4_share_5 23 rfl rfl
theorem dX4_share_0 : decode cX4_share 0 = .ok (.aload_n 0, 1) := dk_42 (dk_at dksX4_share_0 0 rfl rfl)
theorem dX4_share_1 : decode cX4_share 1 = .ok (.bipush 12, 2) := dk_16 12 (dk_at dksX4_share_0 1 rfl rfl)
theorem dX4_share_3 : decode cX4_share 3 = .ok (.aload_n 0, 1) := dk_42 (dk_at dksX4_share_0 3 rfl rfl)
theorem dX4_share_4 : decode cX4_share 4 = .ok (.invokevirtual 146, 3) := dk_182 0 146 (dk_at dksX4_share_0 4 rfl rfl)
theorem dX4_share_7 : decode cX4_share 7 = .ok (.invokestatic 394, 3) := dk_184 1 138 (dk_at dksX4_share_0 7 rfl rfl)
theorem dX4_share_10 : decode cX4_share 10 = .ok (.putfield 453, 3) := dk_181 1 197 (dk_at dksX4_share_0 10 rfl rfl)
theorem dX4_share_13 : decode cX4_share 13 = .ok (.iload_n 1, 1) := dk_27 (dk_at dksX4_share_0 13 rfl rfl)
theorem dX4_share_14 : decode cX4_share 14 = .ok (.iconst (-1), 1) := dk_2 (dk_at dksX4_share_0 14 rfl rfl)
theorem dX4_share_15 : decode cX4_share 15 = .ok (.if_icmp .eq 19, 3) := dk_159 0 19 (dk_at dksX4_share_0 15 rfl rfl)
theorem dX4_share_18 : decode cX4_share 18 = .ok (.iload_n 1, 1) := dk_27 (dk_at dksX4_share_0 18 rfl rfl)
theorem dX4_share_19 : decode cX4_share 19 = .ok (.iconst 0, 1) := dk_3 (dk_at dksX4_share_0 19 rfl rfl)
theorem dX4_share_20 : decode cX4_share 20 = .ok (.aload_n 0, 1) := dk_42 (dk_at dksX4_share_0 20 rfl rfl)
theorem dX4_share_21 : decode cX4_share 21 = .ok (.getfield 453, 3) := dk_180 1 197 (dk_at dksX4_share_0 21 rfl rfl)
theorem dX4_share_24 : decode cX4_share 24 = .ok (.iconst 1, 1) := dk_4 (dk_at dksX4_share_1 0 rfl rfl)
theorem dX4_share_25 : decode cX4_share 25 = .ok (.isub, 1) := dk_100 (dk_at dksX4_share_1 1 rfl rfl)
theorem dX4_share_26 : decode cX4_share 26 = .ok (.invokestatic 135, 3) := dk_184 0 135 (dk_at dksX4_share_1 2 rfl rfl)
theorem dX4_share_29 : decode cX4_share 29 = .ok (.ifCond .ne 5, 3) := dk_154 0 5 (dk_at dksX4_share_1 5 rfl rfl)
theorem dX4_share_32 : decode cX4_share 32 = .ok (.iconst (-1), 1) := dk_2 (dk_at dksX4_share_1 8 rfl rfl)
theorem dX4_share_33 : decode cX4_share 33 = .ok (.ireturn, 1) := dk_172 (dk_at dksX4_share_1 9 rfl rfl)
theorem dX4_share_34 : decode cX4_share 34 = .ok (.aload_n 0, 1) := dk_42 (dk_at dksX4_share_1 10 rfl rfl)
theorem dX4_share_35 : decode cX4_share 35 = .ok (.getfield 120, 3) := dk_180 0 120 (dk_at dksX4_share_1 11 rfl rfl)
theorem dX4_share_38 : decode cX4_share 38 = .ok (.aload_n 0, 1) := dk_42 (dk_at dksX4_share_1 14 rfl rfl)
theorem dX4_share_39 : decode cX4_share 39 = .ok (.getfield 11, 3) := dk_180 0 11 (dk_at dksX4_share_1 15 rfl rfl)
theorem dX4_share_42 : decode cX4_share 42 = .ok (.if_icmp .eq 90, 3) := dk_159 0 90 (dk_at dksX4_share_1 18 rfl rfl)
theorem dX4_share_45 : decode cX4_share 45 = .ok (.aload_n 0, 1) := dk_42 (dk_at dksX4_share_1 21 rfl rfl)
theorem dX4_share_46 : decode cX4_share 46 = .ok (.aload_n 0, 1) := dk_42 (dk_at dksX4_share_1 22 rfl rfl)
theorem dX4_share_47 : decode cX4_share 47 = .ok (.getfield 11, 3) := dk_180 0 11 (dk_at dksX4_share_2 0 rfl rfl)
theorem dX4_share_50 : decode cX4_share 50 = .ok (.putfield 120, 3) := dk_181 0 120 (dk_at dksX4_share_2 3 rfl rfl)
theorem dX4_share_53 : decode cX4_share 53 = .ok (.iconst 0, 1) := dk_3 (dk_at dksX4_share_2 6 rfl rfl)
theorem dX4_share_54 : decode cX4_share 54 = .ok (.istore_n 2, 1) := dk_61 (dk_at dksX4_share_2 7 rfl rfl)
theorem dX4_share_55 : decode cX4_share 55 = .ok (.iload_n 2, 1) := dk_28 (dk_at dksX4_share_2 8 rfl rfl)
theorem dX4_share_56 : decode cX4_share 56 = .ok (.aload_n 0, 1) := dk_42 (dk_at dksX4_share_2 9 rfl rfl)
theorem dX4_share_57 : decode cX4_share 57 = .ok (.getfield 453, 3) := dk_180 1 197 (dk_at dksX4_share_2 10 rfl rfl)
theorem dX4_share_60 : decode cX4_share 60 = .ok (.if_icmp .ge 32, 3) := dk_162 0 32 (dk_at dksX4_share_2 13 rfl rfl)
theorem dX4_share_63 : decode cX4_share 63 = .ok (.aload_n 0, 1) := dk_42 (dk_at dksX4_share_2 16 rfl rfl)
theorem dX4_share_64 : decode cX4_share 64 = .ok (.getfield 117, 3) := dk_180 0 117 (dk_at dksX4_share_2 17 rfl rfl)
theorem dX4_share_67 : decode cX4_share 67 = .ok (.iload_n 2, 1) := dk_28 (dk_at dksX4_share_2 20 rfl rfl)
theorem dX4_share_68 : decode cX4_share 68 = .ok (.aload_n 0, 1) := dk_42 (dk_at dksX4_share_2 21 rfl rfl)
theorem dX4_share_69 : decode cX4_share 69 = .ok (.iload_n 2, 1) := dk_28 (dk_at dksX4_share_2 22 rfl rfl)
theorem dX4_share_70 : decode cX4_share 70 = .ok (.iconst 1, 1) := dk_4 (dk_at dksX4_share_2 23 rfl rfl)
theorem dX4_share_71 : decode cX4_share 71 = .ok (.iconst 0, 1) := dk_3 (dk_at dksX4_share_3 0 rfl rfl)
theorem dX4_share_72 : decode cX4_share 72 = .ok (.iconst 0, 1) := dk_3 (dk_at dksX4_share_3 1 rfl rfl)
theorem dX4_share_73 : decode cX4_share 73 = .ok (.invokevirtual 298, 3) := dk_182 1 42 (dk_at dksX4_share_3 2 rfl rfl)
theorem dX4_share_76 : decode cX4_share 76 = .ok (.aload_n 0, 1) := dk_42 (dk_at dksX4_share_3 5 rfl rfl)
theorem dX4_share_77 : decode cX4_share 77 = .ok (.iload_n 2, 1) := dk_28 (dk_at dksX4_share_3 6 rfl rfl)
theorem dX4_share_78 : decode cX4_share 78 = .ok (.iconst 2, 1) := dk_5 (dk_at dksX4_share_3 7 rfl rfl)
theorem dX4_share_79 : decode cX4_share 79 = .ok (.iconst 0, 1) := dk_3 (dk_at dksX4_share_3 8 rfl rfl)
theorem dX4_share_80 : decode cX4_share 80 = .ok (.iconst 0, 1) := dk_3 (dk_at dksX4_share_3 9 rfl rfl)
theorem dX4_share_81 : decode cX4_share 81 = .ok (.invokevirtual 298, 3) := dk_182 1 42 (dk_at dksX4_share_3 10 rfl rfl)
theorem dX4_share_84 : decode cX4_share 84 = .ok (.iadd, 1) := dk_96 (dk_at dksX4_share_3 13 rfl rfl)
theorem dX4_share_85 : decode cX4_share 85 = .ok (.iastore, 1) := dk_79 (dk_at dksX4_share_3 14 rfl rfl)
theorem dX4_share_86 : decode cX4_share 86 = .ok (.iinc 2 1, 3) := dk_132 2 1 (dk_at dksX4_share_3 15 rfl rfl)
theorem dX4_share_89 : decode cX4_share 89 = .ok (.goto (-34), 3) := dk_167 255 222 (dk_at dksX4_share_3 18 rfl rfl)
theorem dX4_share_92 : decode cX4_share 92 = .ok (.iconst 0, 1) := dk_3 (dk_at dksX4_share_3 21 rfl rfl)
theorem dX4_share_93 : decode cX4_share 93 = .ok (.istore_n 2, 1) := dk_61 (dk_at dksX4_share_3 22 rfl rfl)
theorem dX4_share_94 : decode cX4_share 94 = .ok (.iload_n 2, 1) := dk_28 (dk_at dksX4_share_3 23 rfl rfl)
theorem dX4_share_95 : decode cX4_share 95 = .ok (.iconst 3, 1) := dk_6 (dk_at dksX4_share_4 0 rfl rfl)
theorem dX4_share_96 : decode cX4_share 96 = .ok (.if_icmp .ge 25, 3) := dk_162 0 25 (dk_at dksX4_share_4 1 rfl rfl)
theorem dX4_share_99 : decode cX4_share 99 = .ok (.aload_n 0, 1) := dk_42 (dk_at dksX4_share_4 4 rfl rfl)
theorem dX4_share_100 : decode cX4_share 100 = .ok (.getfield 108, 3) := dk_180 0 108 (dk_at dksX4_share_4 5 rfl rfl)
theorem dX4_share_103 : decode cX4_share 103 = .ok (.iload_n 2, 1) := dk_28 (dk_at dksX4_share_4 8 rfl rfl)
theorem dX4_share_104 : decode cX4_share 104 = .ok (.aload_n 0, 1) := dk_42 (dk_at dksX4_share_4 9 rfl rfl)
theorem dX4_share_105 : decode cX4_share 105 = .ok (.getfield 20, 3) := dk_180 0 20 (dk_at dksX4_share_4 10 rfl rfl)
theorem dX4_share_108 : decode cX4_share 108 = .ok (.sipush 347, 3) := dk_17 1 91 (dk_at dksX4_share_4 13 rfl rfl)
theorem dX4_share_111 : decode cX4_share 111 = .ok (.iload_n 2, 1) := dk_28 (dk_at dksX4_share_4 16 rfl rfl)
theorem dX4_share_112 : decode cX4_share 112 = .ok (.iadd, 1) := dk_96 (dk_at dksX4_share_4 17 rfl rfl)
theorem dX4_share_113 : decode cX4_share 113 = .ok (.iaload, 1) := dk_46 (dk_at dksX4_share_4 18 rfl rfl)
theorem dX4_share_114 : decode cX4_share 114 = .ok (.iastore, 1) := dk_79 (dk_at dksX4_share_4 19 rfl rfl)
theorem dX4_share_115 : decode cX4_share 115 = .ok (.iinc 2 1, 3) := dk_132 2 1 (dk_at dksX4_share_4 20 rfl rfl)
theorem dX4_share_118 : decode cX4_share 118 = .ok (.goto (-24), 3) := dk_167 255 232 (dk_at dksX4_share_5 0 rfl rfl)
theorem dX4_share_121 : decode cX4_share 121 = .ok (.aload_n 0, 1) := dk_42 (dk_at dksX4_share_5 3 rfl rfl)
theorem dX4_share_122 : decode cX4_share 122 = .ok (.iconst (-1), 1) := dk_2 (dk_at dksX4_share_5 4 rfl rfl)
theorem dX4_share_123 : decode cX4_share 123 = .ok (.putfield 456, 3) := dk_181 1 200 (dk_at dksX4_share_5 5 rfl rfl)
theorem dX4_share_126 : decode cX4_share 126 = .ok (.aload_n 0, 1) := dk_42 (dk_at dksX4_share_5 8 rfl rfl)
theorem dX4_share_127 : decode cX4_share 127 = .ok (.iconst 0, 1) := dk_3 (dk_at dksX4_share_5 9 rfl rfl)
theorem dX4_share_128 : decode cX4_share 128 = .ok (.iconst 0, 1) := dk_3 (dk_at dksX4_share_5 10 rfl rfl)
theorem dX4_share_129 : decode cX4_share 129 = .ok (.invokevirtual 459, 3) := dk_182 1 203 (dk_at dksX4_share_5 11 rfl rfl)
theorem dX4_share_132 : decode cX4_share 132 = .ok (.iload_n 1, 1) := dk_27 (dk_at dksX4_share_5 14 rfl rfl)
theorem dX4_share_133 : decode cX4_share 133 = .ok (.iconst (-1), 1) := dk_2 (dk_at dksX4_share_5 15 rfl rfl)
theorem dX4_share_134 : decode cX4_share 134 = .ok (.if_icmp .ne 10, 3) := dk_160 0 10 (dk_at dksX4_share_5 16 rfl rfl)
theorem dX4_share_137 : decode cX4_share 137 = .ok (.aload_n 0, 1) := dk_42 (dk_at dksX4_share_5 19 rfl rfl)
theorem dX4_share_138 : decode cX4_share 138 = .ok (.getfield 456, 3) := dk_180 1 200 (dk_at dksX4_share_5 20 rfl rfl)
theorem dX4_share_141 : decode cX4_share 141 = .ok (.goto 9, 3) := dk_167 0 9 (dk_at dksX4_share_6 0 rfl rfl)
theorem dX4_share_144 : decode cX4_share 144 = .ok (.aload_n 0, 1) := dk_42 (dk_at dksX4_share_6 3 rfl rfl)
theorem dX4_share_145 : decode cX4_share 145 = .ok (.getfield 114, 3) := dk_180 0 114 (dk_at dksX4_share_6 4 rfl rfl)
theorem dX4_share_148 : decode cX4_share 148 = .ok (.iload_n 1, 1) := dk_27 (dk_at dksX4_share_6 7 rfl rfl)
theorem dX4_share_149 : decode cX4_share 149 = .ok (.iaload, 1) := dk_46 (dk_at dksX4_share_6 8 rfl rfl)
theorem dX4_share_150 : decode cX4_share 150 = .ok (.ireturn, 1) := dk_172 (dk_at dksX4_share_6 9 rfl rfl)
abbrev cX4_shares : ByteArray := prog_29_method_103_code
def yX4_shares : MethodName := ⟨RX4, "shares", "(II)V"⟩
def dkwX4_shares_6 : List UInt8 := [27, 4, 96, 28, 182, 1, 203, 177]
abbrev dktX4_shares_6 : List UInt8 := dkwX4_shares_6 ++ []
def dkwX4_shares_5 : List UInt8 := [92, 46, 42, 180, 0, 117, 27, 46, 96, 79, 132, 3, 1, 167, 255, 183, 42, 180, 0, 111, 27, 2, 79, 42]
abbrev dktX4_shares_5 : List UInt8 := dkwX4_shares_5 ++ dktX4_shares_6
def dkwX4_shares_4 : List UInt8 := [100, 79, 42, 180, 0, 111, 27, 29, 79, 42, 27, 4, 96, 28, 4, 96, 182, 1, 203, 42, 180, 0, 108, 29]
abbrev dktX4_shares_4 : List UInt8 := dkwX4_shares_4 ++ dktX4_shares_5
def dkwX4_shares_3 : List UInt8 := [180, 0, 117, 27, 46, 162, 0, 6, 167, 0, 50, 42, 180, 0, 108, 29, 92, 46, 42, 180, 0, 117, 27, 46]
abbrev dktX4_shares_3 : List UInt8 := dkwX4_shares_3 ++ dktX4_shares_4
def dkwX4_shares_2 : List UInt8 := [29, 46, 79, 132, 3, 1, 167, 255, 233, 177, 3, 62, 29, 6, 162, 0, 74, 42, 180, 0, 108, 29, 46, 42]
abbrev dktX4_shares_2 : List UInt8 := dkwX4_shares_2 ++ dktX4_shares_3
def dkwX4_shares_1 : List UInt8 := [42, 28, 181, 1, 200, 3, 62, 29, 42, 180, 1, 197, 162, 0, 21, 42, 180, 0, 114, 29, 42, 180, 0, 111]
abbrev dktX4_shares_1 : List UInt8 := dkwX4_shares_1 ++ dktX4_shares_2
def dkwX4_shares_0 : List UInt8 := [28, 42, 180, 1, 197, 96, 27, 100, 42, 180, 1, 200, 163, 0, 4, 177, 27, 42, 180, 1, 197, 160, 0, 37]
abbrev dktX4_shares_0 : List UInt8 := dkwX4_shares_0 ++ dktX4_shares_1
theorem dksX4_shares_0 : cX4_shares.data.toList.drop 0 = dktX4_shares_0 := by decide +kernel
theorem dksX4_shares_1 : cX4_shares.data.toList.drop 24 = dktX4_shares_1 := dk_seg dksX4_shares_0 24 rfl rfl
theorem dksX4_shares_2 : cX4_shares.data.toList.drop 48 = dktX4_shares_2 := dk_seg dksX4_shares_1 24 rfl rfl
theorem dksX4_shares_3 : cX4_shares.data.toList.drop 72 = dktX4_shares_3 := dk_seg dksX4_shares_2 24 rfl rfl
theorem dksX4_shares_4 : cX4_shares.data.toList.drop 96 = dktX4_shares_4 := dk_seg dksX4_shares_3 24 rfl rfl
theorem dksX4_shares_5 : cX4_shares.data.toList.drop 120 = dktX4_shares_5 := dk_seg dksX4_shares_4 24 rfl rfl
theorem dksX4_shares_6 : cX4_shares.data.toList.drop 144 = dktX4_shares_6 := dk_seg dksX4_shares_5 24 rfl rfl
theorem dX4_shares_0 : decode cX4_shares 0 = .ok (.iload_n 2, 1) := dk_28 (dk_at dksX4_shares_0 0 rfl rfl)
theorem dX4_shares_1 : decode cX4_shares 1 = .ok (.aload_n 0, 1) := dk_42 (dk_at dksX4_shares_0 1 rfl rfl)
theorem dX4_shares_2 : decode cX4_shares 2 = .ok (.getfield 453, 3) := dk_180 1 197 (dk_at dksX4_shares_0 2 rfl rfl)
theorem dX4_shares_5 : decode cX4_shares 5 = .ok (.iadd, 1) := dk_96 (dk_at dksX4_shares_0 5 rfl rfl)
theorem dX4_shares_6 : decode cX4_shares 6 = .ok (.iload_n 1, 1) := dk_27 (dk_at dksX4_shares_0 6 rfl rfl)
theorem dX4_shares_7 : decode cX4_shares 7 = .ok (.isub, 1) := dk_100 (dk_at dksX4_shares_0 7 rfl rfl)
theorem dX4_shares_8 : decode cX4_shares 8 = .ok (.aload_n 0, 1) := dk_42 (dk_at dksX4_shares_0 8 rfl rfl)
theorem dX4_shares_9 : decode cX4_shares 9 = .ok (.getfield 456, 3) := dk_180 1 200 (dk_at dksX4_shares_0 9 rfl rfl)
theorem dX4_shares_12 : decode cX4_shares 12 = .ok (.if_icmp .gt 4, 3) := dk_163 0 4 (dk_at dksX4_shares_0 12 rfl rfl)
theorem dX4_shares_15 : decode cX4_shares 15 = .ok (.return_, 1) := dk_177 (dk_at dksX4_shares_0 15 rfl rfl)
theorem dX4_shares_16 : decode cX4_shares 16 = .ok (.iload_n 1, 1) := dk_27 (dk_at dksX4_shares_0 16 rfl rfl)
theorem dX4_shares_17 : decode cX4_shares 17 = .ok (.aload_n 0, 1) := dk_42 (dk_at dksX4_shares_0 17 rfl rfl)
theorem dX4_shares_18 : decode cX4_shares 18 = .ok (.getfield 453, 3) := dk_180 1 197 (dk_at dksX4_shares_0 18 rfl rfl)
theorem dX4_shares_21 : decode cX4_shares 21 = .ok (.if_icmp .ne 37, 3) := dk_160 0 37 (dk_at dksX4_shares_0 21 rfl rfl)
theorem dX4_shares_24 : decode cX4_shares 24 = .ok (.aload_n 0, 1) := dk_42 (dk_at dksX4_shares_1 0 rfl rfl)
theorem dX4_shares_25 : decode cX4_shares 25 = .ok (.iload_n 2, 1) := dk_28 (dk_at dksX4_shares_1 1 rfl rfl)
theorem dX4_shares_26 : decode cX4_shares 26 = .ok (.putfield 456, 3) := dk_181 1 200 (dk_at dksX4_shares_1 2 rfl rfl)
theorem dX4_shares_29 : decode cX4_shares 29 = .ok (.iconst 0, 1) := dk_3 (dk_at dksX4_shares_1 5 rfl rfl)
theorem dX4_shares_30 : decode cX4_shares 30 = .ok (.istore_n 3, 1) := dk_62 (dk_at dksX4_shares_1 6 rfl rfl)
theorem dX4_shares_31 : decode cX4_shares 31 = .ok (.iload_n 3, 1) := dk_29 (dk_at dksX4_shares_1 7 rfl rfl)
theorem dX4_shares_32 : decode cX4_shares 32 = .ok (.aload_n 0, 1) := dk_42 (dk_at dksX4_shares_1 8 rfl rfl)
theorem dX4_shares_33 : decode cX4_shares 33 = .ok (.getfield 453, 3) := dk_180 1 197 (dk_at dksX4_shares_1 9 rfl rfl)
theorem dX4_shares_36 : decode cX4_shares 36 = .ok (.if_icmp .ge 21, 3) := dk_162 0 21 (dk_at dksX4_shares_1 12 rfl rfl)
theorem dX4_shares_39 : decode cX4_shares 39 = .ok (.aload_n 0, 1) := dk_42 (dk_at dksX4_shares_1 15 rfl rfl)
theorem dX4_shares_40 : decode cX4_shares 40 = .ok (.getfield 114, 3) := dk_180 0 114 (dk_at dksX4_shares_1 16 rfl rfl)
theorem dX4_shares_43 : decode cX4_shares 43 = .ok (.iload_n 3, 1) := dk_29 (dk_at dksX4_shares_1 19 rfl rfl)
theorem dX4_shares_44 : decode cX4_shares 44 = .ok (.aload_n 0, 1) := dk_42 (dk_at dksX4_shares_1 20 rfl rfl)
theorem dX4_shares_45 : decode cX4_shares 45 = .ok (.getfield 111, 3) := dk_180 0 111 (dk_at dksX4_shares_1 21 rfl rfl)
theorem dX4_shares_48 : decode cX4_shares 48 = .ok (.iload_n 3, 1) := dk_29 (dk_at dksX4_shares_2 0 rfl rfl)
theorem dX4_shares_49 : decode cX4_shares 49 = .ok (.iaload, 1) := dk_46 (dk_at dksX4_shares_2 1 rfl rfl)
theorem dX4_shares_50 : decode cX4_shares 50 = .ok (.iastore, 1) := dk_79 (dk_at dksX4_shares_2 2 rfl rfl)
theorem dX4_shares_51 : decode cX4_shares 51 = .ok (.iinc 3 1, 3) := dk_132 3 1 (dk_at dksX4_shares_2 3 rfl rfl)
theorem dX4_shares_54 : decode cX4_shares 54 = .ok (.goto (-23), 3) := dk_167 255 233 (dk_at dksX4_shares_2 6 rfl rfl)
theorem dX4_shares_57 : decode cX4_shares 57 = .ok (.return_, 1) := dk_177 (dk_at dksX4_shares_2 9 rfl rfl)
theorem dX4_shares_58 : decode cX4_shares 58 = .ok (.iconst 0, 1) := dk_3 (dk_at dksX4_shares_2 10 rfl rfl)
theorem dX4_shares_59 : decode cX4_shares 59 = .ok (.istore_n 3, 1) := dk_62 (dk_at dksX4_shares_2 11 rfl rfl)
theorem dX4_shares_60 : decode cX4_shares 60 = .ok (.iload_n 3, 1) := dk_29 (dk_at dksX4_shares_2 12 rfl rfl)
theorem dX4_shares_61 : decode cX4_shares 61 = .ok (.iconst 3, 1) := dk_6 (dk_at dksX4_shares_2 13 rfl rfl)
theorem dX4_shares_62 : decode cX4_shares 62 = .ok (.if_icmp .ge 74, 3) := dk_162 0 74 (dk_at dksX4_shares_2 14 rfl rfl)
theorem dX4_shares_65 : decode cX4_shares 65 = .ok (.aload_n 0, 1) := dk_42 (dk_at dksX4_shares_2 17 rfl rfl)
theorem dX4_shares_66 : decode cX4_shares 66 = .ok (.getfield 108, 3) := dk_180 0 108 (dk_at dksX4_shares_2 18 rfl rfl)
theorem dX4_shares_69 : decode cX4_shares 69 = .ok (.iload_n 3, 1) := dk_29 (dk_at dksX4_shares_2 21 rfl rfl)
theorem dX4_shares_70 : decode cX4_shares 70 = .ok (.iaload, 1) := dk_46 (dk_at dksX4_shares_2 22 rfl rfl)
theorem dX4_shares_71 : decode cX4_shares 71 = .ok (.aload_n 0, 1) := dk_42 (dk_at dksX4_shares_2 23 rfl rfl)
theorem dX4_shares_72 : decode cX4_shares 72 = .ok (.getfield 117, 3) := dk_180 0 117 (dk_at dksX4_shares_3 0 rfl rfl)
theorem dX4_shares_75 : decode cX4_shares 75 = .ok (.iload_n 1, 1) := dk_27 (dk_at dksX4_shares_3 3 rfl rfl)
theorem dX4_shares_76 : decode cX4_shares 76 = .ok (.iaload, 1) := dk_46 (dk_at dksX4_shares_3 4 rfl rfl)
theorem dX4_shares_77 : decode cX4_shares 77 = .ok (.if_icmp .ge 6, 3) := dk_162 0 6 (dk_at dksX4_shares_3 5 rfl rfl)
theorem dX4_shares_80 : decode cX4_shares 80 = .ok (.goto 50, 3) := dk_167 0 50 (dk_at dksX4_shares_3 8 rfl rfl)
theorem dX4_shares_83 : decode cX4_shares 83 = .ok (.aload_n 0, 1) := dk_42 (dk_at dksX4_shares_3 11 rfl rfl)
theorem dX4_shares_84 : decode cX4_shares 84 = .ok (.getfield 108, 3) := dk_180 0 108 (dk_at dksX4_shares_3 12 rfl rfl)
theorem dX4_shares_87 : decode cX4_shares 87 = .ok (.iload_n 3, 1) := dk_29 (dk_at dksX4_shares_3 15 rfl rfl)
theorem dX4_shares_88 : decode cX4_shares 88 = .ok (.dup2, 1) := dk_92 (dk_at dksX4_shares_3 16 rfl rfl)
theorem dX4_shares_89 : decode cX4_shares 89 = .ok (.iaload, 1) := dk_46 (dk_at dksX4_shares_3 17 rfl rfl)
theorem dX4_shares_90 : decode cX4_shares 90 = .ok (.aload_n 0, 1) := dk_42 (dk_at dksX4_shares_3 18 rfl rfl)
theorem dX4_shares_91 : decode cX4_shares 91 = .ok (.getfield 117, 3) := dk_180 0 117 (dk_at dksX4_shares_3 19 rfl rfl)
theorem dX4_shares_94 : decode cX4_shares 94 = .ok (.iload_n 1, 1) := dk_27 (dk_at dksX4_shares_3 22 rfl rfl)
theorem dX4_shares_95 : decode cX4_shares 95 = .ok (.iaload, 1) := dk_46 (dk_at dksX4_shares_3 23 rfl rfl)
theorem dX4_shares_96 : decode cX4_shares 96 = .ok (.isub, 1) := dk_100 (dk_at dksX4_shares_4 0 rfl rfl)
theorem dX4_shares_97 : decode cX4_shares 97 = .ok (.iastore, 1) := dk_79 (dk_at dksX4_shares_4 1 rfl rfl)
theorem dX4_shares_98 : decode cX4_shares 98 = .ok (.aload_n 0, 1) := dk_42 (dk_at dksX4_shares_4 2 rfl rfl)
theorem dX4_shares_99 : decode cX4_shares 99 = .ok (.getfield 111, 3) := dk_180 0 111 (dk_at dksX4_shares_4 3 rfl rfl)
theorem dX4_shares_102 : decode cX4_shares 102 = .ok (.iload_n 1, 1) := dk_27 (dk_at dksX4_shares_4 6 rfl rfl)
theorem dX4_shares_103 : decode cX4_shares 103 = .ok (.iload_n 3, 1) := dk_29 (dk_at dksX4_shares_4 7 rfl rfl)
theorem dX4_shares_104 : decode cX4_shares 104 = .ok (.iastore, 1) := dk_79 (dk_at dksX4_shares_4 8 rfl rfl)
theorem dX4_shares_105 : decode cX4_shares 105 = .ok (.aload_n 0, 1) := dk_42 (dk_at dksX4_shares_4 9 rfl rfl)
theorem dX4_shares_106 : decode cX4_shares 106 = .ok (.iload_n 1, 1) := dk_27 (dk_at dksX4_shares_4 10 rfl rfl)
theorem dX4_shares_107 : decode cX4_shares 107 = .ok (.iconst 1, 1) := dk_4 (dk_at dksX4_shares_4 11 rfl rfl)
theorem dX4_shares_108 : decode cX4_shares 108 = .ok (.iadd, 1) := dk_96 (dk_at dksX4_shares_4 12 rfl rfl)
theorem dX4_shares_109 : decode cX4_shares 109 = .ok (.iload_n 2, 1) := dk_28 (dk_at dksX4_shares_4 13 rfl rfl)
theorem dX4_shares_110 : decode cX4_shares 110 = .ok (.iconst 1, 1) := dk_4 (dk_at dksX4_shares_4 14 rfl rfl)
theorem dX4_shares_111 : decode cX4_shares 111 = .ok (.iadd, 1) := dk_96 (dk_at dksX4_shares_4 15 rfl rfl)
theorem dX4_shares_112 : decode cX4_shares 112 = .ok (.invokevirtual 459, 3) := dk_182 1 203 (dk_at dksX4_shares_4 16 rfl rfl)
theorem dX4_shares_115 : decode cX4_shares 115 = .ok (.aload_n 0, 1) := dk_42 (dk_at dksX4_shares_4 19 rfl rfl)
theorem dX4_shares_116 : decode cX4_shares 116 = .ok (.getfield 108, 3) := dk_180 0 108 (dk_at dksX4_shares_4 20 rfl rfl)
theorem dX4_shares_119 : decode cX4_shares 119 = .ok (.iload_n 3, 1) := dk_29 (dk_at dksX4_shares_4 23 rfl rfl)
theorem dX4_shares_120 : decode cX4_shares 120 = .ok (.dup2, 1) := dk_92 (dk_at dksX4_shares_5 0 rfl rfl)
theorem dX4_shares_121 : decode cX4_shares 121 = .ok (.iaload, 1) := dk_46 (dk_at dksX4_shares_5 1 rfl rfl)
theorem dX4_shares_122 : decode cX4_shares 122 = .ok (.aload_n 0, 1) := dk_42 (dk_at dksX4_shares_5 2 rfl rfl)
theorem dX4_shares_123 : decode cX4_shares 123 = .ok (.getfield 117, 3) := dk_180 0 117 (dk_at dksX4_shares_5 3 rfl rfl)
theorem dX4_shares_126 : decode cX4_shares 126 = .ok (.iload_n 1, 1) := dk_27 (dk_at dksX4_shares_5 6 rfl rfl)
theorem dX4_shares_127 : decode cX4_shares 127 = .ok (.iaload, 1) := dk_46 (dk_at dksX4_shares_5 7 rfl rfl)
theorem dX4_shares_128 : decode cX4_shares 128 = .ok (.iadd, 1) := dk_96 (dk_at dksX4_shares_5 8 rfl rfl)
theorem dX4_shares_129 : decode cX4_shares 129 = .ok (.iastore, 1) := dk_79 (dk_at dksX4_shares_5 9 rfl rfl)
theorem dX4_shares_130 : decode cX4_shares 130 = .ok (.iinc 3 1, 3) := dk_132 3 1 (dk_at dksX4_shares_5 10 rfl rfl)
theorem dX4_shares_133 : decode cX4_shares 133 = .ok (.goto (-73), 3) := dk_167 255 183 (dk_at dksX4_shares_5 13 rfl rfl)
theorem dX4_shares_136 : decode cX4_shares 136 = .ok (.aload_n 0, 1) := dk_42 (dk_at dksX4_shares_5 16 rfl rfl)
theorem dX4_shares_137 : decode cX4_shares 137 = .ok (.getfield 111, 3) := dk_180 0 111 (dk_at dksX4_shares_5 17 rfl rfl)
theorem dX4_shares_140 : decode cX4_shares 140 = .ok (.iload_n 1, 1) := dk_27 (dk_at dksX4_shares_5 20 rfl rfl)
theorem dX4_shares_141 : decode cX4_shares 141 = .ok (.iconst (-1), 1) := dk_2 (dk_at dksX4_shares_5 21 rfl rfl)
theorem dX4_shares_142 : decode cX4_shares 142 = .ok (.iastore, 1) := dk_79 (dk_at dksX4_shares_5 22 rfl rfl)
theorem dX4_shares_143 : decode cX4_shares 143 = .ok (.aload_n 0, 1) := dk_42 (dk_at dksX4_shares_5 23 rfl rfl)
theorem dX4_shares_144 : decode cX4_shares 144 = .ok (.iload_n 1, 1) := dk_27 (dk_at dksX4_shares_6 0 rfl rfl)
theorem dX4_shares_145 : decode cX4_shares 145 = .ok (.iconst 1, 1) := dk_4 (dk_at dksX4_shares_6 1 rfl rfl)
theorem dX4_shares_146 : decode cX4_shares 146 = .ok (.iadd, 1) := dk_96 (dk_at dksX4_shares_6 2 rfl rfl)
theorem dX4_shares_147 : decode cX4_shares 147 = .ok (.iload_n 2, 1) := dk_28 (dk_at dksX4_shares_6 3 rfl rfl)
theorem dX4_shares_148 : decode cX4_shares 148 = .ok (.invokevirtual 459, 3) := dk_182 1 203 (dk_at dksX4_shares_6 4 rfl rfl)
theorem dX4_shares_151 : decode cX4_shares 151 = .ok (.return_, 1) := dk_177 (dk_at dksX4_shares_6 7 rfl rfl)
abbrev cX4_ill : ByteArray := prog_29_method_105_code
def yX4_ill : MethodName := ⟨RX4, "ill", "(II)I"⟩
def dkwX4_ill_6 : List UInt8 := [180, 1, 125, 105, 184, 1, 115, 172]
abbrev dktX4_ill_6 : List UInt8 := dkwX4_ill_6 ++ []
def dkwX4_ill_5 : List UInt8 := [27, 162, 0, 17, 22, 5, 20, 1, 72, 105, 55, 5, 132, 7, 1, 167, 255, 239, 33, 22, 5, 42]
abbrev dktX4_ill_5 : List UInt8 := dkwX4_ill_5 ++ dktX4_ill_6
def dkwX4_ill_4 : List UInt8 := [167, 255, 218, 33, 22, 8, 42, 180, 1, 144, 105, 97, 66, 132, 7, 1, 167, 255, 177, 3, 54, 7, 21, 7]
abbrev dktX4_ill_4 : List UInt8 := dkwX4_ill_4 ++ dktX4_ill_5
def dkwX4_ill_3 : List UInt8 := [16, 100, 42, 7, 182, 1, 62, 100, 167, 0, 8, 42, 7, 182, 1, 62, 133, 105, 55, 8, 132, 10, 1]
abbrev dktX4_ill_3 : List UInt8 := dkwX4_ill_3 ++ dktX4_ill_4
def dkwX4_ill_2 : List UInt8 := [184, 1, 55, 55, 8, 3, 54, 10, 21, 10, 27, 162, 0, 38, 22, 8, 21, 10, 21, 7, 162, 0, 14]
abbrev dktX4_ill_2 : List UInt8 := dkwX4_ill_2 ++ dktX4_ill_3
def dkwX4_ill_1 : List UInt8 := [55, 5, 3, 54, 7, 21, 7, 27, 163, 0, 79, 42, 21, 7, 28, 104, 182, 1, 150, 27, 21, 7]
abbrev dktX4_ill_1 : List UInt8 := dkwX4_ill_1 ++ dktX4_ill_2
def dkwX4_ill_0 : List UInt8 := [27, 3, 6, 184, 0, 135, 153, 0, 13, 28, 3, 16, 100, 184, 0, 135, 154, 0, 5, 2, 172, 9, 66, 10]
abbrev dktX4_ill_0 : List UInt8 := dkwX4_ill_0 ++ dktX4_ill_1
theorem dksX4_ill_0 : cX4_ill.data.toList.drop 0 = dktX4_ill_0 := by decide +kernel
theorem dksX4_ill_1 : cX4_ill.data.toList.drop 24 = dktX4_ill_1 := dk_seg dksX4_ill_0 24 rfl rfl
theorem dksX4_ill_2 : cX4_ill.data.toList.drop 46 = dktX4_ill_2 := dk_seg dksX4_ill_1 22 rfl rfl
theorem dksX4_ill_3 : cX4_ill.data.toList.drop 69 = dktX4_ill_3 := dk_seg dksX4_ill_2 23 rfl rfl
theorem dksX4_ill_4 : cX4_ill.data.toList.drop 92 = dktX4_ill_4 := dk_seg dksX4_ill_3 23 rfl rfl
theorem dksX4_ill_5 : cX4_ill.data.toList.drop 116 = dktX4_ill_5 := dk_seg dksX4_ill_4 24 rfl rfl
theorem dksX4_ill_6 : cX4_ill.data.toList.drop 138 = dktX4_ill_6 := dk_seg dksX4_ill_5 22 rfl rfl
theorem dX4_ill_0 : decode cX4_ill 0 = .ok (.iload_n 1, 1) := dk_27 (dk_at dksX4_ill_0 0 rfl rfl)
theorem dX4_ill_1 : decode cX4_ill 1 = .ok (.iconst 0, 1) := dk_3 (dk_at dksX4_ill_0 1 rfl rfl)
theorem dX4_ill_2 : decode cX4_ill 2 = .ok (.iconst 3, 1) := dk_6 (dk_at dksX4_ill_0 2 rfl rfl)
theorem dX4_ill_3 : decode cX4_ill 3 = .ok (.invokestatic 135, 3) := dk_184 0 135 (dk_at dksX4_ill_0 3 rfl rfl)
theorem dX4_ill_6 : decode cX4_ill 6 = .ok (.ifCond .eq 13, 3) := dk_153 0 13 (dk_at dksX4_ill_0 6 rfl rfl)
theorem dX4_ill_9 : decode cX4_ill 9 = .ok (.iload_n 2, 1) := dk_28 (dk_at dksX4_ill_0 9 rfl rfl)
theorem dX4_ill_10 : decode cX4_ill 10 = .ok (.iconst 0, 1) := dk_3 (dk_at dksX4_ill_0 10 rfl rfl)
theorem dX4_ill_11 : decode cX4_ill 11 = .ok (.bipush 100, 2) := dk_16 100 (dk_at dksX4_ill_0 11 rfl rfl)
theorem dX4_ill_13 : decode cX4_ill 13 = .ok (.invokestatic 135, 3) := dk_184 0 135 (dk_at dksX4_ill_0 13 rfl rfl)
theorem dX4_ill_16 : decode cX4_ill 16 = .ok (.ifCond .ne 5, 3) := dk_154 0 5 (dk_at dksX4_ill_0 16 rfl rfl)
theorem dX4_ill_19 : decode cX4_ill 19 = .ok (.iconst (-1), 1) := dk_2 (dk_at dksX4_ill_0 19 rfl rfl)
theorem dX4_ill_20 : decode cX4_ill 20 = .ok (.ireturn, 1) := dk_172 (dk_at dksX4_ill_0 20 rfl rfl)
theorem dX4_ill_21 : decode cX4_ill 21 = .ok (.lconst 0, 1) := dk_9 (dk_at dksX4_ill_0 21 rfl rfl)
theorem dX4_ill_22 : decode cX4_ill 22 = .ok (.lstore_n 3, 1) := dk_66 (dk_at dksX4_ill_0 22 rfl rfl)
theorem dX4_ill_23 : decode cX4_ill 23 = .ok (.lconst 1, 1) := dk_10 (dk_at dksX4_ill_0 23 rfl rfl)
theorem dX4_ill_24 : decode cX4_ill 24 = .ok (.lstore 5, 2) := dk_55 5 (dk_at dksX4_ill_1 0 rfl rfl)
theorem dX4_ill_26 : decode cX4_ill 26 = .ok (.iconst 0, 1) := dk_3 (dk_at dksX4_ill_1 2 rfl rfl)
theorem dX4_ill_27 : decode cX4_ill 27 = .ok (.istore 7, 2) := dk_54 7 (dk_at dksX4_ill_1 3 rfl rfl)
theorem dX4_ill_29 : decode cX4_ill 29 = .ok (.iload 7, 2) := dk_21 7 (dk_at dksX4_ill_1 5 rfl rfl)
theorem dX4_ill_31 : decode cX4_ill 31 = .ok (.iload_n 1, 1) := dk_27 (dk_at dksX4_ill_1 7 rfl rfl)
theorem dX4_ill_32 : decode cX4_ill 32 = .ok (.if_icmp .gt 79, 3) := dk_163 0 79 (dk_at dksX4_ill_1 8 rfl rfl)
theorem dX4_ill_35 : decode cX4_ill 35 = .ok (.aload_n 0, 1) := dk_42 (dk_at dksX4_ill_1 11 rfl rfl)
theorem dX4_ill_36 : decode cX4_ill 36 = .ok (.iload 7, 2) := dk_21 7 (dk_at dksX4_ill_1 12 rfl rfl)
theorem dX4_ill_38 : decode cX4_ill 38 = .ok (.iload_n 2, 1) := dk_28 (dk_at dksX4_ill_1 14 rfl rfl)
theorem dX4_ill_39 : decode cX4_ill 39 = .ok (.imul, 1) := dk_104 (dk_at dksX4_ill_1 15 rfl rfl)
theorem dX4_ill_40 : decode cX4_ill 40 = .ok (.invokevirtual 406, 3) := dk_182 1 150 (dk_at dksX4_ill_1 16 rfl rfl)
theorem dX4_ill_43 : decode cX4_ill 43 = .ok (.iload_n 1, 1) := dk_27 (dk_at dksX4_ill_1 19 rfl rfl)
theorem dX4_ill_44 : decode cX4_ill 44 = .ok (.iload 7, 2) := dk_21 7 (dk_at dksX4_ill_1 20 rfl rfl)
theorem dX4_ill_46 : decode cX4_ill 46 = .ok (.invokestatic 311, 3) := dk_184 1 55 (dk_at dksX4_ill_2 0 rfl rfl)
theorem dX4_ill_49 : decode cX4_ill 49 = .ok (.lstore 8, 2) := dk_55 8 (dk_at dksX4_ill_2 3 rfl rfl)
theorem dX4_ill_51 : decode cX4_ill 51 = .ok (.iconst 0, 1) := dk_3 (dk_at dksX4_ill_2 5 rfl rfl)
theorem dX4_ill_52 : decode cX4_ill 52 = .ok (.istore 10, 2) := dk_54 10 (dk_at dksX4_ill_2 6 rfl rfl)
theorem dX4_ill_54 : decode cX4_ill 54 = .ok (.iload 10, 2) := dk_21 10 (dk_at dksX4_ill_2 8 rfl rfl)
theorem dX4_ill_56 : decode cX4_ill 56 = .ok (.iload_n 1, 1) := dk_27 (dk_at dksX4_ill_2 10 rfl rfl)
theorem dX4_ill_57 : decode cX4_ill 57 = .ok (.if_icmp .ge 38, 3) := dk_162 0 38 (dk_at dksX4_ill_2 11 rfl rfl)
theorem dX4_ill_60 : decode cX4_ill 60 = .ok (.lload 8, 2) := dk_22 8 (dk_at dksX4_ill_2 14 rfl rfl)
theorem dX4_ill_62 : decode cX4_ill 62 = .ok (.iload 10, 2) := dk_21 10 (dk_at dksX4_ill_2 16 rfl rfl)
theorem dX4_ill_64 : decode cX4_ill 64 = .ok (.iload 7, 2) := dk_21 7 (dk_at dksX4_ill_2 18 rfl rfl)
theorem dX4_ill_66 : decode cX4_ill 66 = .ok (.if_icmp .ge 14, 3) := dk_162 0 14 (dk_at dksX4_ill_2 20 rfl rfl)
theorem dX4_ill_69 : decode cX4_ill 69 = .ok (.bipush 100, 2) := dk_16 100 (dk_at dksX4_ill_3 0 rfl rfl)
theorem dX4_ill_71 : decode cX4_ill 71 = .ok (.aload_n 0, 1) := dk_42 (dk_at dksX4_ill_3 2 rfl rfl)
theorem dX4_ill_72 : decode cX4_ill 72 = .ok (.iconst 4, 1) := dk_7 (dk_at dksX4_ill_3 3 rfl rfl)
theorem dX4_ill_73 : decode cX4_ill 73 = .ok (.invokevirtual 318, 3) := dk_182 1 62 (dk_at dksX4_ill_3 4 rfl rfl)
theorem dX4_ill_76 : decode cX4_ill 76 = .ok (.isub, 1) := dk_100 (dk_at dksX4_ill_3 7 rfl rfl)
theorem dX4_ill_77 : decode cX4_ill 77 = .ok (.goto 8, 3) := dk_167 0 8 (dk_at dksX4_ill_3 8 rfl rfl)
theorem dX4_ill_80 : decode cX4_ill 80 = .ok (.aload_n 0, 1) := dk_42 (dk_at dksX4_ill_3 11 rfl rfl)
theorem dX4_ill_81 : decode cX4_ill 81 = .ok (.iconst 4, 1) := dk_7 (dk_at dksX4_ill_3 12 rfl rfl)
theorem dX4_ill_82 : decode cX4_ill 82 = .ok (.invokevirtual 318, 3) := dk_182 1 62 (dk_at dksX4_ill_3 13 rfl rfl)
theorem dX4_ill_85 : decode cX4_ill 85 = .ok (.i2l, 1) := dk_133 (dk_at dksX4_ill_3 16 rfl rfl)
theorem dX4_ill_86 : decode cX4_ill 86 = .ok (.lmul, 1) := dk_105 (dk_at dksX4_ill_3 17 rfl rfl)
theorem dX4_ill_87 : decode cX4_ill 87 = .ok (.lstore 8, 2) := dk_55 8 (dk_at dksX4_ill_3 18 rfl rfl)
theorem dX4_ill_89 : decode cX4_ill 89 = .ok (.iinc 10 1, 3) := dk_132 10 1 (dk_at dksX4_ill_3 20 rfl rfl)
theorem dX4_ill_92 : decode cX4_ill 92 = .ok (.goto (-38), 3) := dk_167 255 218 (dk_at dksX4_ill_4 0 rfl rfl)
theorem dX4_ill_95 : decode cX4_ill 95 = .ok (.lload_n 3, 1) := dk_33 (dk_at dksX4_ill_4 3 rfl rfl)
theorem dX4_ill_96 : decode cX4_ill 96 = .ok (.lload 8, 2) := dk_22 8 (dk_at dksX4_ill_4 4 rfl rfl)
theorem dX4_ill_98 : decode cX4_ill 98 = .ok (.aload_n 0, 1) := dk_42 (dk_at dksX4_ill_4 6 rfl rfl)
theorem dX4_ill_99 : decode cX4_ill 99 = .ok (.getfield 400, 3) := dk_180 1 144 (dk_at dksX4_ill_4 7 rfl rfl)
theorem dX4_ill_102 : decode cX4_ill 102 = .ok (.lmul, 1) := dk_105 (dk_at dksX4_ill_4 10 rfl rfl)
theorem dX4_ill_103 : decode cX4_ill 103 = .ok (.ladd, 1) := dk_97 (dk_at dksX4_ill_4 11 rfl rfl)
theorem dX4_ill_104 : decode cX4_ill 104 = .ok (.lstore_n 3, 1) := dk_66 (dk_at dksX4_ill_4 12 rfl rfl)
theorem dX4_ill_105 : decode cX4_ill 105 = .ok (.iinc 7 1, 3) := dk_132 7 1 (dk_at dksX4_ill_4 13 rfl rfl)
theorem dX4_ill_108 : decode cX4_ill 108 = .ok (.goto (-79), 3) := dk_167 255 177 (dk_at dksX4_ill_4 16 rfl rfl)
theorem dX4_ill_111 : decode cX4_ill 111 = .ok (.iconst 0, 1) := dk_3 (dk_at dksX4_ill_4 19 rfl rfl)
theorem dX4_ill_112 : decode cX4_ill 112 = .ok (.istore 7, 2) := dk_54 7 (dk_at dksX4_ill_4 20 rfl rfl)
theorem dX4_ill_114 : decode cX4_ill 114 = .ok (.iload 7, 2) := dk_21 7 (dk_at dksX4_ill_4 22 rfl rfl)
theorem dX4_ill_116 : decode cX4_ill 116 = .ok (.iload_n 1, 1) := dk_27 (dk_at dksX4_ill_5 0 rfl rfl)
theorem dX4_ill_117 : decode cX4_ill 117 = .ok (.if_icmp .ge 17, 3) := dk_162 0 17 (dk_at dksX4_ill_5 1 rfl rfl)
theorem dX4_ill_120 : decode cX4_ill 120 = .ok (.lload 5, 2) := dk_22 5 (dk_at dksX4_ill_5 4 rfl rfl)
theorem dX4_ill_122 : decode cX4_ill 122 = .ok (.ldc2_w 328, 3) := dk_20 1 72 (dk_at dksX4_ill_5 6 rfl rfl)
theorem dX4_ill_125 : decode cX4_ill 125 = .ok (.lmul, 1) := dk_105 (dk_at dksX4_ill_5 9 rfl rfl)
theorem dX4_ill_126 : decode cX4_ill 126 = .ok (.lstore 5, 2) := dk_55 5 (dk_at dksX4_ill_5 10 rfl rfl)
theorem dX4_ill_128 : decode cX4_ill 128 = .ok (.iinc 7 1, 3) := dk_132 7 1 (dk_at dksX4_ill_5 12 rfl rfl)
theorem dX4_ill_131 : decode cX4_ill 131 = .ok (.goto (-17), 3) := dk_167 255 239 (dk_at dksX4_ill_5 15 rfl rfl)
theorem dX4_ill_134 : decode cX4_ill 134 = .ok (.lload_n 3, 1) := dk_33 (dk_at dksX4_ill_5 18 rfl rfl)
theorem dX4_ill_135 : decode cX4_ill 135 = .ok (.lload 5, 2) := dk_22 5 (dk_at dksX4_ill_5 19 rfl rfl)
theorem dX4_ill_137 : decode cX4_ill 137 = .ok (.aload_n 0, 1) := dk_42 (dk_at dksX4_ill_5 21 rfl rfl)
theorem dX4_ill_138 : decode cX4_ill 138 = .ok (.getfield 381, 3) := dk_180 1 125 (dk_at dksX4_ill_6 0 rfl rfl)
theorem dX4_ill_141 : decode cX4_ill 141 = .ok (.lmul, 1) := dk_105 (dk_at dksX4_ill_6 3 rfl rfl)
theorem dX4_ill_142 : decode cX4_ill 142 = .ok (.invokestatic 371, 3) := dk_184 1 115 (dk_at dksX4_ill_6 4 rfl rfl)
theorem dX4_ill_145 : decode cX4_ill 145 = .ok (.ireturn, 1) := dk_172 (dk_at dksX4_ill_6 7 rfl rfl)
abbrev cX4_year : ByteArray := prog_29_method_106_code
def yX4_year : MethodName := ⟨RX4, "year", "(I)I"⟩
def dkwX4_year_3 : List UInt8 := [180, 0, 20, 17, 1, 136, 46, 182, 0, 143, 172]
abbrev dktX4_year_3 : List UInt8 := dkwX4_year_3 ++ []
def dkwX4_year_2 : List UInt8 := [180, 0, 20, 17, 1, 136, 46, 96, 27, 79, 42, 180, 0, 20, 17, 1, 136, 92, 46, 4, 96, 79, 42, 42]
abbrev dktX4_year_2 : List UInt8 := dkwX4_year_2 ++ dktX4_year_3
def dkwX4_year_1 : List UInt8 := [17, 1, 136, 46, 16, 40, 160, 0, 10, 42, 16, 251, 182, 0, 139, 172, 42, 180, 0, 20, 17, 1, 94, 42]
abbrev dktX4_year_1 : List UInt8 := dkwX4_year_1 ++ dktX4_year_2
def dkwX4_year_0 : List UInt8 := [27, 155, 0, 13, 27, 4, 42, 182, 0, 146, 120, 161, 0, 9, 42, 2, 182, 0, 139, 172, 42, 180, 0, 20]
abbrev dktX4_year_0 : List UInt8 := dkwX4_year_0 ++ dktX4_year_1
theorem dksX4_year_0 : cX4_year.data.toList.drop 0 = dktX4_year_0 := by decide +kernel
theorem dksX4_year_1 : cX4_year.data.toList.drop 24 = dktX4_year_1 := dk_seg dksX4_year_0 24 rfl rfl
theorem dksX4_year_2 : cX4_year.data.toList.drop 48 = dktX4_year_2 := dk_seg dksX4_year_1 24 rfl rfl
theorem dksX4_year_3 : cX4_year.data.toList.drop 72 = dktX4_year_3 := dk_seg dksX4_year_2 24 rfl rfl
theorem dX4_year_0 : decode cX4_year 0 = .ok (.iload_n 1, 1) := dk_27 (dk_at dksX4_year_0 0 rfl rfl)
theorem dX4_year_1 : decode cX4_year 1 = .ok (.ifCond .lt 13, 3) := dk_155 0 13 (dk_at dksX4_year_0 1 rfl rfl)
theorem dX4_year_4 : decode cX4_year 4 = .ok (.iload_n 1, 1) := dk_27 (dk_at dksX4_year_0 4 rfl rfl)
theorem dX4_year_5 : decode cX4_year 5 = .ok (.iconst 1, 1) := dk_4 (dk_at dksX4_year_0 5 rfl rfl)
theorem dX4_year_6 : decode cX4_year 6 = .ok (.aload_n 0, 1) := dk_42 (dk_at dksX4_year_0 6 rfl rfl)
theorem dX4_year_7 : decode cX4_year 7 = .ok (.invokevirtual 146, 3) := dk_182 0 146 (dk_at dksX4_year_0 7 rfl rfl)
theorem dX4_year_10 : decode cX4_year 10 = .ok (.ishl, 1) := dk_120 (dk_at dksX4_year_0 10 rfl rfl)
theorem dX4_year_11 : decode cX4_year 11 = .ok (.if_icmp .lt 9, 3) := dk_161 0 9 (dk_at dksX4_year_0 11 rfl rfl)
theorem dX4_year_14 : decode cX4_year 14 = .ok (.aload_n 0, 1) := dk_42 (dk_at dksX4_year_0 14 rfl rfl)
theorem dX4_year_15 : decode cX4_year 15 = .ok (.iconst (-1), 1) := dk_2 (dk_at dksX4_year_0 15 rfl rfl)
theorem dX4_year_16 : decode cX4_year 16 = .ok (.invokevirtual 139, 3) := dk_182 0 139 (dk_at dksX4_year_0 16 rfl rfl)
theorem dX4_year_19 : decode cX4_year 19 = .ok (.ireturn, 1) := dk_172 (dk_at dksX4_year_0 19 rfl rfl)
theorem dX4_year_20 : decode cX4_year 20 = .ok (.aload_n 0, 1) := dk_42 (dk_at dksX4_year_0 20 rfl rfl)
theorem dX4_year_21 : decode cX4_year 21 = .ok (.getfield 20, 3) := dk_180 0 20 (dk_at dksX4_year_0 21 rfl rfl)
theorem dX4_year_24 : decode cX4_year 24 = .ok (.sipush 392, 3) := dk_17 1 136 (dk_at dksX4_year_1 0 rfl rfl)
theorem dX4_year_27 : decode cX4_year 27 = .ok (.iaload, 1) := dk_46 (dk_at dksX4_year_1 3 rfl rfl)
theorem dX4_year_28 : decode cX4_year 28 = .ok (.bipush 40, 2) := dk_16 40 (dk_at dksX4_year_1 4 rfl rfl)
theorem dX4_year_30 : decode cX4_year 30 = .ok (.if_icmp .ne 10, 3) := dk_160 0 10 (dk_at dksX4_year_1 6 rfl rfl)
theorem dX4_year_33 : decode cX4_year 33 = .ok (.aload_n 0, 1) := dk_42 (dk_at dksX4_year_1 9 rfl rfl)
theorem dX4_year_34 : decode cX4_year 34 = .ok (.bipush (-5), 2) := dk_16 251 (dk_at dksX4_year_1 10 rfl rfl)
theorem dX4_year_36 : decode cX4_year 36 = .ok (.invokevirtual 139, 3) := dk_182 0 139 (dk_at dksX4_year_1 12 rfl rfl)
theorem dX4_year_39 : decode cX4_year 39 = .ok (.ireturn, 1) := dk_172 (dk_at dksX4_year_1 15 rfl rfl)
theorem dX4_year_40 : decode cX4_year 40 = .ok (.aload_n 0, 1) := dk_42 (dk_at dksX4_year_1 16 rfl rfl)
theorem dX4_year_41 : decode cX4_year 41 = .ok (.getfield 20, 3) := dk_180 0 20 (dk_at dksX4_year_1 17 rfl rfl)
theorem dX4_year_44 : decode cX4_year 44 = .ok (.sipush 350, 3) := dk_17 1 94 (dk_at dksX4_year_1 20 rfl rfl)
theorem dX4_year_47 : decode cX4_year 47 = .ok (.aload_n 0, 1) := dk_42 (dk_at dksX4_year_1 23 rfl rfl)
theorem dX4_year_48 : decode cX4_year 48 = .ok (.getfield 20, 3) := dk_180 0 20 (dk_at dksX4_year_2 0 rfl rfl)
theorem dX4_year_51 : decode cX4_year 51 = .ok (.sipush 392, 3) := dk_17 1 136 (dk_at dksX4_year_2 3 rfl rfl)
theorem dX4_year_54 : decode cX4_year 54 = .ok (.iaload, 1) := dk_46 (dk_at dksX4_year_2 6 rfl rfl)
theorem dX4_year_55 : decode cX4_year 55 = .ok (.iadd, 1) := dk_96 (dk_at dksX4_year_2 7 rfl rfl)
theorem dX4_year_56 : decode cX4_year 56 = .ok (.iload_n 1, 1) := dk_27 (dk_at dksX4_year_2 8 rfl rfl)
theorem dX4_year_57 : decode cX4_year 57 = .ok (.iastore, 1) := dk_79 (dk_at dksX4_year_2 9 rfl rfl)
theorem dX4_year_58 : decode cX4_year 58 = .ok (.aload_n 0, 1) := dk_42 (dk_at dksX4_year_2 10 rfl rfl)
theorem dX4_year_59 : decode cX4_year 59 = .ok (.getfield 20, 3) := dk_180 0 20 (dk_at dksX4_year_2 11 rfl rfl)
theorem dX4_year_62 : decode cX4_year 62 = .ok (.sipush 392, 3) := dk_17 1 136 (dk_at dksX4_year_2 14 rfl rfl)
theorem dX4_year_65 : decode cX4_year 65 = .ok (.dup2, 1) := dk_92 (dk_at dksX4_year_2 17 rfl rfl)
theorem dX4_year_66 : decode cX4_year 66 = .ok (.iaload, 1) := dk_46 (dk_at dksX4_year_2 18 rfl rfl)
theorem dX4_year_67 : decode cX4_year 67 = .ok (.iconst 1, 1) := dk_4 (dk_at dksX4_year_2 19 rfl rfl)
theorem dX4_year_68 : decode cX4_year 68 = .ok (.iadd, 1) := dk_96 (dk_at dksX4_year_2 20 rfl rfl)
theorem dX4_year_69 : decode cX4_year 69 = .ok (.iastore, 1) := dk_79 (dk_at dksX4_year_2 21 rfl rfl)
theorem dX4_year_70 : decode cX4_year 70 = .ok (.aload_n 0, 1) := dk_42 (dk_at dksX4_year_2 22 rfl rfl)
theorem dX4_year_71 : decode cX4_year 71 = .ok (.aload_n 0, 1) := dk_42 (dk_at dksX4_year_2 23 rfl rfl)
theorem dX4_year_72 : decode cX4_year 72 = .ok (.getfield 20, 3) := dk_180 0 20 (dk_at dksX4_year_3 0 rfl rfl)
theorem dX4_year_75 : decode cX4_year 75 = .ok (.sipush 392, 3) := dk_17 1 136 (dk_at dksX4_year_3 3 rfl rfl)
theorem dX4_year_78 : decode cX4_year 78 = .ok (.iaload, 1) := dk_46 (dk_at dksX4_year_3 6 rfl rfl)
theorem dX4_year_79 : decode cX4_year 79 = .ok (.invokevirtual 143, 3) := dk_182 0 143 (dk_at dksX4_year_3 7 rfl rfl)
theorem dX4_year_82 : decode cX4_year 82 = .ok (.ireturn, 1) := dk_172 (dk_at dksX4_year_3 10 rfl rfl)
abbrev cX4_row : ByteArray := prog_29_method_107_code
def yX4_row : MethodName := ⟨RX4, "row", "()I"⟩
def dkwX4_row_8 : List UInt8 := [182, 0, 143, 172]
abbrev dktX4_row_8 : List UInt8 := dkwX4_row_8 ++ []
def dkwX4_row_7 : List UInt8 := [21, 5, 153, 0, 7, 3, 167, 0, 4, 4, 96, 181, 1, 206, 132, 3, 4, 167, 255, 113, 42, 28]
abbrev dktX4_row_7 : List UInt8 := dkwX4_row_7 ++ dktX4_row_8
def dkwX4_row_6 : List UInt8 := [21, 4, 79, 42, 180, 0, 20, 17, 1, 136, 92, 46, 4, 96, 79, 132, 2, 1, 42, 89, 180, 1, 206]
abbrev dktX4_row_6 : List UInt8 := dkwX4_row_6 ++ dktX4_row_7
def dkwX4_row_5 : List UInt8 := [3, 54, 5, 21, 5, 153, 0, 37, 42, 180, 0, 20, 17, 1, 94, 42, 180, 0, 20, 17, 1, 136, 46, 96]
abbrev dktX4_row_5 : List UInt8 := dkwX4_row_5 ++ dktX4_row_6
def dkwX4_row_4 : List UInt8 := [182, 0, 146, 120, 162, 0, 20, 42, 180, 0, 20, 17, 1, 136, 46, 16, 40, 162, 0, 7, 4, 167, 0, 4]
abbrev dktX4_row_4 : List UInt8 := dkwX4_row_4 ++ dktX4_row_5
def dkwX4_row_3 : List UInt8 := [51, 17, 0, 255, 126, 128, 54, 4, 132, 5, 1, 167, 255, 226, 21, 4, 155, 0, 31, 21, 4, 4, 42]
abbrev dktX4_row_3 : List UInt8 := dkwX4_row_3 ++ dktX4_row_4
def dkwX4_row_2 : List UInt8 := [54, 4, 3, 54, 5, 21, 5, 7, 162, 0, 30, 21, 4, 16, 8, 120, 42, 180, 0, 34, 29, 21, 5, 96]
abbrev dktX4_row_2 : List UInt8 := dkwX4_row_2 ++ dktX4_row_3
def dkwX4_row_1 : List UInt8 := [27, 7, 112, 154, 0, 7, 3, 167, 0, 4, 4, 181, 1, 206, 3, 62, 29, 7, 96, 27, 163, 0, 142, 3]
abbrev dktX4_row_1 : List UInt8 := dkwX4_row_1 ++ dktX4_row_2
def dkwX4_row_0 : List UInt8 := [42, 180, 0, 170, 60, 42, 3, 181, 0, 170, 27, 154, 0, 10, 42, 16, 250, 182, 0, 139, 172, 3, 61, 42]
abbrev dktX4_row_0 : List UInt8 := dkwX4_row_0 ++ dktX4_row_1
theorem dksX4_row_0 : cX4_row.data.toList.drop 0 = dktX4_row_0 := by decide +kernel
theorem dksX4_row_1 : cX4_row.data.toList.drop 24 = dktX4_row_1 := dk_seg dksX4_row_0 24 rfl rfl
theorem dksX4_row_2 : cX4_row.data.toList.drop 48 = dktX4_row_2 := dk_seg dksX4_row_1 24 rfl rfl
theorem dksX4_row_3 : cX4_row.data.toList.drop 72 = dktX4_row_3 := dk_seg dksX4_row_2 24 rfl rfl
theorem dksX4_row_4 : cX4_row.data.toList.drop 95 = dktX4_row_4 := dk_seg dksX4_row_3 23 rfl rfl
theorem dksX4_row_5 : cX4_row.data.toList.drop 119 = dktX4_row_5 := dk_seg dksX4_row_4 24 rfl rfl
theorem dksX4_row_6 : cX4_row.data.toList.drop 143 = dktX4_row_6 := dk_seg dksX4_row_5 24 rfl rfl
theorem dksX4_row_7 : cX4_row.data.toList.drop 166 = dktX4_row_7 := dk_seg dksX4_row_6 23 rfl rfl
theorem dksX4_row_8 : cX4_row.data.toList.drop 188 = dktX4_row_8 := dk_seg dksX4_row_7 22 rfl rfl
theorem dX4_row_0 : decode cX4_row 0 = .ok (.aload_n 0, 1) := dk_42 (dk_at dksX4_row_0 0 rfl rfl)
theorem dX4_row_1 : decode cX4_row 1 = .ok (.getfield 170, 3) := dk_180 0 170 (dk_at dksX4_row_0 1 rfl rfl)
theorem dX4_row_4 : decode cX4_row 4 = .ok (.istore_n 1, 1) := dk_60 (dk_at dksX4_row_0 4 rfl rfl)
theorem dX4_row_5 : decode cX4_row 5 = .ok (.aload_n 0, 1) := dk_42 (dk_at dksX4_row_0 5 rfl rfl)
theorem dX4_row_6 : decode cX4_row 6 = .ok (.iconst 0, 1) := dk_3 (dk_at dksX4_row_0 6 rfl rfl)
theorem dX4_row_7 : decode cX4_row 7 = .ok (.putfield 170, 3) := dk_181 0 170 (dk_at dksX4_row_0 7 rfl rfl)
theorem dX4_row_10 : decode cX4_row 10 = .ok (.iload_n 1, 1) := dk_27 (dk_at dksX4_row_0 10 rfl rfl)
theorem dX4_row_11 : decode cX4_row 11 = .ok (.ifCond .ne 10, 3) := dk_154 0 10 (dk_at dksX4_row_0 11 rfl rfl)
theorem dX4_row_14 : decode cX4_row 14 = .ok (.aload_n 0, 1) := dk_42 (dk_at dksX4_row_0 14 rfl rfl)
theorem dX4_row_15 : decode cX4_row 15 = .ok (.bipush (-6), 2) := dk_16 250 (dk_at dksX4_row_0 15 rfl rfl)
theorem dX4_row_17 : decode cX4_row 17 = .ok (.invokevirtual 139, 3) := dk_182 0 139 (dk_at dksX4_row_0 17 rfl rfl)
theorem dX4_row_20 : decode cX4_row 20 = .ok (.ireturn, 1) := dk_172 (dk_at dksX4_row_0 20 rfl rfl)
theorem dX4_row_21 : decode cX4_row 21 = .ok (.iconst 0, 1) := dk_3 (dk_at dksX4_row_0 21 rfl rfl)
theorem dX4_row_22 : decode cX4_row 22 = .ok (.istore_n 2, 1) := dk_61 (dk_at dksX4_row_0 22 rfl rfl)
theorem dX4_row_23 : decode cX4_row 23 = .ok (.aload_n 0, 1) := dk_42 (dk_at dksX4_row_0 23 rfl rfl)
theorem dX4_row_24 : decode cX4_row 24 = .ok (.iload_n 1, 1) := dk_27 (dk_at dksX4_row_1 0 rfl rfl)
theorem dX4_row_25 : decode cX4_row 25 = .ok (.iconst 4, 1) := dk_7 (dk_at dksX4_row_1 1 rfl rfl)
theorem dX4_row_26 : decode cX4_row 26 = .ok (.irem, 1) := dk_112 (dk_at dksX4_row_1 2 rfl rfl)
theorem dX4_row_27 : decode cX4_row 27 = .ok (.ifCond .ne 7, 3) := dk_154 0 7 (dk_at dksX4_row_1 3 rfl rfl)
theorem dX4_row_30 : decode cX4_row 30 = .ok (.iconst 0, 1) := dk_3 (dk_at dksX4_row_1 6 rfl rfl)
theorem dX4_row_31 : decode cX4_row 31 = .ok (.goto 4, 3) := dk_167 0 4 (dk_at dksX4_row_1 7 rfl rfl)
theorem dX4_row_34 : decode cX4_row 34 = .ok (.iconst 1, 1) := dk_4 (dk_at dksX4_row_1 10 rfl rfl)
theorem dX4_row_35 : decode cX4_row 35 = .ok (.putfield 462, 3) := dk_181 1 206 (dk_at dksX4_row_1 11 rfl rfl)
theorem dX4_row_38 : decode cX4_row 38 = .ok (.iconst 0, 1) := dk_3 (dk_at dksX4_row_1 14 rfl rfl)
theorem dX4_row_39 : decode cX4_row 39 = .ok (.istore_n 3, 1) := dk_62 (dk_at dksX4_row_1 15 rfl rfl)
theorem dX4_row_40 : decode cX4_row 40 = .ok (.iload_n 3, 1) := dk_29 (dk_at dksX4_row_1 16 rfl rfl)
theorem dX4_row_41 : decode cX4_row 41 = .ok (.iconst 4, 1) := dk_7 (dk_at dksX4_row_1 17 rfl rfl)
theorem dX4_row_42 : decode cX4_row 42 = .ok (.iadd, 1) := dk_96 (dk_at dksX4_row_1 18 rfl rfl)
theorem dX4_row_43 : decode cX4_row 43 = .ok (.iload_n 1, 1) := dk_27 (dk_at dksX4_row_1 19 rfl rfl)
theorem dX4_row_44 : decode cX4_row 44 = .ok (.if_icmp .gt 142, 3) := dk_163 0 142 (dk_at dksX4_row_1 20 rfl rfl)
theorem dX4_row_47 : decode cX4_row 47 = .ok (.iconst 0, 1) := dk_3 (dk_at dksX4_row_1 23 rfl rfl)
theorem dX4_row_48 : decode cX4_row 48 = .ok (.istore 4, 2) := dk_54 4 (dk_at dksX4_row_2 0 rfl rfl)
theorem dX4_row_50 : decode cX4_row 50 = .ok (.iconst 0, 1) := dk_3 (dk_at dksX4_row_2 2 rfl rfl)
theorem dX4_row_51 : decode cX4_row 51 = .ok (.istore 5, 2) := dk_54 5 (dk_at dksX4_row_2 3 rfl rfl)
theorem dX4_row_53 : decode cX4_row 53 = .ok (.iload 5, 2) := dk_21 5 (dk_at dksX4_row_2 5 rfl rfl)
theorem dX4_row_55 : decode cX4_row 55 = .ok (.iconst 4, 1) := dk_7 (dk_at dksX4_row_2 7 rfl rfl)
theorem dX4_row_56 : decode cX4_row 56 = .ok (.if_icmp .ge 30, 3) := dk_162 0 30 (dk_at dksX4_row_2 8 rfl rfl)
theorem dX4_row_59 : decode cX4_row 59 = .ok (.iload 4, 2) := dk_21 4 (dk_at dksX4_row_2 11 rfl rfl)
theorem dX4_row_61 : decode cX4_row 61 = .ok (.bipush 8, 2) := dk_16 8 (dk_at dksX4_row_2 13 rfl rfl)
theorem dX4_row_63 : decode cX4_row 63 = .ok (.ishl, 1) := dk_120 (dk_at dksX4_row_2 15 rfl rfl)
theorem dX4_row_64 : decode cX4_row 64 = .ok (.aload_n 0, 1) := dk_42 (dk_at dksX4_row_2 16 rfl rfl)
theorem dX4_row_65 : decode cX4_row 65 = .ok (.getfield 34, 3) := dk_180 0 34 (dk_at dksX4_row_2 17 rfl rfl)
theorem dX4_row_68 : decode cX4_row 68 = .ok (.iload_n 3, 1) := dk_29 (dk_at dksX4_row_2 20 rfl rfl)
theorem dX4_row_69 : decode cX4_row 69 = .ok (.iload 5, 2) := dk_21 5 (dk_at dksX4_row_2 21 rfl rfl)
theorem dX4_row_71 : decode cX4_row 71 = .ok (.iadd, 1) := dk_96 (dk_at dksX4_row_2 23 rfl rfl)
theorem dX4_row_72 : decode cX4_row 72 = .ok (.baload, 1) := dk_51 (dk_at dksX4_row_3 0 rfl rfl)
theorem dX4_row_73 : decode cX4_row 73 = .ok (.sipush 255, 3) := dk_17 0 255 (dk_at dksX4_row_3 1 rfl rfl)
theorem dX4_row_76 : decode cX4_row 76 = .ok (.iand, 1) := dk_126 (dk_at dksX4_row_3 4 rfl rfl)
theorem dX4_row_77 : decode cX4_row 77 = .ok (.ior, 1) := dk_128 (dk_at dksX4_row_3 5 rfl rfl)
theorem dX4_row_78 : decode cX4_row 78 = .ok (.istore 4, 2) := dk_54 4 (dk_at dksX4_row_3 6 rfl rfl)
theorem dX4_row_80 : decode cX4_row 80 = .ok (.iinc 5 1, 3) := dk_132 5 1 (dk_at dksX4_row_3 8 rfl rfl)
theorem dX4_row_83 : decode cX4_row 83 = .ok (.goto (-30), 3) := dk_167 255 226 (dk_at dksX4_row_3 11 rfl rfl)
theorem dX4_row_86 : decode cX4_row 86 = .ok (.iload 4, 2) := dk_21 4 (dk_at dksX4_row_3 14 rfl rfl)
theorem dX4_row_88 : decode cX4_row 88 = .ok (.ifCond .lt 31, 3) := dk_155 0 31 (dk_at dksX4_row_3 16 rfl rfl)
theorem dX4_row_91 : decode cX4_row 91 = .ok (.iload 4, 2) := dk_21 4 (dk_at dksX4_row_3 19 rfl rfl)
theorem dX4_row_93 : decode cX4_row 93 = .ok (.iconst 1, 1) := dk_4 (dk_at dksX4_row_3 21 rfl rfl)
theorem dX4_row_94 : decode cX4_row 94 = .ok (.aload_n 0, 1) := dk_42 (dk_at dksX4_row_3 22 rfl rfl)
theorem dX4_row_95 : decode cX4_row 95 = .ok (.invokevirtual 146, 3) := dk_182 0 146 (dk_at dksX4_row_4 0 rfl rfl)
theorem dX4_row_98 : decode cX4_row 98 = .ok (.ishl, 1) := dk_120 (dk_at dksX4_row_4 3 rfl rfl)
theorem dX4_row_99 : decode cX4_row 99 = .ok (.if_icmp .ge 20, 3) := dk_162 0 20 (dk_at dksX4_row_4 4 rfl rfl)
theorem dX4_row_102 : decode cX4_row 102 = .ok (.aload_n 0, 1) := dk_42 (dk_at dksX4_row_4 7 rfl rfl)
theorem dX4_row_103 : decode cX4_row 103 = .ok (.getfield 20, 3) := dk_180 0 20 (dk_at dksX4_row_4 8 rfl rfl)
theorem dX4_row_106 : decode cX4_row 106 = .ok (.sipush 392, 3) := dk_17 1 136 (dk_at dksX4_row_4 11 rfl rfl)
theorem dX4_row_109 : decode cX4_row 109 = .ok (.iaload, 1) := dk_46 (dk_at dksX4_row_4 14 rfl rfl)
theorem dX4_row_110 : decode cX4_row 110 = .ok (.bipush 40, 2) := dk_16 40 (dk_at dksX4_row_4 15 rfl rfl)
theorem dX4_row_112 : decode cX4_row 112 = .ok (.if_icmp .ge 7, 3) := dk_162 0 7 (dk_at dksX4_row_4 17 rfl rfl)
theorem dX4_row_115 : decode cX4_row 115 = .ok (.iconst 1, 1) := dk_4 (dk_at dksX4_row_4 20 rfl rfl)
theorem dX4_row_116 : decode cX4_row 116 = .ok (.goto 4, 3) := dk_167 0 4 (dk_at dksX4_row_4 21 rfl rfl)
theorem dX4_row_119 : decode cX4_row 119 = .ok (.iconst 0, 1) := dk_3 (dk_at dksX4_row_5 0 rfl rfl)
theorem dX4_row_120 : decode cX4_row 120 = .ok (.istore 5, 2) := dk_54 5 (dk_at dksX4_row_5 1 rfl rfl)
theorem dX4_row_122 : decode cX4_row 122 = .ok (.iload 5, 2) := dk_21 5 (dk_at dksX4_row_5 3 rfl rfl)
theorem dX4_row_124 : decode cX4_row 124 = .ok (.ifCond .eq 37, 3) := dk_153 0 37 (dk_at dksX4_row_5 5 rfl rfl)
theorem dX4_row_127 : decode cX4_row 127 = .ok (.aload_n 0, 1) := dk_42 (dk_at dksX4_row_5 8 rfl rfl)
theorem dX4_row_128 : decode cX4_row 128 = .ok (.getfield 20, 3) := dk_180 0 20 (dk_at dksX4_row_5 9 rfl rfl)
theorem dX4_row_131 : decode cX4_row 131 = .ok (.sipush 350, 3) := dk_17 1 94 (dk_at dksX4_row_5 12 rfl rfl)
theorem dX4_row_134 : decode cX4_row 134 = .ok (.aload_n 0, 1) := dk_42 (dk_at dksX4_row_5 15 rfl rfl)
theorem dX4_row_135 : decode cX4_row 135 = .ok (.getfield 20, 3) := dk_180 0 20 (dk_at dksX4_row_5 16 rfl rfl)
theorem dX4_row_138 : decode cX4_row 138 = .ok (.sipush 392, 3) := dk_17 1 136 (dk_at dksX4_row_5 19 rfl rfl)
theorem dX4_row_141 : decode cX4_row 141 = .ok (.iaload, 1) := dk_46 (dk_at dksX4_row_5 22 rfl rfl)
theorem dX4_row_142 : decode cX4_row 142 = .ok (.iadd, 1) := dk_96 (dk_at dksX4_row_5 23 rfl rfl)
theorem dX4_row_143 : decode cX4_row 143 = .ok (.iload 4, 2) := dk_21 4 (dk_at dksX4_row_6 0 rfl rfl)
theorem dX4_row_145 : decode cX4_row 145 = .ok (.iastore, 1) := dk_79 (dk_at dksX4_row_6 2 rfl rfl)
theorem dX4_row_146 : decode cX4_row 146 = .ok (.aload_n 0, 1) := dk_42 (dk_at dksX4_row_6 3 rfl rfl)
theorem dX4_row_147 : decode cX4_row 147 = .ok (.getfield 20, 3) := dk_180 0 20 (dk_at dksX4_row_6 4 rfl rfl)
theorem dX4_row_150 : decode cX4_row 150 = .ok (.sipush 392, 3) := dk_17 1 136 (dk_at dksX4_row_6 7 rfl rfl)
theorem dX4_row_153 : decode cX4_row 153 = .ok (.dup2, 1) := dk_92 (dk_at dksX4_row_6 10 rfl rfl)
theorem dX4_row_154 : decode cX4_row 154 = .ok (.iaload, 1) := dk_46 (dk_at dksX4_row_6 11 rfl rfl)
theorem dX4_row_155 : decode cX4_row 155 = .ok (.iconst 1, 1) := dk_4 (dk_at dksX4_row_6 12 rfl rfl)
theorem dX4_row_156 : decode cX4_row 156 = .ok (.iadd, 1) := dk_96 (dk_at dksX4_row_6 13 rfl rfl)
theorem dX4_row_157 : decode cX4_row 157 = .ok (.iastore, 1) := dk_79 (dk_at dksX4_row_6 14 rfl rfl)
theorem dX4_row_158 : decode cX4_row 158 = .ok (.iinc 2 1, 3) := dk_132 2 1 (dk_at dksX4_row_6 15 rfl rfl)
theorem dX4_row_161 : decode cX4_row 161 = .ok (.aload_n 0, 1) := dk_42 (dk_at dksX4_row_6 18 rfl rfl)
theorem dX4_row_162 : decode cX4_row 162 = .ok (.dup, 1) := dk_89 (dk_at dksX4_row_6 19 rfl rfl)
theorem dX4_row_163 : decode cX4_row 163 = .ok (.getfield 462, 3) := dk_180 1 206 (dk_at dksX4_row_6 20 rfl rfl)
theorem dX4_row_166 : decode cX4_row 166 = .ok (.iload 5, 2) := dk_21 5 (dk_at dksX4_row_7 0 rfl rfl)
theorem dX4_row_168 : decode cX4_row 168 = .ok (.ifCond .eq 7, 3) := dk_153 0 7 (dk_at dksX4_row_7 2 rfl rfl)
theorem dX4_row_171 : decode cX4_row 171 = .ok (.iconst 0, 1) := dk_3 (dk_at dksX4_row_7 5 rfl rfl)
theorem dX4_row_172 : decode cX4_row 172 = .ok (.goto 4, 3) := dk_167 0 4 (dk_at dksX4_row_7 6 rfl rfl)
theorem dX4_row_175 : decode cX4_row 175 = .ok (.iconst 1, 1) := dk_4 (dk_at dksX4_row_7 9 rfl rfl)
theorem dX4_row_176 : decode cX4_row 176 = .ok (.iadd, 1) := dk_96 (dk_at dksX4_row_7 10 rfl rfl)
theorem dX4_row_177 : decode cX4_row 177 = .ok (.putfield 462, 3) := dk_181 1 206 (dk_at dksX4_row_7 11 rfl rfl)
theorem dX4_row_180 : decode cX4_row 180 = .ok (.iinc 3 4, 3) := dk_132 3 4 (dk_at dksX4_row_7 14 rfl rfl)
theorem dX4_row_183 : decode cX4_row 183 = .ok (.goto (-143), 3) := dk_167 255 113 (dk_at dksX4_row_7 17 rfl rfl)
theorem dX4_row_186 : decode cX4_row 186 = .ok (.aload_n 0, 1) := dk_42 (dk_at dksX4_row_7 20 rfl rfl)
theorem dX4_row_187 : decode cX4_row 187 = .ok (.iload_n 2, 1) := dk_28 (dk_at dksX4_row_7 21 rfl rfl)
theorem dX4_row_188 : decode cX4_row 188 = .ok (.invokevirtual 143, 3) := dk_182 0 143 (dk_at dksX4_row_8 0 rfl rfl)
theorem dX4_row_191 : decode cX4_row 191 = .ok (.ireturn, 1) := dk_172 (dk_at dksX4_row_8 3 rfl rfl)
abbrev cX4_lost : ByteArray := prog_29_method_108_code
def yX4_lost : MethodName := ⟨RX4, "lost", "()I"⟩
theorem dX4_lost_0 : decode cX4_lost 0 = .ok (.aload_n 0, 1) := by decide +kernel
theorem dX4_lost_1 : decode cX4_lost 1 = .ok (.getfield 462, 3) := by decide +kernel
theorem dX4_lost_4 : decode cX4_lost 4 = .ok (.ireturn, 1) := by decide +kernel
abbrev cX4_drawn : ByteArray := prog_29_method_110_code
def yX4_drawn : MethodName := ⟨RX4, "drawn", "(II)I"⟩
def dkwX4_drawn_3 : List UInt8 := [160, 0, 5, 29, 172, 132, 3, 1, 167, 255, 210, 2, 172]
abbrev dktX4_drawn_3 : List UInt8 := dkwX4_drawn_3 ++ []
def dkwX4_drawn_2 : List UInt8 := [17, 1, 94, 42, 180, 0, 20, 17, 1, 136, 46, 96, 4, 100, 29, 100, 46, 27, 122, 4, 126, 4]
abbrev dktX4_drawn_2 : List UInt8 := dkwX4_drawn_2 ++ dktX4_drawn_3
def dkwX4_drawn_1 : List UInt8 := [27, 182, 1, 209, 172, 3, 62, 29, 42, 180, 0, 20, 17, 1, 136, 46, 162, 0, 40, 42, 180, 0, 20]
abbrev dktX4_drawn_1 : List UInt8 := dkwX4_drawn_1 ++ dktX4_drawn_2
def dkwX4_drawn_0 : List UInt8 := [42, 27, 182, 0, 158, 153, 0, 12, 28, 3, 4, 184, 0, 135, 154, 0, 5, 2, 172, 28, 154, 0, 9, 42]
abbrev dktX4_drawn_0 : List UInt8 := dkwX4_drawn_0 ++ dktX4_drawn_1
theorem dksX4_drawn_0 : cX4_drawn.data.toList.drop 0 = dktX4_drawn_0 := by decide +kernel
theorem dksX4_drawn_1 : cX4_drawn.data.toList.drop 24 = dktX4_drawn_1 := dk_seg dksX4_drawn_0 24 rfl rfl
theorem dksX4_drawn_2 : cX4_drawn.data.toList.drop 47 = dktX4_drawn_2 := dk_seg dksX4_drawn_1 23 rfl rfl
theorem dksX4_drawn_3 : cX4_drawn.data.toList.drop 69 = dktX4_drawn_3 := dk_seg dksX4_drawn_2 22 rfl rfl
theorem dX4_drawn_0 : decode cX4_drawn 0 = .ok (.aload_n 0, 1) := dk_42 (dk_at dksX4_drawn_0 0 rfl rfl)
theorem dX4_drawn_1 : decode cX4_drawn 1 = .ok (.iload_n 1, 1) := dk_27 (dk_at dksX4_drawn_0 1 rfl rfl)
theorem dX4_drawn_2 : decode cX4_drawn 2 = .ok (.invokevirtual 158, 3) := dk_182 0 158 (dk_at dksX4_drawn_0 2 rfl rfl)
theorem dX4_drawn_5 : decode cX4_drawn 5 = .ok (.ifCond .eq 12, 3) := dk_153 0 12 (dk_at dksX4_drawn_0 5 rfl rfl)
theorem dX4_drawn_8 : decode cX4_drawn 8 = .ok (.iload_n 2, 1) := dk_28 (dk_at dksX4_drawn_0 8 rfl rfl)
theorem dX4_drawn_9 : decode cX4_drawn 9 = .ok (.iconst 0, 1) := dk_3 (dk_at dksX4_drawn_0 9 rfl rfl)
theorem dX4_drawn_10 : decode cX4_drawn 10 = .ok (.iconst 1, 1) := dk_4 (dk_at dksX4_drawn_0 10 rfl rfl)
theorem dX4_drawn_11 : decode cX4_drawn 11 = .ok (.invokestatic 135, 3) := dk_184 0 135 (dk_at dksX4_drawn_0 11 rfl rfl)
theorem dX4_drawn_14 : decode cX4_drawn 14 = .ok (.ifCond .ne 5, 3) := dk_154 0 5 (dk_at dksX4_drawn_0 14 rfl rfl)
theorem dX4_drawn_17 : decode cX4_drawn 17 = .ok (.iconst (-1), 1) := dk_2 (dk_at dksX4_drawn_0 17 rfl rfl)
theorem dX4_drawn_18 : decode cX4_drawn 18 = .ok (.ireturn, 1) := dk_172 (dk_at dksX4_drawn_0 18 rfl rfl)
theorem dX4_drawn_19 : decode cX4_drawn 19 = .ok (.iload_n 2, 1) := dk_28 (dk_at dksX4_drawn_0 19 rfl rfl)
theorem dX4_drawn_20 : decode cX4_drawn 20 = .ok (.ifCond .ne 9, 3) := dk_154 0 9 (dk_at dksX4_drawn_0 20 rfl rfl)
theorem dX4_drawn_23 : decode cX4_drawn 23 = .ok (.aload_n 0, 1) := dk_42 (dk_at dksX4_drawn_0 23 rfl rfl)
theorem dX4_drawn_24 : decode cX4_drawn 24 = .ok (.iload_n 1, 1) := dk_27 (dk_at dksX4_drawn_1 0 rfl rfl)
theorem dX4_drawn_25 : decode cX4_drawn 25 = .ok (.invokevirtual 465, 3) := dk_182 1 209 (dk_at dksX4_drawn_1 1 rfl rfl)
theorem dX4_drawn_28 : decode cX4_drawn 28 = .ok (.ireturn, 1) := dk_172 (dk_at dksX4_drawn_1 4 rfl rfl)
theorem dX4_drawn_29 : decode cX4_drawn 29 = .ok (.iconst 0, 1) := dk_3 (dk_at dksX4_drawn_1 5 rfl rfl)
theorem dX4_drawn_30 : decode cX4_drawn 30 = .ok (.istore_n 3, 1) := dk_62 (dk_at dksX4_drawn_1 6 rfl rfl)
theorem dX4_drawn_31 : decode cX4_drawn 31 = .ok (.iload_n 3, 1) := dk_29 (dk_at dksX4_drawn_1 7 rfl rfl)
theorem dX4_drawn_32 : decode cX4_drawn 32 = .ok (.aload_n 0, 1) := dk_42 (dk_at dksX4_drawn_1 8 rfl rfl)
theorem dX4_drawn_33 : decode cX4_drawn 33 = .ok (.getfield 20, 3) := dk_180 0 20 (dk_at dksX4_drawn_1 9 rfl rfl)
theorem dX4_drawn_36 : decode cX4_drawn 36 = .ok (.sipush 392, 3) := dk_17 1 136 (dk_at dksX4_drawn_1 12 rfl rfl)
theorem dX4_drawn_39 : decode cX4_drawn 39 = .ok (.iaload, 1) := dk_46 (dk_at dksX4_drawn_1 15 rfl rfl)
theorem dX4_drawn_40 : decode cX4_drawn 40 = .ok (.if_icmp .ge 40, 3) := dk_162 0 40 (dk_at dksX4_drawn_1 16 rfl rfl)
theorem dX4_drawn_43 : decode cX4_drawn 43 = .ok (.aload_n 0, 1) := dk_42 (dk_at dksX4_drawn_1 19 rfl rfl)
theorem dX4_drawn_44 : decode cX4_drawn 44 = .ok (.getfield 20, 3) := dk_180 0 20 (dk_at dksX4_drawn_1 20 rfl rfl)
theorem dX4_drawn_47 : decode cX4_drawn 47 = .ok (.sipush 350, 3) := dk_17 1 94 (dk_at dksX4_drawn_2 0 rfl rfl)
theorem dX4_drawn_50 : decode cX4_drawn 50 = .ok (.aload_n 0, 1) := dk_42 (dk_at dksX4_drawn_2 3 rfl rfl)
theorem dX4_drawn_51 : decode cX4_drawn 51 = .ok (.getfield 20, 3) := dk_180 0 20 (dk_at dksX4_drawn_2 4 rfl rfl)
theorem dX4_drawn_54 : decode cX4_drawn 54 = .ok (.sipush 392, 3) := dk_17 1 136 (dk_at dksX4_drawn_2 7 rfl rfl)
theorem dX4_drawn_57 : decode cX4_drawn 57 = .ok (.iaload, 1) := dk_46 (dk_at dksX4_drawn_2 10 rfl rfl)
theorem dX4_drawn_58 : decode cX4_drawn 58 = .ok (.iadd, 1) := dk_96 (dk_at dksX4_drawn_2 11 rfl rfl)
theorem dX4_drawn_59 : decode cX4_drawn 59 = .ok (.iconst 1, 1) := dk_4 (dk_at dksX4_drawn_2 12 rfl rfl)
theorem dX4_drawn_60 : decode cX4_drawn 60 = .ok (.isub, 1) := dk_100 (dk_at dksX4_drawn_2 13 rfl rfl)
theorem dX4_drawn_61 : decode cX4_drawn 61 = .ok (.iload_n 3, 1) := dk_29 (dk_at dksX4_drawn_2 14 rfl rfl)
theorem dX4_drawn_62 : decode cX4_drawn 62 = .ok (.isub, 1) := dk_100 (dk_at dksX4_drawn_2 15 rfl rfl)
theorem dX4_drawn_63 : decode cX4_drawn 63 = .ok (.iaload, 1) := dk_46 (dk_at dksX4_drawn_2 16 rfl rfl)
theorem dX4_drawn_64 : decode cX4_drawn 64 = .ok (.iload_n 1, 1) := dk_27 (dk_at dksX4_drawn_2 17 rfl rfl)
theorem dX4_drawn_65 : decode cX4_drawn 65 = .ok (.ishr, 1) := dk_122 (dk_at dksX4_drawn_2 18 rfl rfl)
theorem dX4_drawn_66 : decode cX4_drawn 66 = .ok (.iconst 1, 1) := dk_4 (dk_at dksX4_drawn_2 19 rfl rfl)
theorem dX4_drawn_67 : decode cX4_drawn 67 = .ok (.iand, 1) := dk_126 (dk_at dksX4_drawn_2 20 rfl rfl)
theorem dX4_drawn_68 : decode cX4_drawn 68 = .ok (.iconst 1, 1) := dk_4 (dk_at dksX4_drawn_2 21 rfl rfl)
theorem dX4_drawn_69 : decode cX4_drawn 69 = .ok (.if_icmp .ne 5, 3) := dk_160 0 5 (dk_at dksX4_drawn_3 0 rfl rfl)
theorem dX4_drawn_72 : decode cX4_drawn 72 = .ok (.iload_n 3, 1) := dk_29 (dk_at dksX4_drawn_3 3 rfl rfl)
theorem dX4_drawn_73 : decode cX4_drawn 73 = .ok (.ireturn, 1) := dk_172 (dk_at dksX4_drawn_3 4 rfl rfl)
theorem dX4_drawn_74 : decode cX4_drawn 74 = .ok (.iinc 3 1, 3) := dk_132 3 1 (dk_at dksX4_drawn_3 5 rfl rfl)
theorem dX4_drawn_77 : decode cX4_drawn 77 = .ok (.goto (-46), 3) := dk_167 255 210 (dk_at dksX4_drawn_3 8 rfl rfl)
theorem dX4_drawn_80 : decode cX4_drawn 80 = .ok (.iconst (-1), 1) := dk_2 (dk_at dksX4_drawn_3 11 rfl rfl)
theorem dX4_drawn_81 : decode cX4_drawn 81 = .ok (.ireturn, 1) := dk_172 (dk_at dksX4_drawn_3 12 rfl rfl)
abbrev cX4_drawnTimes : ByteArray := prog_29_method_109_code
def yX4_drawnTimes : MethodName := ⟨RX4, "drawnTimes", "(I)I"⟩
def dkwX4_drawnTimes_1 : List UInt8 := [29, 96, 46, 27, 122, 4, 126, 96, 61, 132, 3, 1, 167, 255, 224, 28, 172]
abbrev dktX4_drawnTimes_1 : List UInt8 := dkwX4_drawnTimes_1 ++ []
def dkwX4_drawnTimes_0 : List UInt8 := [3, 61, 3, 62, 29, 42, 180, 0, 20, 17, 1, 136, 46, 162, 0, 26, 28, 42, 180, 0, 20, 17, 1, 94]
abbrev dktX4_drawnTimes_0 : List UInt8 := dkwX4_drawnTimes_0 ++ dktX4_drawnTimes_1
theorem dksX4_drawnTimes_0 : cX4_drawnTimes.data.toList.drop 0 = dktX4_drawnTimes_0 := by decide +kernel
theorem dksX4_drawnTimes_1 : cX4_drawnTimes.data.toList.drop 24 = dktX4_drawnTimes_1 := dk_seg dksX4_drawnTimes_0 24 rfl rfl
theorem dX4_drawnTimes_0 : decode cX4_drawnTimes 0 = .ok (.iconst 0, 1) := dk_3 (dk_at dksX4_drawnTimes_0 0 rfl rfl)
theorem dX4_drawnTimes_1 : decode cX4_drawnTimes 1 = .ok (.istore_n 2, 1) := dk_61 (dk_at dksX4_drawnTimes_0 1 rfl rfl)
theorem dX4_drawnTimes_2 : decode cX4_drawnTimes 2 = .ok (.iconst 0, 1) := dk_3 (dk_at dksX4_drawnTimes_0 2 rfl rfl)
theorem dX4_drawnTimes_3 : decode cX4_drawnTimes 3 = .ok (.istore_n 3, 1) := dk_62 (dk_at dksX4_drawnTimes_0 3 rfl rfl)
theorem dX4_drawnTimes_4 : decode cX4_drawnTimes 4 = .ok (.iload_n 3, 1) := dk_29 (dk_at dksX4_drawnTimes_0 4 rfl rfl)
theorem dX4_drawnTimes_5 : decode cX4_drawnTimes 5 = .ok (.aload_n 0, 1) := dk_42 (dk_at dksX4_drawnTimes_0 5 rfl rfl)
theorem dX4_drawnTimes_6 : decode cX4_drawnTimes 6 = .ok (.getfield 20, 3) := dk_180 0 20 (dk_at dksX4_drawnTimes_0 6 rfl rfl)
theorem dX4_drawnTimes_9 : decode cX4_drawnTimes 9 = .ok (.sipush 392, 3) := dk_17 1 136 (dk_at dksX4_drawnTimes_0 9 rfl rfl)
theorem dX4_drawnTimes_12 : decode cX4_drawnTimes 12 = .ok (.iaload, 1) := dk_46 (dk_at dksX4_drawnTimes_0 12 rfl rfl)
theorem dX4_drawnTimes_13 : decode cX4_drawnTimes 13 = .ok (.if_icmp .ge 26, 3) := dk_162 0 26 (dk_at dksX4_drawnTimes_0 13 rfl rfl)
theorem dX4_drawnTimes_16 : decode cX4_drawnTimes 16 = .ok (.iload_n 2, 1) := dk_28 (dk_at dksX4_drawnTimes_0 16 rfl rfl)
theorem dX4_drawnTimes_17 : decode cX4_drawnTimes 17 = .ok (.aload_n 0, 1) := dk_42 (dk_at dksX4_drawnTimes_0 17 rfl rfl)
theorem dX4_drawnTimes_18 : decode cX4_drawnTimes 18 = .ok (.getfield 20, 3) := dk_180 0 20 (dk_at dksX4_drawnTimes_0 18 rfl rfl)
theorem dX4_drawnTimes_21 : decode cX4_drawnTimes 21 = .ok (.sipush 350, 3) := dk_17 1 94 (dk_at dksX4_drawnTimes_0 21 rfl rfl)
theorem dX4_drawnTimes_24 : decode cX4_drawnTimes 24 = .ok (.iload_n 3, 1) := dk_29 (dk_at dksX4_drawnTimes_1 0 rfl rfl)
theorem dX4_drawnTimes_25 : decode cX4_drawnTimes 25 = .ok (.iadd, 1) := dk_96 (dk_at dksX4_drawnTimes_1 1 rfl rfl)
theorem dX4_drawnTimes_26 : decode cX4_drawnTimes 26 = .ok (.iaload, 1) := dk_46 (dk_at dksX4_drawnTimes_1 2 rfl rfl)
theorem dX4_drawnTimes_27 : decode cX4_drawnTimes 27 = .ok (.iload_n 1, 1) := dk_27 (dk_at dksX4_drawnTimes_1 3 rfl rfl)
theorem dX4_drawnTimes_28 : decode cX4_drawnTimes 28 = .ok (.ishr, 1) := dk_122 (dk_at dksX4_drawnTimes_1 4 rfl rfl)
theorem dX4_drawnTimes_29 : decode cX4_drawnTimes 29 = .ok (.iconst 1, 1) := dk_4 (dk_at dksX4_drawnTimes_1 5 rfl rfl)
theorem dX4_drawnTimes_30 : decode cX4_drawnTimes 30 = .ok (.iand, 1) := dk_126 (dk_at dksX4_drawnTimes_1 6 rfl rfl)
theorem dX4_drawnTimes_31 : decode cX4_drawnTimes 31 = .ok (.iadd, 1) := dk_96 (dk_at dksX4_drawnTimes_1 7 rfl rfl)
theorem dX4_drawnTimes_32 : decode cX4_drawnTimes 32 = .ok (.istore_n 2, 1) := dk_61 (dk_at dksX4_drawnTimes_1 8 rfl rfl)
theorem dX4_drawnTimes_33 : decode cX4_drawnTimes 33 = .ok (.iinc 3 1, 3) := dk_132 3 1 (dk_at dksX4_drawnTimes_1 9 rfl rfl)
theorem dX4_drawnTimes_36 : decode cX4_drawnTimes 36 = .ok (.goto (-32), 3) := dk_167 255 224 (dk_at dksX4_drawnTimes_1 12 rfl rfl)
theorem dX4_drawnTimes_39 : decode cX4_drawnTimes 39 = .ok (.iload_n 2, 1) := dk_28 (dk_at dksX4_drawnTimes_1 15 rfl rfl)
theorem dX4_drawnTimes_40 : decode cX4_drawnTimes 40 = .ok (.ireturn, 1) := dk_172 (dk_at dksX4_drawnTimes_1 16 rfl rfl)
abbrev cX4_seldom : ByteArray := prog_29_method_117_code
def yX4_seldom : MethodName := ⟨RX4, "seldom", "(I)I"⟩
def dkwX4_seldom_3 : List UInt8 := [172]
abbrev dktX4_seldom_3 : List UInt8 := dkwX4_seldom_3 ++ []
def dkwX4_seldom_2 : List UInt8 := [182, 1, 234, 184, 1, 138, 61, 132, 3, 1, 167, 255, 235, 18, 185, 28, 42, 182, 0, 146, 104, 184, 1, 138]
abbrev dktX4_seldom_2 : List UInt8 := dkwX4_seldom_2 ++ dktX4_seldom_3
def dkwX4_seldom_1 : List UInt8 := [182, 0, 146, 154, 0, 5, 2, 172, 18, 185, 61, 3, 62, 29, 42, 182, 0, 146, 162, 0, 19, 28, 42, 29]
abbrev dktX4_seldom_1 : List UInt8 := dkwX4_seldom_1 ++ dktX4_seldom_2
def dkwX4_seldom_0 : List UInt8 := [27, 2, 159, 0, 21, 42, 27, 182, 0, 158, 153, 0, 11, 42, 27, 182, 1, 234, 167, 0, 4, 2, 172, 42]
abbrev dktX4_seldom_0 : List UInt8 := dkwX4_seldom_0 ++ dktX4_seldom_1
theorem dksX4_seldom_0 : cX4_seldom.data.toList.drop 0 = dktX4_seldom_0 := by decide +kernel
theorem dksX4_seldom_1 : cX4_seldom.data.toList.drop 24 = dktX4_seldom_1 := dk_seg dksX4_seldom_0 24 rfl rfl
theorem dksX4_seldom_2 : cX4_seldom.data.toList.drop 48 = dktX4_seldom_2 := dk_seg dksX4_seldom_1 24 rfl rfl
theorem dksX4_seldom_3 : cX4_seldom.data.toList.drop 72 = dktX4_seldom_3 := dk_seg dksX4_seldom_2 24 rfl rfl
theorem dX4_seldom_0 : decode cX4_seldom 0 = .ok (.iload_n 1, 1) := dk_27 (dk_at dksX4_seldom_0 0 rfl rfl)
theorem dX4_seldom_1 : decode cX4_seldom 1 = .ok (.iconst (-1), 1) := dk_2 (dk_at dksX4_seldom_0 1 rfl rfl)
theorem dX4_seldom_2 : decode cX4_seldom 2 = .ok (.if_icmp .eq 21, 3) := dk_159 0 21 (dk_at dksX4_seldom_0 2 rfl rfl)
theorem dX4_seldom_5 : decode cX4_seldom 5 = .ok (.aload_n 0, 1) := dk_42 (dk_at dksX4_seldom_0 5 rfl rfl)
theorem dX4_seldom_6 : decode cX4_seldom 6 = .ok (.iload_n 1, 1) := dk_27 (dk_at dksX4_seldom_0 6 rfl rfl)
theorem dX4_seldom_7 : decode cX4_seldom 7 = .ok (.invokevirtual 158, 3) := dk_182 0 158 (dk_at dksX4_seldom_0 7 rfl rfl)
theorem dX4_seldom_10 : decode cX4_seldom 10 = .ok (.ifCond .eq 11, 3) := dk_153 0 11 (dk_at dksX4_seldom_0 10 rfl rfl)
theorem dX4_seldom_13 : decode cX4_seldom 13 = .ok (.aload_n 0, 1) := dk_42 (dk_at dksX4_seldom_0 13 rfl rfl)
theorem dX4_seldom_14 : decode cX4_seldom 14 = .ok (.iload_n 1, 1) := dk_27 (dk_at dksX4_seldom_0 14 rfl rfl)
theorem dX4_seldom_15 : decode cX4_seldom 15 = .ok (.invokevirtual 490, 3) := dk_182 1 234 (dk_at dksX4_seldom_0 15 rfl rfl)
theorem dX4_seldom_18 : decode cX4_seldom 18 = .ok (.goto 4, 3) := dk_167 0 4 (dk_at dksX4_seldom_0 18 rfl rfl)
theorem dX4_seldom_21 : decode cX4_seldom 21 = .ok (.iconst (-1), 1) := dk_2 (dk_at dksX4_seldom_0 21 rfl rfl)
theorem dX4_seldom_22 : decode cX4_seldom 22 = .ok (.ireturn, 1) := dk_172 (dk_at dksX4_seldom_0 22 rfl rfl)
theorem dX4_seldom_23 : decode cX4_seldom 23 = .ok (.aload_n 0, 1) := dk_42 (dk_at dksX4_seldom_0 23 rfl rfl)
theorem dX4_seldom_24 : decode cX4_seldom 24 = .ok (.invokevirtual 146, 3) := dk_182 0 146 (dk_at dksX4_seldom_1 0 rfl rfl)
theorem dX4_seldom_27 : decode cX4_seldom 27 = .ok (.ifCond .ne 5, 3) := dk_154 0 5 (dk_at dksX4_seldom_1 3 rfl rfl)
theorem dX4_seldom_30 : decode cX4_seldom 30 = .ok (.iconst (-1), 1) := dk_2 (dk_at dksX4_seldom_1 6 rfl rfl)
theorem dX4_seldom_31 : decode cX4_seldom 31 = .ok (.ireturn, 1) := dk_172 (dk_at dksX4_seldom_1 7 rfl rfl)
theorem dX4_seldom_32 : decode cX4_seldom 32 = .ok (.ldc 185, 2) := dk_18 185 (dk_at dksX4_seldom_1 8 rfl rfl)
theorem dX4_seldom_34 : decode cX4_seldom 34 = .ok (.istore_n 2, 1) := dk_61 (dk_at dksX4_seldom_1 10 rfl rfl)
theorem dX4_seldom_35 : decode cX4_seldom 35 = .ok (.iconst 0, 1) := dk_3 (dk_at dksX4_seldom_1 11 rfl rfl)
theorem dX4_seldom_36 : decode cX4_seldom 36 = .ok (.istore_n 3, 1) := dk_62 (dk_at dksX4_seldom_1 12 rfl rfl)
theorem dX4_seldom_37 : decode cX4_seldom 37 = .ok (.iload_n 3, 1) := dk_29 (dk_at dksX4_seldom_1 13 rfl rfl)
theorem dX4_seldom_38 : decode cX4_seldom 38 = .ok (.aload_n 0, 1) := dk_42 (dk_at dksX4_seldom_1 14 rfl rfl)
theorem dX4_seldom_39 : decode cX4_seldom 39 = .ok (.invokevirtual 146, 3) := dk_182 0 146 (dk_at dksX4_seldom_1 15 rfl rfl)
theorem dX4_seldom_42 : decode cX4_seldom 42 = .ok (.if_icmp .ge 19, 3) := dk_162 0 19 (dk_at dksX4_seldom_1 18 rfl rfl)
theorem dX4_seldom_45 : decode cX4_seldom 45 = .ok (.iload_n 2, 1) := dk_28 (dk_at dksX4_seldom_1 21 rfl rfl)
theorem dX4_seldom_46 : decode cX4_seldom 46 = .ok (.aload_n 0, 1) := dk_42 (dk_at dksX4_seldom_1 22 rfl rfl)
theorem dX4_seldom_47 : decode cX4_seldom 47 = .ok (.iload_n 3, 1) := dk_29 (dk_at dksX4_seldom_1 23 rfl rfl)
theorem dX4_seldom_48 : decode cX4_seldom 48 = .ok (.invokevirtual 490, 3) := dk_182 1 234 (dk_at dksX4_seldom_2 0 rfl rfl)
theorem dX4_seldom_51 : decode cX4_seldom 51 = .ok (.invokestatic 394, 3) := dk_184 1 138 (dk_at dksX4_seldom_2 3 rfl rfl)
theorem dX4_seldom_54 : decode cX4_seldom 54 = .ok (.istore_n 2, 1) := dk_61 (dk_at dksX4_seldom_2 6 rfl rfl)
theorem dX4_seldom_55 : decode cX4_seldom 55 = .ok (.iinc 3 1, 3) := dk_132 3 1 (dk_at dksX4_seldom_2 7 rfl rfl)
theorem dX4_seldom_58 : decode cX4_seldom 58 = .ok (.goto (-21), 3) := dk_167 255 235 (dk_at dksX4_seldom_2 10 rfl rfl)
theorem dX4_seldom_61 : decode cX4_seldom 61 = .ok (.ldc 185, 2) := dk_18 185 (dk_at dksX4_seldom_2 13 rfl rfl)
theorem dX4_seldom_63 : decode cX4_seldom 63 = .ok (.iload_n 2, 1) := dk_28 (dk_at dksX4_seldom_2 15 rfl rfl)
theorem dX4_seldom_64 : decode cX4_seldom 64 = .ok (.aload_n 0, 1) := dk_42 (dk_at dksX4_seldom_2 16 rfl rfl)
theorem dX4_seldom_65 : decode cX4_seldom 65 = .ok (.invokevirtual 146, 3) := dk_182 0 146 (dk_at dksX4_seldom_2 17 rfl rfl)
theorem dX4_seldom_68 : decode cX4_seldom 68 = .ok (.imul, 1) := dk_104 (dk_at dksX4_seldom_2 20 rfl rfl)
theorem dX4_seldom_69 : decode cX4_seldom 69 = .ok (.invokestatic 394, 3) := dk_184 1 138 (dk_at dksX4_seldom_2 21 rfl rfl)
theorem dX4_seldom_72 : decode cX4_seldom 72 = .ok (.ireturn, 1) := dk_172 (dk_at dksX4_seldom_3 0 rfl rfl)
abbrev cX4_seldomOf : ByteArray := prog_29_method_116_code
def yX4_seldomOf : MethodName := ⟨RX4, "seldomOf", "(I)I"⟩
def dkwX4_seldomOf_11 : List UInt8 := [167, 0, 9, 21, 6, 4, 100, 54, 5, 167, 255, 171, 21, 4, 172]
abbrev dktX4_seldomOf_11 : List UInt8 := dkwX4_seldomOf_11 ++ []
def dkwX4_seldomOf_10 : List UInt8 := [21, 6, 4, 184, 1, 218, 42, 180, 0, 129, 42, 180, 0, 123, 184, 1, 230, 157, 0, 10, 21, 6, 54, 4]
abbrev dktX4_seldomOf_10 : List UInt8 := dkwX4_seldomOf_10 ++ dktX4_seldomOf_11
def dkwX4_seldomOf_9 : List UInt8 := [180, 0, 129, 21, 7, 42, 180, 0, 126, 21, 7, 47, 80, 132, 7, 1, 167, 255, 232, 42, 180, 0, 129]
abbrev dktX4_seldomOf_9 : List UInt8 := dkwX4_seldomOf_9 ++ dktX4_seldomOf_10
def dkwX4_seldomOf_8 : List UInt8 := [21, 4, 21, 5, 96, 4, 96, 5, 108, 54, 6, 3, 54, 7, 21, 7, 16, 12, 162, 0, 23, 42]
abbrev dktX4_seldomOf_8 : List UInt8 := dkwX4_seldomOf_8 ++ dktX4_seldomOf_9
def dkwX4_seldomOf_7 : List UInt8 := [180, 0, 123, 18, 185, 4, 184, 1, 218, 3, 54, 4, 18, 185, 54, 5, 21, 4, 21, 5, 162, 0, 84]
abbrev dktX4_seldomOf_7 : List UInt8 := dkwX4_seldomOf_7 ++ dktX4_seldomOf_8
def dkwX4_seldomOf_6 : List UInt8 := [132, 4, 1, 167, 255, 152, 42, 180, 0, 126, 10, 184, 1, 214, 42, 180, 0, 126, 28, 29, 184, 1, 218, 42]
abbrev dktX4_seldomOf_6 : List UInt8 := dkwX4_seldomOf_6 ++ dktX4_seldomOf_7
def dkwX4_seldomOf_5 : List UInt8 := [182, 1, 62, 100, 29, 21, 4, 100, 184, 1, 218, 42, 180, 0, 123, 42, 180, 0, 129, 184, 1, 226]
abbrev dktX4_seldomOf_5 : List UInt8 := dkwX4_seldomOf_5 ++ dktX4_seldomOf_6
def dkwX4_seldomOf_4 : List UInt8 := [167, 255, 222, 42, 180, 0, 129, 42, 3, 182, 1, 62, 21, 4, 184, 1, 218, 42, 180, 0, 129, 28, 42, 3]
abbrev dktX4_seldomOf_4 : List UInt8 := dkwX4_seldomOf_4 ++ dktX4_seldomOf_5
def dkwX4_seldomOf_3 : List UInt8 := [21, 4, 100, 21, 5, 96, 4, 184, 1, 218, 42, 180, 0, 129, 21, 5, 184, 1, 222, 132, 5, 1]
abbrev dktX4_seldomOf_3 : List UInt8 := dkwX4_seldomOf_3 ++ dktX4_seldomOf_4
def dkwX4_seldomOf_2 : List UInt8 := [42, 180, 0, 129, 10, 184, 1, 214, 4, 54, 5, 21, 5, 21, 4, 163, 0, 33, 42, 180, 0, 129, 29]
abbrev dktX4_seldomOf_2 : List UInt8 := dkwX4_seldomOf_2 ++ dktX4_seldomOf_3
def dkwX4_seldomOf_1 : List UInt8 := [18, 185, 172, 42, 180, 0, 123, 9, 184, 1, 214, 3, 54, 4, 21, 4, 42, 27, 182, 1, 209, 163, 0, 100]
abbrev dktX4_seldomOf_1 : List UInt8 := dkwX4_seldomOf_1 ++ dktX4_seldomOf_2
def dkwX4_seldomOf_0 : List UInt8 := [42, 182, 0, 146, 61, 42, 180, 0, 20, 17, 1, 136, 46, 62, 42, 3, 182, 1, 62, 28, 161, 0, 6]
abbrev dktX4_seldomOf_0 : List UInt8 := dkwX4_seldomOf_0 ++ dktX4_seldomOf_1
theorem dksX4_seldomOf_0 : cX4_seldomOf.data.toList.drop 0 = dktX4_seldomOf_0 := by decide +kernel
theorem dksX4_seldomOf_1 : cX4_seldomOf.data.toList.drop 23 = dktX4_seldomOf_1 := dk_seg dksX4_seldomOf_0 23 rfl rfl
theorem dksX4_seldomOf_2 : cX4_seldomOf.data.toList.drop 47 = dktX4_seldomOf_2 := dk_seg dksX4_seldomOf_1 24 rfl rfl
theorem dksX4_seldomOf_3 : cX4_seldomOf.data.toList.drop 70 = dktX4_seldomOf_3 := dk_seg dksX4_seldomOf_2 23 rfl rfl
theorem dksX4_seldomOf_4 : cX4_seldomOf.data.toList.drop 92 = dktX4_seldomOf_4 := dk_seg dksX4_seldomOf_3 22 rfl rfl
theorem dksX4_seldomOf_5 : cX4_seldomOf.data.toList.drop 116 = dktX4_seldomOf_5 := dk_seg dksX4_seldomOf_4 24 rfl rfl
theorem dksX4_seldomOf_6 : cX4_seldomOf.data.toList.drop 138 = dktX4_seldomOf_6 := dk_seg dksX4_seldomOf_5 22 rfl rfl
theorem dksX4_seldomOf_7 : cX4_seldomOf.data.toList.drop 162 = dktX4_seldomOf_7 := dk_seg dksX4_seldomOf_6 24 rfl rfl
theorem dksX4_seldomOf_8 : cX4_seldomOf.data.toList.drop 185 = dktX4_seldomOf_8 := dk_seg dksX4_seldomOf_7 23 rfl rfl
theorem dksX4_seldomOf_9 : cX4_seldomOf.data.toList.drop 207 = dktX4_seldomOf_9 := dk_seg dksX4_seldomOf_8 22 rfl rfl
theorem dksX4_seldomOf_10 : cX4_seldomOf.data.toList.drop 230 = dktX4_seldomOf_10 := dk_seg dksX4_seldomOf_9 23 rfl rfl
theorem dksX4_seldomOf_11 : cX4_seldomOf.data.toList.drop 254 = dktX4_seldomOf_11 := dk_seg dksX4_seldomOf_10 24 rfl rfl
theorem dX4_seldomOf_0 : decode cX4_seldomOf 0 = .ok (.aload_n 0, 1) := dk_42 (dk_at dksX4_seldomOf_0 0 rfl rfl)
theorem dX4_seldomOf_1 : decode cX4_seldomOf 1 = .ok (.invokevirtual 146, 3) := dk_182 0 146 (dk_at dksX4_seldomOf_0 1 rfl rfl)
theorem dX4_seldomOf_4 : decode cX4_seldomOf 4 = .ok (.istore_n 2, 1) := dk_61 (dk_at dksX4_seldomOf_0 4 rfl rfl)
theorem dX4_seldomOf_5 : decode cX4_seldomOf 5 = .ok (.aload_n 0, 1) := dk_42 (dk_at dksX4_seldomOf_0 5 rfl rfl)
theorem dX4_seldomOf_6 : decode cX4_seldomOf 6 = .ok (.getfield 20, 3) := dk_180 0 20 (dk_at dksX4_seldomOf_0 6 rfl rfl)
theorem dX4_seldomOf_9 : decode cX4_seldomOf 9 = .ok (.sipush 392, 3) := dk_17 1 136 (dk_at dksX4_seldomOf_0 9 rfl rfl)
theorem dX4_seldomOf_12 : decode cX4_seldomOf 12 = .ok (.iaload, 1) := dk_46 (dk_at dksX4_seldomOf_0 12 rfl rfl)
theorem dX4_seldomOf_13 : decode cX4_seldomOf 13 = .ok (.istore_n 3, 1) := dk_62 (dk_at dksX4_seldomOf_0 13 rfl rfl)
theorem dX4_seldomOf_14 : decode cX4_seldomOf 14 = .ok (.aload_n 0, 1) := dk_42 (dk_at dksX4_seldomOf_0 14 rfl rfl)
theorem dX4_seldomOf_15 : decode cX4_seldomOf 15 = .ok (.iconst 0, 1) := dk_3 (dk_at dksX4_seldomOf_0 15 rfl rfl)
theorem dX4_seldomOf_16 : decode cX4_seldomOf 16 = .ok (.invokevirtual 318, 3) := dk_182 1 62 (dk_at dksX4_seldomOf_0 16 rfl rfl)
theorem dX4_seldomOf_19 : decode cX4_seldomOf 19 = .ok (.iload_n 2, 1) := dk_28 (dk_at dksX4_seldomOf_0 19 rfl rfl)
theorem dX4_seldomOf_20 : decode cX4_seldomOf 20 = .ok (.if_icmp .lt 6, 3) := dk_161 0 6 (dk_at dksX4_seldomOf_0 20 rfl rfl)
theorem dX4_seldomOf_23 : decode cX4_seldomOf 23 = .ok (.ldc 185, 2) := dk_18 185 (dk_at dksX4_seldomOf_1 0 rfl rfl)
theorem dX4_seldomOf_25 : decode cX4_seldomOf 25 = .ok (.ireturn, 1) := dk_172 (dk_at dksX4_seldomOf_1 2 rfl rfl)
theorem dX4_seldomOf_26 : decode cX4_seldomOf 26 = .ok (.aload_n 0, 1) := dk_42 (dk_at dksX4_seldomOf_1 3 rfl rfl)
theorem dX4_seldomOf_27 : decode cX4_seldomOf 27 = .ok (.getfield 123, 3) := dk_180 0 123 (dk_at dksX4_seldomOf_1 4 rfl rfl)
theorem dX4_seldomOf_30 : decode cX4_seldomOf 30 = .ok (.lconst 0, 1) := dk_9 (dk_at dksX4_seldomOf_1 7 rfl rfl)
theorem dX4_seldomOf_31 : decode cX4_seldomOf 31 = .ok (.invokestatic 470, 3) := dk_184 1 214 (dk_at dksX4_seldomOf_1 8 rfl rfl)
theorem dX4_seldomOf_34 : decode cX4_seldomOf 34 = .ok (.iconst 0, 1) := dk_3 (dk_at dksX4_seldomOf_1 11 rfl rfl)
theorem dX4_seldomOf_35 : decode cX4_seldomOf 35 = .ok (.istore 4, 2) := dk_54 4 (dk_at dksX4_seldomOf_1 12 rfl rfl)
theorem dX4_seldomOf_37 : decode cX4_seldomOf 37 = .ok (.iload 4, 2) := dk_21 4 (dk_at dksX4_seldomOf_1 14 rfl rfl)
theorem dX4_seldomOf_39 : decode cX4_seldomOf 39 = .ok (.aload_n 0, 1) := dk_42 (dk_at dksX4_seldomOf_1 16 rfl rfl)
theorem dX4_seldomOf_40 : decode cX4_seldomOf 40 = .ok (.iload_n 1, 1) := dk_27 (dk_at dksX4_seldomOf_1 17 rfl rfl)
theorem dX4_seldomOf_41 : decode cX4_seldomOf 41 = .ok (.invokevirtual 465, 3) := dk_182 1 209 (dk_at dksX4_seldomOf_1 18 rfl rfl)
theorem dX4_seldomOf_44 : decode cX4_seldomOf 44 = .ok (.if_icmp .gt 100, 3) := dk_163 0 100 (dk_at dksX4_seldomOf_1 21 rfl rfl)
theorem dX4_seldomOf_47 : decode cX4_seldomOf 47 = .ok (.aload_n 0, 1) := dk_42 (dk_at dksX4_seldomOf_2 0 rfl rfl)
theorem dX4_seldomOf_48 : decode cX4_seldomOf 48 = .ok (.getfield 129, 3) := dk_180 0 129 (dk_at dksX4_seldomOf_2 1 rfl rfl)
theorem dX4_seldomOf_51 : decode cX4_seldomOf 51 = .ok (.lconst 1, 1) := dk_10 (dk_at dksX4_seldomOf_2 4 rfl rfl)
theorem dX4_seldomOf_52 : decode cX4_seldomOf 52 = .ok (.invokestatic 470, 3) := dk_184 1 214 (dk_at dksX4_seldomOf_2 5 rfl rfl)
theorem dX4_seldomOf_55 : decode cX4_seldomOf 55 = .ok (.iconst 1, 1) := dk_4 (dk_at dksX4_seldomOf_2 8 rfl rfl)
theorem dX4_seldomOf_56 : decode cX4_seldomOf 56 = .ok (.istore 5, 2) := dk_54 5 (dk_at dksX4_seldomOf_2 9 rfl rfl)
theorem dX4_seldomOf_58 : decode cX4_seldomOf 58 = .ok (.iload 5, 2) := dk_21 5 (dk_at dksX4_seldomOf_2 11 rfl rfl)
theorem dX4_seldomOf_60 : decode cX4_seldomOf 60 = .ok (.iload 4, 2) := dk_21 4 (dk_at dksX4_seldomOf_2 13 rfl rfl)
theorem dX4_seldomOf_62 : decode cX4_seldomOf 62 = .ok (.if_icmp .gt 33, 3) := dk_163 0 33 (dk_at dksX4_seldomOf_2 15 rfl rfl)
theorem dX4_seldomOf_65 : decode cX4_seldomOf 65 = .ok (.aload_n 0, 1) := dk_42 (dk_at dksX4_seldomOf_2 18 rfl rfl)
theorem dX4_seldomOf_66 : decode cX4_seldomOf 66 = .ok (.getfield 129, 3) := dk_180 0 129 (dk_at dksX4_seldomOf_2 19 rfl rfl)
theorem dX4_seldomOf_69 : decode cX4_seldomOf 69 = .ok (.iload_n 3, 1) := dk_29 (dk_at dksX4_seldomOf_2 22 rfl rfl)
theorem dX4_seldomOf_70 : decode cX4_seldomOf 70 = .ok (.iload 4, 2) := dk_21 4 (dk_at dksX4_seldomOf_3 0 rfl rfl)
theorem dX4_seldomOf_72 : decode cX4_seldomOf 72 = .ok (.isub, 1) := dk_100 (dk_at dksX4_seldomOf_3 2 rfl rfl)
theorem dX4_seldomOf_73 : decode cX4_seldomOf 73 = .ok (.iload 5, 2) := dk_21 5 (dk_at dksX4_seldomOf_3 3 rfl rfl)
theorem dX4_seldomOf_75 : decode cX4_seldomOf 75 = .ok (.iadd, 1) := dk_96 (dk_at dksX4_seldomOf_3 5 rfl rfl)
theorem dX4_seldomOf_76 : decode cX4_seldomOf 76 = .ok (.iconst 1, 1) := dk_4 (dk_at dksX4_seldomOf_3 6 rfl rfl)
theorem dX4_seldomOf_77 : decode cX4_seldomOf 77 = .ok (.invokestatic 474, 3) := dk_184 1 218 (dk_at dksX4_seldomOf_3 7 rfl rfl)
theorem dX4_seldomOf_80 : decode cX4_seldomOf 80 = .ok (.aload_n 0, 1) := dk_42 (dk_at dksX4_seldomOf_3 10 rfl rfl)
theorem dX4_seldomOf_81 : decode cX4_seldomOf 81 = .ok (.getfield 129, 3) := dk_180 0 129 (dk_at dksX4_seldomOf_3 11 rfl rfl)
theorem dX4_seldomOf_84 : decode cX4_seldomOf 84 = .ok (.iload 5, 2) := dk_21 5 (dk_at dksX4_seldomOf_3 14 rfl rfl)
theorem dX4_seldomOf_86 : decode cX4_seldomOf 86 = .ok (.invokestatic 478, 3) := dk_184 1 222 (dk_at dksX4_seldomOf_3 16 rfl rfl)
theorem dX4_seldomOf_89 : decode cX4_seldomOf 89 = .ok (.iinc 5 1, 3) := dk_132 5 1 (dk_at dksX4_seldomOf_3 19 rfl rfl)
theorem dX4_seldomOf_92 : decode cX4_seldomOf 92 = .ok (.goto (-34), 3) := dk_167 255 222 (dk_at dksX4_seldomOf_4 0 rfl rfl)
theorem dX4_seldomOf_95 : decode cX4_seldomOf 95 = .ok (.aload_n 0, 1) := dk_42 (dk_at dksX4_seldomOf_4 3 rfl rfl)
theorem dX4_seldomOf_96 : decode cX4_seldomOf 96 = .ok (.getfield 129, 3) := dk_180 0 129 (dk_at dksX4_seldomOf_4 4 rfl rfl)
theorem dX4_seldomOf_99 : decode cX4_seldomOf 99 = .ok (.aload_n 0, 1) := dk_42 (dk_at dksX4_seldomOf_4 7 rfl rfl)
theorem dX4_seldomOf_100 : decode cX4_seldomOf 100 = .ok (.iconst 0, 1) := dk_3 (dk_at dksX4_seldomOf_4 8 rfl rfl)
theorem dX4_seldomOf_101 : decode cX4_seldomOf 101 = .ok (.invokevirtual 318, 3) := dk_182 1 62 (dk_at dksX4_seldomOf_4 9 rfl rfl)
theorem dX4_seldomOf_104 : decode cX4_seldomOf 104 = .ok (.iload 4, 2) := dk_21 4 (dk_at dksX4_seldomOf_4 12 rfl rfl)
theorem dX4_seldomOf_106 : decode cX4_seldomOf 106 = .ok (.invokestatic 474, 3) := dk_184 1 218 (dk_at dksX4_seldomOf_4 14 rfl rfl)
theorem dX4_seldomOf_109 : decode cX4_seldomOf 109 = .ok (.aload_n 0, 1) := dk_42 (dk_at dksX4_seldomOf_4 17 rfl rfl)
theorem dX4_seldomOf_110 : decode cX4_seldomOf 110 = .ok (.getfield 129, 3) := dk_180 0 129 (dk_at dksX4_seldomOf_4 18 rfl rfl)
theorem dX4_seldomOf_113 : decode cX4_seldomOf 113 = .ok (.iload_n 2, 1) := dk_28 (dk_at dksX4_seldomOf_4 21 rfl rfl)
theorem dX4_seldomOf_114 : decode cX4_seldomOf 114 = .ok (.aload_n 0, 1) := dk_42 (dk_at dksX4_seldomOf_4 22 rfl rfl)
theorem dX4_seldomOf_115 : decode cX4_seldomOf 115 = .ok (.iconst 0, 1) := dk_3 (dk_at dksX4_seldomOf_4 23 rfl rfl)
theorem dX4_seldomOf_116 : decode cX4_seldomOf 116 = .ok (.invokevirtual 318, 3) := dk_182 1 62 (dk_at dksX4_seldomOf_5 0 rfl rfl)
theorem dX4_seldomOf_119 : decode cX4_seldomOf 119 = .ok (.isub, 1) := dk_100 (dk_at dksX4_seldomOf_5 3 rfl rfl)
theorem dX4_seldomOf_120 : decode cX4_seldomOf 120 = .ok (.iload_n 3, 1) := dk_29 (dk_at dksX4_seldomOf_5 4 rfl rfl)
theorem dX4_seldomOf_121 : decode cX4_seldomOf 121 = .ok (.iload 4, 2) := dk_21 4 (dk_at dksX4_seldomOf_5 5 rfl rfl)
theorem dX4_seldomOf_123 : decode cX4_seldomOf 123 = .ok (.isub, 1) := dk_100 (dk_at dksX4_seldomOf_5 7 rfl rfl)
theorem dX4_seldomOf_124 : decode cX4_seldomOf 124 = .ok (.invokestatic 474, 3) := dk_184 1 218 (dk_at dksX4_seldomOf_5 8 rfl rfl)
theorem dX4_seldomOf_127 : decode cX4_seldomOf 127 = .ok (.aload_n 0, 1) := dk_42 (dk_at dksX4_seldomOf_5 11 rfl rfl)
theorem dX4_seldomOf_128 : decode cX4_seldomOf 128 = .ok (.getfield 123, 3) := dk_180 0 123 (dk_at dksX4_seldomOf_5 12 rfl rfl)
theorem dX4_seldomOf_131 : decode cX4_seldomOf 131 = .ok (.aload_n 0, 1) := dk_42 (dk_at dksX4_seldomOf_5 15 rfl rfl)
theorem dX4_seldomOf_132 : decode cX4_seldomOf 132 = .ok (.getfield 129, 3) := dk_180 0 129 (dk_at dksX4_seldomOf_5 16 rfl rfl)
theorem dX4_seldomOf_135 : decode cX4_seldomOf 135 = .ok (.invokestatic 482, 3) := dk_184 1 226 (dk_at dksX4_seldomOf_5 19 rfl rfl)
theorem dX4_seldomOf_138 : decode cX4_seldomOf 138 = .ok (.iinc 4 1, 3) := dk_132 4 1 (dk_at dksX4_seldomOf_6 0 rfl rfl)
theorem dX4_seldomOf_141 : decode cX4_seldomOf 141 = .ok (.goto (-104), 3) := dk_167 255 152 (dk_at dksX4_seldomOf_6 3 rfl rfl)
theorem dX4_seldomOf_144 : decode cX4_seldomOf 144 = .ok (.aload_n 0, 1) := dk_42 (dk_at dksX4_seldomOf_6 6 rfl rfl)
theorem dX4_seldomOf_145 : decode cX4_seldomOf 145 = .ok (.getfield 126, 3) := dk_180 0 126 (dk_at dksX4_seldomOf_6 7 rfl rfl)
theorem dX4_seldomOf_148 : decode cX4_seldomOf 148 = .ok (.lconst 1, 1) := dk_10 (dk_at dksX4_seldomOf_6 10 rfl rfl)
theorem dX4_seldomOf_149 : decode cX4_seldomOf 149 = .ok (.invokestatic 470, 3) := dk_184 1 214 (dk_at dksX4_seldomOf_6 11 rfl rfl)
theorem dX4_seldomOf_152 : decode cX4_seldomOf 152 = .ok (.aload_n 0, 1) := dk_42 (dk_at dksX4_seldomOf_6 14 rfl rfl)
theorem dX4_seldomOf_153 : decode cX4_seldomOf 153 = .ok (.getfield 126, 3) := dk_180 0 126 (dk_at dksX4_seldomOf_6 15 rfl rfl)
theorem dX4_seldomOf_156 : decode cX4_seldomOf 156 = .ok (.iload_n 2, 1) := dk_28 (dk_at dksX4_seldomOf_6 18 rfl rfl)
theorem dX4_seldomOf_157 : decode cX4_seldomOf 157 = .ok (.iload_n 3, 1) := dk_29 (dk_at dksX4_seldomOf_6 19 rfl rfl)
theorem dX4_seldomOf_158 : decode cX4_seldomOf 158 = .ok (.invokestatic 474, 3) := dk_184 1 218 (dk_at dksX4_seldomOf_6 20 rfl rfl)
theorem dX4_seldomOf_161 : decode cX4_seldomOf 161 = .ok (.aload_n 0, 1) := dk_42 (dk_at dksX4_seldomOf_6 23 rfl rfl)
theorem dX4_seldomOf_162 : decode cX4_seldomOf 162 = .ok (.getfield 123, 3) := dk_180 0 123 (dk_at dksX4_seldomOf_7 0 rfl rfl)
theorem dX4_seldomOf_165 : decode cX4_seldomOf 165 = .ok (.ldc 185, 2) := dk_18 185 (dk_at dksX4_seldomOf_7 3 rfl rfl)
theorem dX4_seldomOf_167 : decode cX4_seldomOf 167 = .ok (.iconst 1, 1) := dk_4 (dk_at dksX4_seldomOf_7 5 rfl rfl)
theorem dX4_seldomOf_168 : decode cX4_seldomOf 168 = .ok (.invokestatic 474, 3) := dk_184 1 218 (dk_at dksX4_seldomOf_7 6 rfl rfl)
theorem dX4_seldomOf_171 : decode cX4_seldomOf 171 = .ok (.iconst 0, 1) := dk_3 (dk_at dksX4_seldomOf_7 9 rfl rfl)
theorem dX4_seldomOf_172 : decode cX4_seldomOf 172 = .ok (.istore 4, 2) := dk_54 4 (dk_at dksX4_seldomOf_7 10 rfl rfl)
theorem dX4_seldomOf_174 : decode cX4_seldomOf 174 = .ok (.ldc 185, 2) := dk_18 185 (dk_at dksX4_seldomOf_7 12 rfl rfl)
theorem dX4_seldomOf_176 : decode cX4_seldomOf 176 = .ok (.istore 5, 2) := dk_54 5 (dk_at dksX4_seldomOf_7 14 rfl rfl)
theorem dX4_seldomOf_178 : decode cX4_seldomOf 178 = .ok (.iload 4, 2) := dk_21 4 (dk_at dksX4_seldomOf_7 16 rfl rfl)
theorem dX4_seldomOf_180 : decode cX4_seldomOf 180 = .ok (.iload 5, 2) := dk_21 5 (dk_at dksX4_seldomOf_7 18 rfl rfl)
theorem dX4_seldomOf_182 : decode cX4_seldomOf 182 = .ok (.if_icmp .ge 84, 3) := dk_162 0 84 (dk_at dksX4_seldomOf_7 20 rfl rfl)
theorem dX4_seldomOf_185 : decode cX4_seldomOf 185 = .ok (.iload 4, 2) := dk_21 4 (dk_at dksX4_seldomOf_8 0 rfl rfl)
theorem dX4_seldomOf_187 : decode cX4_seldomOf 187 = .ok (.iload 5, 2) := dk_21 5 (dk_at dksX4_seldomOf_8 2 rfl rfl)
theorem dX4_seldomOf_189 : decode cX4_seldomOf 189 = .ok (.iadd, 1) := dk_96 (dk_at dksX4_seldomOf_8 4 rfl rfl)
theorem dX4_seldomOf_190 : decode cX4_seldomOf 190 = .ok (.iconst 1, 1) := dk_4 (dk_at dksX4_seldomOf_8 5 rfl rfl)
theorem dX4_seldomOf_191 : decode cX4_seldomOf 191 = .ok (.iadd, 1) := dk_96 (dk_at dksX4_seldomOf_8 6 rfl rfl)
theorem dX4_seldomOf_192 : decode cX4_seldomOf 192 = .ok (.iconst 2, 1) := dk_5 (dk_at dksX4_seldomOf_8 7 rfl rfl)
theorem dX4_seldomOf_193 : decode cX4_seldomOf 193 = .ok (.idiv, 1) := dk_108 (dk_at dksX4_seldomOf_8 8 rfl rfl)
theorem dX4_seldomOf_194 : decode cX4_seldomOf 194 = .ok (.istore 6, 2) := dk_54 6 (dk_at dksX4_seldomOf_8 9 rfl rfl)
theorem dX4_seldomOf_196 : decode cX4_seldomOf 196 = .ok (.iconst 0, 1) := dk_3 (dk_at dksX4_seldomOf_8 11 rfl rfl)
theorem dX4_seldomOf_197 : decode cX4_seldomOf 197 = .ok (.istore 7, 2) := dk_54 7 (dk_at dksX4_seldomOf_8 12 rfl rfl)
theorem dX4_seldomOf_199 : decode cX4_seldomOf 199 = .ok (.iload 7, 2) := dk_21 7 (dk_at dksX4_seldomOf_8 14 rfl rfl)
theorem dX4_seldomOf_201 : decode cX4_seldomOf 201 = .ok (.bipush 12, 2) := dk_16 12 (dk_at dksX4_seldomOf_8 16 rfl rfl)
theorem dX4_seldomOf_203 : decode cX4_seldomOf 203 = .ok (.if_icmp .ge 23, 3) := dk_162 0 23 (dk_at dksX4_seldomOf_8 18 rfl rfl)
theorem dX4_seldomOf_206 : decode cX4_seldomOf 206 = .ok (.aload_n 0, 1) := dk_42 (dk_at dksX4_seldomOf_8 21 rfl rfl)
theorem dX4_seldomOf_207 : decode cX4_seldomOf 207 = .ok (.getfield 129, 3) := dk_180 0 129 (dk_at dksX4_seldomOf_9 0 rfl rfl)
theorem dX4_seldomOf_210 : decode cX4_seldomOf 210 = .ok (.iload 7, 2) := dk_21 7 (dk_at dksX4_seldomOf_9 3 rfl rfl)
theorem dX4_seldomOf_212 : decode cX4_seldomOf 212 = .ok (.aload_n 0, 1) := dk_42 (dk_at dksX4_seldomOf_9 5 rfl rfl)
theorem dX4_seldomOf_213 : decode cX4_seldomOf 213 = .ok (.getfield 126, 3) := dk_180 0 126 (dk_at dksX4_seldomOf_9 6 rfl rfl)
theorem dX4_seldomOf_216 : decode cX4_seldomOf 216 = .ok (.iload 7, 2) := dk_21 7 (dk_at dksX4_seldomOf_9 9 rfl rfl)
theorem dX4_seldomOf_218 : decode cX4_seldomOf 218 = .ok (.laload, 1) := dk_47 (dk_at dksX4_seldomOf_9 11 rfl rfl)
theorem dX4_seldomOf_219 : decode cX4_seldomOf 219 = .ok (.lastore, 1) := dk_80 (dk_at dksX4_seldomOf_9 12 rfl rfl)
theorem dX4_seldomOf_220 : decode cX4_seldomOf 220 = .ok (.iinc 7 1, 3) := dk_132 7 1 (dk_at dksX4_seldomOf_9 13 rfl rfl)
theorem dX4_seldomOf_223 : decode cX4_seldomOf 223 = .ok (.goto (-24), 3) := dk_167 255 232 (dk_at dksX4_seldomOf_9 16 rfl rfl)
theorem dX4_seldomOf_226 : decode cX4_seldomOf 226 = .ok (.aload_n 0, 1) := dk_42 (dk_at dksX4_seldomOf_9 19 rfl rfl)
theorem dX4_seldomOf_227 : decode cX4_seldomOf 227 = .ok (.getfield 129, 3) := dk_180 0 129 (dk_at dksX4_seldomOf_9 20 rfl rfl)
theorem dX4_seldomOf_230 : decode cX4_seldomOf 230 = .ok (.iload 6, 2) := dk_21 6 (dk_at dksX4_seldomOf_10 0 rfl rfl)
theorem dX4_seldomOf_232 : decode cX4_seldomOf 232 = .ok (.iconst 1, 1) := dk_4 (dk_at dksX4_seldomOf_10 2 rfl rfl)
theorem dX4_seldomOf_233 : decode cX4_seldomOf 233 = .ok (.invokestatic 474, 3) := dk_184 1 218 (dk_at dksX4_seldomOf_10 3 rfl rfl)
theorem dX4_seldomOf_236 : decode cX4_seldomOf 236 = .ok (.aload_n 0, 1) := dk_42 (dk_at dksX4_seldomOf_10 6 rfl rfl)
theorem dX4_seldomOf_237 : decode cX4_seldomOf 237 = .ok (.getfield 129, 3) := dk_180 0 129 (dk_at dksX4_seldomOf_10 7 rfl rfl)
theorem dX4_seldomOf_240 : decode cX4_seldomOf 240 = .ok (.aload_n 0, 1) := dk_42 (dk_at dksX4_seldomOf_10 10 rfl rfl)
theorem dX4_seldomOf_241 : decode cX4_seldomOf 241 = .ok (.getfield 123, 3) := dk_180 0 123 (dk_at dksX4_seldomOf_10 11 rfl rfl)
theorem dX4_seldomOf_244 : decode cX4_seldomOf 244 = .ok (.invokestatic 486, 3) := dk_184 1 230 (dk_at dksX4_seldomOf_10 14 rfl rfl)
theorem dX4_seldomOf_247 : decode cX4_seldomOf 247 = .ok (.ifCond .gt 10, 3) := dk_157 0 10 (dk_at dksX4_seldomOf_10 17 rfl rfl)
theorem dX4_seldomOf_250 : decode cX4_seldomOf 250 = .ok (.iload 6, 2) := dk_21 6 (dk_at dksX4_seldomOf_10 20 rfl rfl)
theorem dX4_seldomOf_252 : decode cX4_seldomOf 252 = .ok (.istore 4, 2) := dk_54 4 (dk_at dksX4_seldomOf_10 22 rfl rfl)
theorem dX4_seldomOf_254 : decode cX4_seldomOf 254 = .ok (.goto 9, 3) := dk_167 0 9 (dk_at dksX4_seldomOf_11 0 rfl rfl)
theorem dX4_seldomOf_257 : decode cX4_seldomOf 257 = .ok (.iload 6, 2) := dk_21 6 (dk_at dksX4_seldomOf_11 3 rfl rfl)
theorem dX4_seldomOf_259 : decode cX4_seldomOf 259 = .ok (.iconst 1, 1) := dk_4 (dk_at dksX4_seldomOf_11 5 rfl rfl)
theorem dX4_seldomOf_260 : decode cX4_seldomOf 260 = .ok (.isub, 1) := dk_100 (dk_at dksX4_seldomOf_11 6 rfl rfl)
theorem dX4_seldomOf_261 : decode cX4_seldomOf 261 = .ok (.istore 5, 2) := dk_54 5 (dk_at dksX4_seldomOf_11 7 rfl rfl)
theorem dX4_seldomOf_263 : decode cX4_seldomOf 263 = .ok (.goto (-85), 3) := dk_167 255 171 (dk_at dksX4_seldomOf_11 9 rfl rfl)
theorem dX4_seldomOf_266 : decode cX4_seldomOf 266 = .ok (.iload 4, 2) := dk_21 4 (dk_at dksX4_seldomOf_11 12 rfl rfl)
theorem dX4_seldomOf_268 : decode cX4_seldomOf 268 = .ok (.ireturn, 1) := dk_172 (dk_at dksX4_seldomOf_11 14 rfl rfl)
abbrev cX4_be : ByteArray := prog_29_method_111_code
def yX4_be : MethodName := ⟨RX4, "be", "([JJ)V"⟩
def dkwX4_be_1 : List UInt8 := [167, 255, 235, 177]
abbrev dktX4_be_1 : List UInt8 := dkwX4_be_1 ++ []
def dkwX4_be_0 : List UInt8 := [3, 62, 29, 16, 12, 162, 0, 21, 42, 29, 29, 154, 0, 7, 31, 167, 0, 4, 9, 80, 132, 3, 1]
abbrev dktX4_be_0 : List UInt8 := dkwX4_be_0 ++ dktX4_be_1
theorem dksX4_be_0 : cX4_be.data.toList.drop 0 = dktX4_be_0 := by decide +kernel
theorem dksX4_be_1 : cX4_be.data.toList.drop 23 = dktX4_be_1 := dk_seg dksX4_be_0 23 rfl rfl
theorem dX4_be_0 : decode cX4_be 0 = .ok (.iconst 0, 1) := dk_3 (dk_at dksX4_be_0 0 rfl rfl)
theorem dX4_be_1 : decode cX4_be 1 = .ok (.istore_n 3, 1) := dk_62 (dk_at dksX4_be_0 1 rfl rfl)
theorem dX4_be_2 : decode cX4_be 2 = .ok (.iload_n 3, 1) := dk_29 (dk_at dksX4_be_0 2 rfl rfl)
theorem dX4_be_3 : decode cX4_be 3 = .ok (.bipush 12, 2) := dk_16 12 (dk_at dksX4_be_0 3 rfl rfl)
theorem dX4_be_5 : decode cX4_be 5 = .ok (.if_icmp .ge 21, 3) := dk_162 0 21 (dk_at dksX4_be_0 5 rfl rfl)
theorem dX4_be_8 : decode cX4_be 8 = .ok (.aload_n 0, 1) := dk_42 (dk_at dksX4_be_0 8 rfl rfl)
theorem dX4_be_9 : decode cX4_be 9 = .ok (.iload_n 3, 1) := dk_29 (dk_at dksX4_be_0 9 rfl rfl)
theorem dX4_be_10 : decode cX4_be 10 = .ok (.iload_n 3, 1) := dk_29 (dk_at dksX4_be_0 10 rfl rfl)
theorem dX4_be_11 : decode cX4_be 11 = .ok (.ifCond .ne 7, 3) := dk_154 0 7 (dk_at dksX4_be_0 11 rfl rfl)
theorem dX4_be_14 : decode cX4_be 14 = .ok (.lload_n 1, 1) := dk_31 (dk_at dksX4_be_0 14 rfl rfl)
theorem dX4_be_15 : decode cX4_be 15 = .ok (.goto 4, 3) := dk_167 0 4 (dk_at dksX4_be_0 15 rfl rfl)
theorem dX4_be_18 : decode cX4_be 18 = .ok (.lconst 0, 1) := dk_9 (dk_at dksX4_be_0 18 rfl rfl)
theorem dX4_be_19 : decode cX4_be 19 = .ok (.lastore, 1) := dk_80 (dk_at dksX4_be_0 19 rfl rfl)
theorem dX4_be_20 : decode cX4_be 20 = .ok (.iinc 3 1, 3) := dk_132 3 1 (dk_at dksX4_be_0 20 rfl rfl)
theorem dX4_be_23 : decode cX4_be 23 = .ok (.goto (-21), 3) := dk_167 255 235 (dk_at dksX4_be_1 0 rfl rfl)
theorem dX4_be_26 : decode cX4_be 26 = .ok (.return_, 1) := dk_177 (dk_at dksX4_be_1 3 rfl rfl)
abbrev cX4_makes : ByteArray := prog_29_method_112_code
def yX4_makes : MethodName := ⟨RX4, "makes", "([JII)V"⟩
def dkwX4_makes_2 : List UInt8 := [55, 4, 132, 6, 1, 167, 255, 216, 132, 3, 1, 167, 255, 199, 177]
abbrev dktX4_makes_2 : List UInt8 := dkwX4_makes_2 ++ []
def dkwX4_makes_1 : List UInt8 := [27, 133, 105, 22, 4, 97, 55, 7, 42, 21, 6, 22, 7, 20, 1, 212, 113, 80, 22, 7, 20, 1, 212, 109]
abbrev dktX4_makes_1 : List UInt8 := dkwX4_makes_1 ++ dktX4_makes_2
def dkwX4_makes_0 : List UInt8 := [3, 62, 29, 28, 162, 0, 58, 9, 55, 4, 3, 54, 6, 21, 6, 16, 12, 162, 0, 39, 42, 21, 6, 47]
abbrev dktX4_makes_0 : List UInt8 := dkwX4_makes_0 ++ dktX4_makes_1
theorem dksX4_makes_0 : cX4_makes.data.toList.drop 0 = dktX4_makes_0 := by decide +kernel
theorem dksX4_makes_1 : cX4_makes.data.toList.drop 24 = dktX4_makes_1 := dk_seg dksX4_makes_0 24 rfl rfl
theorem dksX4_makes_2 : cX4_makes.data.toList.drop 48 = dktX4_makes_2 := dk_seg dksX4_makes_1 24 rfl rfl
theorem dX4_makes_0 : decode cX4_makes 0 = .ok (.iconst 0, 1) := dk_3 (dk_at dksX4_makes_0 0 rfl rfl)
theorem dX4_makes_1 : decode cX4_makes 1 = .ok (.istore_n 3, 1) := dk_62 (dk_at dksX4_makes_0 1 rfl rfl)
theorem dX4_makes_2 : decode cX4_makes 2 = .ok (.iload_n 3, 1) := dk_29 (dk_at dksX4_makes_0 2 rfl rfl)
theorem dX4_makes_3 : decode cX4_makes 3 = .ok (.iload_n 2, 1) := dk_28 (dk_at dksX4_makes_0 3 rfl rfl)
theorem dX4_makes_4 : decode cX4_makes 4 = .ok (.if_icmp .ge 58, 3) := dk_162 0 58 (dk_at dksX4_makes_0 4 rfl rfl)
theorem dX4_makes_7 : decode cX4_makes 7 = .ok (.lconst 0, 1) := dk_9 (dk_at dksX4_makes_0 7 rfl rfl)
theorem dX4_makes_8 : decode cX4_makes 8 = .ok (.lstore 4, 2) := dk_55 4 (dk_at dksX4_makes_0 8 rfl rfl)
theorem dX4_makes_10 : decode cX4_makes 10 = .ok (.iconst 0, 1) := dk_3 (dk_at dksX4_makes_0 10 rfl rfl)
theorem dX4_makes_11 : decode cX4_makes 11 = .ok (.istore 6, 2) := dk_54 6 (dk_at dksX4_makes_0 11 rfl rfl)
theorem dX4_makes_13 : decode cX4_makes 13 = .ok (.iload 6, 2) := dk_21 6 (dk_at dksX4_makes_0 13 rfl rfl)
theorem dX4_makes_15 : decode cX4_makes 15 = .ok (.bipush 12, 2) := dk_16 12 (dk_at dksX4_makes_0 15 rfl rfl)
theorem dX4_makes_17 : decode cX4_makes 17 = .ok (.if_icmp .ge 39, 3) := dk_162 0 39 (dk_at dksX4_makes_0 17 rfl rfl)
theorem dX4_makes_20 : decode cX4_makes 20 = .ok (.aload_n 0, 1) := dk_42 (dk_at dksX4_makes_0 20 rfl rfl)
theorem dX4_makes_21 : decode cX4_makes 21 = .ok (.iload 6, 2) := dk_21 6 (dk_at dksX4_makes_0 21 rfl rfl)
theorem dX4_makes_23 : decode cX4_makes 23 = .ok (.laload, 1) := dk_47 (dk_at dksX4_makes_0 23 rfl rfl)
theorem dX4_makes_24 : decode cX4_makes 24 = .ok (.iload_n 1, 1) := dk_27 (dk_at dksX4_makes_1 0 rfl rfl)
theorem dX4_makes_25 : decode cX4_makes 25 = .ok (.i2l, 1) := dk_133 (dk_at dksX4_makes_1 1 rfl rfl)
theorem dX4_makes_26 : decode cX4_makes 26 = .ok (.lmul, 1) := dk_105 (dk_at dksX4_makes_1 2 rfl rfl)
theorem dX4_makes_27 : decode cX4_makes 27 = .ok (.lload 4, 2) := dk_22 4 (dk_at dksX4_makes_1 3 rfl rfl)
theorem dX4_makes_29 : decode cX4_makes 29 = .ok (.ladd, 1) := dk_97 (dk_at dksX4_makes_1 5 rfl rfl)
theorem dX4_makes_30 : decode cX4_makes 30 = .ok (.lstore 7, 2) := dk_55 7 (dk_at dksX4_makes_1 6 rfl rfl)
theorem dX4_makes_32 : decode cX4_makes 32 = .ok (.aload_n 0, 1) := dk_42 (dk_at dksX4_makes_1 8 rfl rfl)
theorem dX4_makes_33 : decode cX4_makes 33 = .ok (.iload 6, 2) := dk_21 6 (dk_at dksX4_makes_1 9 rfl rfl)
theorem dX4_makes_35 : decode cX4_makes 35 = .ok (.lload 7, 2) := dk_22 7 (dk_at dksX4_makes_1 11 rfl rfl)
theorem dX4_makes_37 : decode cX4_makes 37 = .ok (.ldc2_w 468, 3) := dk_20 1 212 (dk_at dksX4_makes_1 13 rfl rfl)
theorem dX4_makes_40 : decode cX4_makes 40 = .ok (.lrem, 1) := dk_113 (dk_at dksX4_makes_1 16 rfl rfl)
theorem dX4_makes_41 : decode cX4_makes 41 = .ok (.lastore, 1) := dk_80 (dk_at dksX4_makes_1 17 rfl rfl)
theorem dX4_makes_42 : decode cX4_makes 42 = .ok (.lload 7, 2) := dk_22 7 (dk_at dksX4_makes_1 18 rfl rfl)
theorem dX4_makes_44 : decode cX4_makes 44 = .ok (.ldc2_w 468, 3) := dk_20 1 212 (dk_at dksX4_makes_1 20 rfl rfl)
theorem dX4_makes_47 : decode cX4_makes 47 = .ok (.ldiv, 1) := dk_109 (dk_at dksX4_makes_1 23 rfl rfl)
theorem dX4_makes_48 : decode cX4_makes 48 = .ok (.lstore 4, 2) := dk_55 4 (dk_at dksX4_makes_2 0 rfl rfl)
theorem dX4_makes_50 : decode cX4_makes 50 = .ok (.iinc 6 1, 3) := dk_132 6 1 (dk_at dksX4_makes_2 2 rfl rfl)
theorem dX4_makes_53 : decode cX4_makes 53 = .ok (.goto (-40), 3) := dk_167 255 216 (dk_at dksX4_makes_2 5 rfl rfl)
theorem dX4_makes_56 : decode cX4_makes 56 = .ok (.iinc 3 1, 3) := dk_132 3 1 (dk_at dksX4_makes_2 8 rfl rfl)
theorem dX4_makes_59 : decode cX4_makes 59 = .ok (.goto (-57), 3) := dk_167 255 199 (dk_at dksX4_makes_2 11 rfl rfl)
theorem dX4_makes_62 : decode cX4_makes 62 = .ok (.return_, 1) := dk_177 (dk_at dksX4_makes_2 14 rfl rfl)
abbrev cX4_shares1 : ByteArray := prog_29_method_114_code
def yX4_shares1 : MethodName := ⟨RX4, "shares1", "([JI)V"⟩
def dkwX4_shares1_1 : List UInt8 := [21, 4, 22, 5, 27, 133, 109, 80, 22, 5, 27, 133, 113, 65, 132, 4, 255, 167, 255, 221, 177]
abbrev dktX4_shares1_1 : List UInt8 := dkwX4_shares1_1 ++ []
def dkwX4_shares1_0 : List UInt8 := [9, 65, 16, 11, 54, 4, 21, 4, 155, 0, 36, 32, 20, 1, 212, 105, 42, 21, 4, 47, 97, 55, 5, 42]
abbrev dktX4_shares1_0 : List UInt8 := dkwX4_shares1_0 ++ dktX4_shares1_1
theorem dksX4_shares1_0 : cX4_shares1.data.toList.drop 0 = dktX4_shares1_0 := by decide +kernel
theorem dksX4_shares1_1 : cX4_shares1.data.toList.drop 24 = dktX4_shares1_1 := dk_seg dksX4_shares1_0 24 rfl rfl
theorem dX4_shares1_0 : decode cX4_shares1 0 = .ok (.lconst 0, 1) := dk_9 (dk_at dksX4_shares1_0 0 rfl rfl)
theorem dX4_shares1_1 : decode cX4_shares1 1 = .ok (.lstore_n 2, 1) := dk_65 (dk_at dksX4_shares1_0 1 rfl rfl)
theorem dX4_shares1_2 : decode cX4_shares1 2 = .ok (.bipush 11, 2) := dk_16 11 (dk_at dksX4_shares1_0 2 rfl rfl)
theorem dX4_shares1_4 : decode cX4_shares1 4 = .ok (.istore 4, 2) := dk_54 4 (dk_at dksX4_shares1_0 4 rfl rfl)
theorem dX4_shares1_6 : decode cX4_shares1 6 = .ok (.iload 4, 2) := dk_21 4 (dk_at dksX4_shares1_0 6 rfl rfl)
theorem dX4_shares1_8 : decode cX4_shares1 8 = .ok (.ifCond .lt 36, 3) := dk_155 0 36 (dk_at dksX4_shares1_0 8 rfl rfl)
theorem dX4_shares1_11 : decode cX4_shares1 11 = .ok (.lload_n 2, 1) := dk_32 (dk_at dksX4_shares1_0 11 rfl rfl)
theorem dX4_shares1_12 : decode cX4_shares1 12 = .ok (.ldc2_w 468, 3) := dk_20 1 212 (dk_at dksX4_shares1_0 12 rfl rfl)
theorem dX4_shares1_15 : decode cX4_shares1 15 = .ok (.lmul, 1) := dk_105 (dk_at dksX4_shares1_0 15 rfl rfl)
theorem dX4_shares1_16 : decode cX4_shares1 16 = .ok (.aload_n 0, 1) := dk_42 (dk_at dksX4_shares1_0 16 rfl rfl)
theorem dX4_shares1_17 : decode cX4_shares1 17 = .ok (.iload 4, 2) := dk_21 4 (dk_at dksX4_shares1_0 17 rfl rfl)
theorem dX4_shares1_19 : decode cX4_shares1 19 = .ok (.laload, 1) := dk_47 (dk_at dksX4_shares1_0 19 rfl rfl)
theorem dX4_shares1_20 : decode cX4_shares1 20 = .ok (.ladd, 1) := dk_97 (dk_at dksX4_shares1_0 20 rfl rfl)
theorem dX4_shares1_21 : decode cX4_shares1 21 = .ok (.lstore 5, 2) := dk_55 5 (dk_at dksX4_shares1_0 21 rfl rfl)
theorem dX4_shares1_23 : decode cX4_shares1 23 = .ok (.aload_n 0, 1) := dk_42 (dk_at dksX4_shares1_0 23 rfl rfl)
theorem dX4_shares1_24 : decode cX4_shares1 24 = .ok (.iload 4, 2) := dk_21 4 (dk_at dksX4_shares1_1 0 rfl rfl)
theorem dX4_shares1_26 : decode cX4_shares1 26 = .ok (.lload 5, 2) := dk_22 5 (dk_at dksX4_shares1_1 2 rfl rfl)
theorem dX4_shares1_28 : decode cX4_shares1 28 = .ok (.iload_n 1, 1) := dk_27 (dk_at dksX4_shares1_1 4 rfl rfl)
theorem dX4_shares1_29 : decode cX4_shares1 29 = .ok (.i2l, 1) := dk_133 (dk_at dksX4_shares1_1 5 rfl rfl)
theorem dX4_shares1_30 : decode cX4_shares1 30 = .ok (.ldiv, 1) := dk_109 (dk_at dksX4_shares1_1 6 rfl rfl)
theorem dX4_shares1_31 : decode cX4_shares1 31 = .ok (.lastore, 1) := dk_80 (dk_at dksX4_shares1_1 7 rfl rfl)
theorem dX4_shares1_32 : decode cX4_shares1 32 = .ok (.lload 5, 2) := dk_22 5 (dk_at dksX4_shares1_1 8 rfl rfl)
theorem dX4_shares1_34 : decode cX4_shares1 34 = .ok (.iload_n 1, 1) := dk_27 (dk_at dksX4_shares1_1 10 rfl rfl)
theorem dX4_shares1_35 : decode cX4_shares1 35 = .ok (.i2l, 1) := dk_133 (dk_at dksX4_shares1_1 11 rfl rfl)
theorem dX4_shares1_36 : decode cX4_shares1 36 = .ok (.lrem, 1) := dk_113 (dk_at dksX4_shares1_1 12 rfl rfl)
theorem dX4_shares1_37 : decode cX4_shares1 37 = .ok (.lstore_n 2, 1) := dk_65 (dk_at dksX4_shares1_1 13 rfl rfl)
theorem dX4_shares1_38 : decode cX4_shares1 38 = .ok (.iinc 4 (-1), 3) := dk_132 4 255 (dk_at dksX4_shares1_1 14 rfl rfl)
theorem dX4_shares1_41 : decode cX4_shares1 41 = .ok (.goto (-35), 3) := dk_167 255 221 (dk_at dksX4_shares1_1 17 rfl rfl)
theorem dX4_shares1_44 : decode cX4_shares1 44 = .ok (.return_, 1) := dk_177 (dk_at dksX4_shares1_1 20 rfl rfl)
abbrev cX4_adds : ByteArray := prog_29_method_113_code
def yX4_adds : MethodName := ⟨RX4, "adds", "([J[J)V"⟩
def dkwX4_adds_2 : List UInt8 := [167, 255, 216, 177]
abbrev dktX4_adds_2 : List UInt8 := dkwX4_adds_2 ++ []
def dkwX4_adds_1 : List UInt8 := [55, 5, 42, 21, 4, 22, 5, 20, 1, 212, 113, 80, 22, 5, 20, 1, 212, 109, 65, 132, 4, 1]
abbrev dktX4_adds_1 : List UInt8 := dkwX4_adds_1 ++ dktX4_adds_2
def dkwX4_adds_0 : List UInt8 := [9, 65, 3, 54, 4, 21, 4, 16, 12, 162, 0, 39, 42, 21, 4, 47, 43, 21, 4, 47, 97, 32, 97]
abbrev dktX4_adds_0 : List UInt8 := dkwX4_adds_0 ++ dktX4_adds_1
theorem dksX4_adds_0 : cX4_adds.data.toList.drop 0 = dktX4_adds_0 := by decide +kernel
theorem dksX4_adds_1 : cX4_adds.data.toList.drop 23 = dktX4_adds_1 := dk_seg dksX4_adds_0 23 rfl rfl
theorem dksX4_adds_2 : cX4_adds.data.toList.drop 45 = dktX4_adds_2 := dk_seg dksX4_adds_1 22 rfl rfl
theorem dX4_adds_0 : decode cX4_adds 0 = .ok (.lconst 0, 1) := dk_9 (dk_at dksX4_adds_0 0 rfl rfl)
theorem dX4_adds_1 : decode cX4_adds 1 = .ok (.lstore_n 2, 1) := dk_65 (dk_at dksX4_adds_0 1 rfl rfl)
theorem dX4_adds_2 : decode cX4_adds 2 = .ok (.iconst 0, 1) := dk_3 (dk_at dksX4_adds_0 2 rfl rfl)
theorem dX4_adds_3 : decode cX4_adds 3 = .ok (.istore 4, 2) := dk_54 4 (dk_at dksX4_adds_0 3 rfl rfl)
theorem dX4_adds_5 : decode cX4_adds 5 = .ok (.iload 4, 2) := dk_21 4 (dk_at dksX4_adds_0 5 rfl rfl)
theorem dX4_adds_7 : decode cX4_adds 7 = .ok (.bipush 12, 2) := dk_16 12 (dk_at dksX4_adds_0 7 rfl rfl)
theorem dX4_adds_9 : decode cX4_adds 9 = .ok (.if_icmp .ge 39, 3) := dk_162 0 39 (dk_at dksX4_adds_0 9 rfl rfl)
theorem dX4_adds_12 : decode cX4_adds 12 = .ok (.aload_n 0, 1) := dk_42 (dk_at dksX4_adds_0 12 rfl rfl)
theorem dX4_adds_13 : decode cX4_adds 13 = .ok (.iload 4, 2) := dk_21 4 (dk_at dksX4_adds_0 13 rfl rfl)
theorem dX4_adds_15 : decode cX4_adds 15 = .ok (.laload, 1) := dk_47 (dk_at dksX4_adds_0 15 rfl rfl)
theorem dX4_adds_16 : decode cX4_adds 16 = .ok (.aload_n 1, 1) := dk_43 (dk_at dksX4_adds_0 16 rfl rfl)
theorem dX4_adds_17 : decode cX4_adds 17 = .ok (.iload 4, 2) := dk_21 4 (dk_at dksX4_adds_0 17 rfl rfl)
theorem dX4_adds_19 : decode cX4_adds 19 = .ok (.laload, 1) := dk_47 (dk_at dksX4_adds_0 19 rfl rfl)
theorem dX4_adds_20 : decode cX4_adds 20 = .ok (.ladd, 1) := dk_97 (dk_at dksX4_adds_0 20 rfl rfl)
theorem dX4_adds_21 : decode cX4_adds 21 = .ok (.lload_n 2, 1) := dk_32 (dk_at dksX4_adds_0 21 rfl rfl)
theorem dX4_adds_22 : decode cX4_adds 22 = .ok (.ladd, 1) := dk_97 (dk_at dksX4_adds_0 22 rfl rfl)
theorem dX4_adds_23 : decode cX4_adds 23 = .ok (.lstore 5, 2) := dk_55 5 (dk_at dksX4_adds_1 0 rfl rfl)
theorem dX4_adds_25 : decode cX4_adds 25 = .ok (.aload_n 0, 1) := dk_42 (dk_at dksX4_adds_1 2 rfl rfl)
theorem dX4_adds_26 : decode cX4_adds 26 = .ok (.iload 4, 2) := dk_21 4 (dk_at dksX4_adds_1 3 rfl rfl)
theorem dX4_adds_28 : decode cX4_adds 28 = .ok (.lload 5, 2) := dk_22 5 (dk_at dksX4_adds_1 5 rfl rfl)
theorem dX4_adds_30 : decode cX4_adds 30 = .ok (.ldc2_w 468, 3) := dk_20 1 212 (dk_at dksX4_adds_1 7 rfl rfl)
theorem dX4_adds_33 : decode cX4_adds 33 = .ok (.lrem, 1) := dk_113 (dk_at dksX4_adds_1 10 rfl rfl)
theorem dX4_adds_34 : decode cX4_adds 34 = .ok (.lastore, 1) := dk_80 (dk_at dksX4_adds_1 11 rfl rfl)
theorem dX4_adds_35 : decode cX4_adds 35 = .ok (.lload 5, 2) := dk_22 5 (dk_at dksX4_adds_1 12 rfl rfl)
theorem dX4_adds_37 : decode cX4_adds 37 = .ok (.ldc2_w 468, 3) := dk_20 1 212 (dk_at dksX4_adds_1 14 rfl rfl)
theorem dX4_adds_40 : decode cX4_adds 40 = .ok (.ldiv, 1) := dk_109 (dk_at dksX4_adds_1 17 rfl rfl)
theorem dX4_adds_41 : decode cX4_adds 41 = .ok (.lstore_n 2, 1) := dk_65 (dk_at dksX4_adds_1 18 rfl rfl)
theorem dX4_adds_42 : decode cX4_adds 42 = .ok (.iinc 4 1, 3) := dk_132 4 1 (dk_at dksX4_adds_1 19 rfl rfl)
theorem dX4_adds_45 : decode cX4_adds 45 = .ok (.goto (-40), 3) := dk_167 255 216 (dk_at dksX4_adds_2 0 rfl rfl)
theorem dX4_adds_48 : decode cX4_adds 48 = .ok (.return_, 1) := dk_177 (dk_at dksX4_adds_2 3 rfl rfl)
abbrev cX4_order : ByteArray := prog_29_method_115_code
def yX4_order : MethodName := ⟨RX4, "order", "([J[J)I"⟩
def dkwX4_order_1 : List UInt8 := [156, 0, 7, 2, 167, 0, 4, 4, 172, 132, 2, 255, 167, 255, 223, 3, 172]
abbrev dktX4_order_1 : List UInt8 := dkwX4_order_1 ++ []
def dkwX4_order_0 : List UInt8 := [16, 11, 61, 28, 155, 0, 35, 42, 28, 47, 43, 28, 47, 148, 153, 0, 19, 42, 28, 47, 43, 28, 47, 148]
abbrev dktX4_order_0 : List UInt8 := dkwX4_order_0 ++ dktX4_order_1
theorem dksX4_order_0 : cX4_order.data.toList.drop 0 = dktX4_order_0 := by decide +kernel
theorem dksX4_order_1 : cX4_order.data.toList.drop 24 = dktX4_order_1 := dk_seg dksX4_order_0 24 rfl rfl
theorem dX4_order_0 : decode cX4_order 0 = .ok (.bipush 11, 2) := dk_16 11 (dk_at dksX4_order_0 0 rfl rfl)
theorem dX4_order_2 : decode cX4_order 2 = .ok (.istore_n 2, 1) := dk_61 (dk_at dksX4_order_0 2 rfl rfl)
theorem dX4_order_3 : decode cX4_order 3 = .ok (.iload_n 2, 1) := dk_28 (dk_at dksX4_order_0 3 rfl rfl)
theorem dX4_order_4 : decode cX4_order 4 = .ok (.ifCond .lt 35, 3) := dk_155 0 35 (dk_at dksX4_order_0 4 rfl rfl)
theorem dX4_order_7 : decode cX4_order 7 = .ok (.aload_n 0, 1) := dk_42 (dk_at dksX4_order_0 7 rfl rfl)
theorem dX4_order_8 : decode cX4_order 8 = .ok (.iload_n 2, 1) := dk_28 (dk_at dksX4_order_0 8 rfl rfl)
theorem dX4_order_9 : decode cX4_order 9 = .ok (.laload, 1) := dk_47 (dk_at dksX4_order_0 9 rfl rfl)
theorem dX4_order_10 : decode cX4_order 10 = .ok (.aload_n 1, 1) := dk_43 (dk_at dksX4_order_0 10 rfl rfl)
theorem dX4_order_11 : decode cX4_order 11 = .ok (.iload_n 2, 1) := dk_28 (dk_at dksX4_order_0 11 rfl rfl)
theorem dX4_order_12 : decode cX4_order 12 = .ok (.laload, 1) := dk_47 (dk_at dksX4_order_0 12 rfl rfl)
theorem dX4_order_13 : decode cX4_order 13 = .ok (.lcmp, 1) := dk_148 (dk_at dksX4_order_0 13 rfl rfl)
theorem dX4_order_14 : decode cX4_order 14 = .ok (.ifCond .eq 19, 3) := dk_153 0 19 (dk_at dksX4_order_0 14 rfl rfl)
theorem dX4_order_17 : decode cX4_order 17 = .ok (.aload_n 0, 1) := dk_42 (dk_at dksX4_order_0 17 rfl rfl)
theorem dX4_order_18 : decode cX4_order 18 = .ok (.iload_n 2, 1) := dk_28 (dk_at dksX4_order_0 18 rfl rfl)
theorem dX4_order_19 : decode cX4_order 19 = .ok (.laload, 1) := dk_47 (dk_at dksX4_order_0 19 rfl rfl)
theorem dX4_order_20 : decode cX4_order 20 = .ok (.aload_n 1, 1) := dk_43 (dk_at dksX4_order_0 20 rfl rfl)
theorem dX4_order_21 : decode cX4_order 21 = .ok (.iload_n 2, 1) := dk_28 (dk_at dksX4_order_0 21 rfl rfl)
theorem dX4_order_22 : decode cX4_order 22 = .ok (.laload, 1) := dk_47 (dk_at dksX4_order_0 22 rfl rfl)
theorem dX4_order_23 : decode cX4_order 23 = .ok (.lcmp, 1) := dk_148 (dk_at dksX4_order_0 23 rfl rfl)
theorem dX4_order_24 : decode cX4_order 24 = .ok (.ifCond .ge 7, 3) := dk_156 0 7 (dk_at dksX4_order_1 0 rfl rfl)
theorem dX4_order_27 : decode cX4_order 27 = .ok (.iconst (-1), 1) := dk_2 (dk_at dksX4_order_1 3 rfl rfl)
theorem dX4_order_28 : decode cX4_order 28 = .ok (.goto 4, 3) := dk_167 0 4 (dk_at dksX4_order_1 4 rfl rfl)
theorem dX4_order_31 : decode cX4_order 31 = .ok (.iconst 1, 1) := dk_4 (dk_at dksX4_order_1 7 rfl rfl)
theorem dX4_order_32 : decode cX4_order 32 = .ok (.ireturn, 1) := dk_172 (dk_at dksX4_order_1 8 rfl rfl)
theorem dX4_order_33 : decode cX4_order 33 = .ok (.iinc 2 (-1), 3) := dk_132 2 255 (dk_at dksX4_order_1 9 rfl rfl)
theorem dX4_order_36 : decode cX4_order 36 = .ok (.goto (-33), 3) := dk_167 255 223 (dk_at dksX4_order_1 12 rfl rfl)
theorem dX4_order_39 : decode cX4_order 39 = .ok (.iconst 0, 1) := dk_3 (dk_at dksX4_order_1 15 rfl rfl)
theorem dX4_order_40 : decode cX4_order 40 = .ok (.ireturn, 1) := dk_172 (dk_at dksX4_order_1 16 rfl rfl)
abbrev cX4_exam : ByteArray := prog_29_method_122_code
def yX4_exam : MethodName := ⟨RX4, "exam", "(I)I"⟩
def dkwX4_exam_2 : List UInt8 := [180, 2, 5, 181, 2, 14, 42, 28, 182, 0, 143, 172]
abbrev dktX4_exam_2 : List UInt8 := dkwX4_exam_2 ++ []
def dkwX4_exam_1 : List UInt8 := [182, 2, 8, 61, 42, 42, 180, 1, 249, 181, 0, 132, 42, 42, 180, 2, 2, 181, 2, 11, 42, 42]
abbrev dktX4_exam_1 : List UInt8 := dkwX4_exam_1 ++ dktX4_exam_2
def dkwX4_exam_0 : List UInt8 := [27, 3, 18, 185, 184, 0, 135, 154, 0, 9, 42, 2, 182, 0, 139, 172, 42, 27, 181, 1, 239, 42]
abbrev dktX4_exam_0 : List UInt8 := dkwX4_exam_0 ++ dktX4_exam_1
theorem dksX4_exam_0 : cX4_exam.data.toList.drop 0 = dktX4_exam_0 := by decide +kernel
theorem dksX4_exam_1 : cX4_exam.data.toList.drop 22 = dktX4_exam_1 := dk_seg dksX4_exam_0 22 rfl rfl
theorem dksX4_exam_2 : cX4_exam.data.toList.drop 44 = dktX4_exam_2 := dk_seg dksX4_exam_1 22 rfl rfl
theorem dX4_exam_0 : decode cX4_exam 0 = .ok (.iload_n 1, 1) := dk_27 (dk_at dksX4_exam_0 0 rfl rfl)
theorem dX4_exam_1 : decode cX4_exam 1 = .ok (.iconst 0, 1) := dk_3 (dk_at dksX4_exam_0 1 rfl rfl)
theorem dX4_exam_2 : decode cX4_exam 2 = .ok (.ldc 185, 2) := dk_18 185 (dk_at dksX4_exam_0 2 rfl rfl)
theorem dX4_exam_4 : decode cX4_exam 4 = .ok (.invokestatic 135, 3) := dk_184 0 135 (dk_at dksX4_exam_0 4 rfl rfl)
theorem dX4_exam_7 : decode cX4_exam 7 = .ok (.ifCond .ne 9, 3) := dk_154 0 9 (dk_at dksX4_exam_0 7 rfl rfl)
theorem dX4_exam_10 : decode cX4_exam 10 = .ok (.aload_n 0, 1) := dk_42 (dk_at dksX4_exam_0 10 rfl rfl)
theorem dX4_exam_11 : decode cX4_exam 11 = .ok (.iconst (-1), 1) := dk_2 (dk_at dksX4_exam_0 11 rfl rfl)
theorem dX4_exam_12 : decode cX4_exam 12 = .ok (.invokevirtual 139, 3) := dk_182 0 139 (dk_at dksX4_exam_0 12 rfl rfl)
theorem dX4_exam_15 : decode cX4_exam 15 = .ok (.ireturn, 1) := dk_172 (dk_at dksX4_exam_0 15 rfl rfl)
theorem dX4_exam_16 : decode cX4_exam 16 = .ok (.aload_n 0, 1) := dk_42 (dk_at dksX4_exam_0 16 rfl rfl)
theorem dX4_exam_17 : decode cX4_exam 17 = .ok (.iload_n 1, 1) := dk_27 (dk_at dksX4_exam_0 17 rfl rfl)
theorem dX4_exam_18 : decode cX4_exam 18 = .ok (.putfield 495, 3) := dk_181 1 239 (dk_at dksX4_exam_0 18 rfl rfl)
theorem dX4_exam_21 : decode cX4_exam 21 = .ok (.aload_n 0, 1) := dk_42 (dk_at dksX4_exam_0 21 rfl rfl)
theorem dX4_exam_22 : decode cX4_exam 22 = .ok (.invokevirtual 520, 3) := dk_182 2 8 (dk_at dksX4_exam_1 0 rfl rfl)
theorem dX4_exam_25 : decode cX4_exam 25 = .ok (.istore_n 2, 1) := dk_61 (dk_at dksX4_exam_1 3 rfl rfl)
theorem dX4_exam_26 : decode cX4_exam 26 = .ok (.aload_n 0, 1) := dk_42 (dk_at dksX4_exam_1 4 rfl rfl)
theorem dX4_exam_27 : decode cX4_exam 27 = .ok (.aload_n 0, 1) := dk_42 (dk_at dksX4_exam_1 5 rfl rfl)
theorem dX4_exam_28 : decode cX4_exam 28 = .ok (.getfield 505, 3) := dk_180 1 249 (dk_at dksX4_exam_1 6 rfl rfl)
theorem dX4_exam_31 : decode cX4_exam 31 = .ok (.putfield 132, 3) := dk_181 0 132 (dk_at dksX4_exam_1 9 rfl rfl)
theorem dX4_exam_34 : decode cX4_exam 34 = .ok (.aload_n 0, 1) := dk_42 (dk_at dksX4_exam_1 12 rfl rfl)
theorem dX4_exam_35 : decode cX4_exam 35 = .ok (.aload_n 0, 1) := dk_42 (dk_at dksX4_exam_1 13 rfl rfl)
theorem dX4_exam_36 : decode cX4_exam 36 = .ok (.getfield 514, 3) := dk_180 2 2 (dk_at dksX4_exam_1 14 rfl rfl)
theorem dX4_exam_39 : decode cX4_exam 39 = .ok (.putfield 523, 3) := dk_181 2 11 (dk_at dksX4_exam_1 17 rfl rfl)
theorem dX4_exam_42 : decode cX4_exam 42 = .ok (.aload_n 0, 1) := dk_42 (dk_at dksX4_exam_1 20 rfl rfl)
theorem dX4_exam_43 : decode cX4_exam 43 = .ok (.aload_n 0, 1) := dk_42 (dk_at dksX4_exam_1 21 rfl rfl)
theorem dX4_exam_44 : decode cX4_exam 44 = .ok (.getfield 517, 3) := dk_180 2 5 (dk_at dksX4_exam_2 0 rfl rfl)
theorem dX4_exam_47 : decode cX4_exam 47 = .ok (.putfield 526, 3) := dk_181 2 14 (dk_at dksX4_exam_2 3 rfl rfl)
theorem dX4_exam_50 : decode cX4_exam 50 = .ok (.aload_n 0, 1) := dk_42 (dk_at dksX4_exam_2 6 rfl rfl)
theorem dX4_exam_51 : decode cX4_exam 51 = .ok (.iload_n 2, 1) := dk_28 (dk_at dksX4_exam_2 7 rfl rfl)
theorem dX4_exam_52 : decode cX4_exam 52 = .ok (.invokevirtual 143, 3) := dk_182 0 143 (dk_at dksX4_exam_2 8 rfl rfl)
theorem dX4_exam_55 : decode cX4_exam 55 = .ok (.ireturn, 1) := dk_172 (dk_at dksX4_exam_2 11 rfl rfl)
abbrev cX4_goes : ByteArray := prog_29_method_121_code
def yX4_goes : MethodName := ⟨RX4, "goes", "()I"⟩
def dkwX4_goes_16 : List UInt8 := [132, 5, 1, 132, 7, 1, 167, 255, 110, 21, 5, 172]
abbrev dktX4_goes_16 : List UInt8 := dkwX4_goes_16 ++ []
def dkwX4_goes_15 : List UInt8 := [5, 182, 0, 150, 46, 161, 0, 6, 167, 0, 19, 42, 89, 180, 2, 5, 4, 21, 8, 120, 128, 181, 2, 5]
abbrev dktX4_goes_15 : List UInt8 := dkwX4_goes_15 ++ dktX4_goes_16
def dkwX4_goes_14 : List UInt8 := [180, 2, 2, 4, 21, 8, 120, 128, 181, 2, 2, 42, 16, 100, 182, 1, 252, 42, 180, 0, 55, 42, 21, 8]
abbrev dktX4_goes_14 : List UInt8 := dkwX4_goes_14 ++ dktX4_goes_15
def dkwX4_goes_13 : List UInt8 := [21, 8, 5, 182, 0, 150, 46, 164, 0, 7, 21, 9, 54, 8, 132, 9, 1, 167, 255, 182, 42, 89]
abbrev dktX4_goes_13 : List UInt8 := dkwX4_goes_13 ++ dktX4_goes_14
def dkwX4_goes_12 : List UInt8 := [21, 8, 2, 159, 0, 30, 42, 180, 0, 55, 42, 21, 9, 5, 182, 0, 150, 46, 42, 180, 0, 55, 42]
abbrev dktX4_goes_12 : List UInt8 := dkwX4_goes_12 ++ dktX4_goes_13
def dkwX4_goes_11 : List UInt8 := [180, 1, 249, 21, 9, 122, 4, 126, 4, 160, 0, 52, 42, 180, 2, 2, 21, 9, 122, 4, 126, 154, 0, 40]
abbrev dktX4_goes_11 : List UInt8 := dkwX4_goes_11 ++ dktX4_goes_12
def dkwX4_goes_10 : List UInt8 := [21, 7, 21, 6, 162, 0, 145, 2, 54, 8, 3, 54, 9, 21, 9, 42, 182, 0, 146, 162, 0, 71, 42]
abbrev dktX4_goes_10 : List UInt8 := dkwX4_goes_10 ++ dktX4_goes_11
def dkwX4_goes_9 : List UInt8 := [162, 0, 11, 42, 4, 182, 1, 62, 167, 0, 10, 42, 180, 1, 249, 184, 1, 246, 54, 6, 3, 54, 7]
abbrev dktX4_goes_9 : List UInt8 := dkwX4_goes_9 ++ dktX4_goes_10
def dkwX4_goes_8 : List UInt8 := [3, 181, 2, 2, 42, 3, 181, 2, 5, 3, 54, 5, 42, 4, 182, 1, 62, 42, 180, 1, 249, 184, 1, 246]
abbrev dktX4_goes_8 : List UInt8 := dkwX4_goes_8 ++ dktX4_goes_9
def dkwX4_goes_7 : List UInt8 := [180, 1, 249, 2, 130, 126, 184, 1, 246, 182, 1, 252, 184, 1, 255, 120, 128, 181, 1, 249, 167, 255, 203, 42]
abbrev dktX4_goes_7 : List UInt8 := dkwX4_goes_7 ++ dktX4_goes_8
def dkwX4_goes_6 : List UInt8 := [184, 1, 246, 29, 162, 0, 43, 42, 42, 180, 1, 249, 4, 27, 42, 180, 1, 249, 2, 130, 126, 42, 27, 42]
abbrev dktX4_goes_6 : List UInt8 := dkwX4_goes_6 ++ dktX4_goes_7
def dkwX4_goes_5 : List UInt8 := [184, 1, 246, 182, 1, 252, 184, 1, 255, 120, 181, 1, 249, 21, 4, 153, 0, 54, 42, 180, 1, 249]
abbrev dktX4_goes_5 : List UInt8 := dkwX4_goes_5 ++ dktX4_goes_6
def dkwX4_goes_4 : List UInt8 := [153, 0, 35, 42, 16, 100, 182, 1, 252, 42, 6, 182, 1, 62, 162, 0, 21, 42, 4, 28, 42, 28]
abbrev dktX4_goes_4 : List UInt8 := dkwX4_goes_4 ++ dktX4_goes_5
def dkwX4_goes_3 : List UInt8 := [3, 54, 4, 42, 21, 4, 153, 0, 7, 3, 167, 0, 4, 27, 181, 1, 249, 21, 4, 153, 0, 39, 28]
abbrev dktX4_goes_3 : List UInt8 := dkwX4_goes_3 ++ dktX4_goes_4
def dkwX4_goes_2 : List UInt8 := [132, 3, 1, 167, 255, 217, 42, 3, 182, 1, 62, 62, 29, 27, 184, 1, 246, 162, 0, 7, 4, 167, 0, 4]
abbrev dktX4_goes_2 : List UInt8 := dkwX4_goes_2 ++ dktX4_goes_3
def dkwX4_goes_1 : List UInt8 := [154, 0, 6, 167, 0, 20, 27, 4, 29, 120, 128, 60, 28, 42, 29, 6, 182, 0, 150, 29, 120, 128, 61]
abbrev dktX4_goes_1 : List UInt8 := dkwX4_goes_1 ++ dktX4_goes_2
def dkwX4_goes_0 : List UInt8 := [42, 182, 1, 78, 3, 60, 3, 61, 3, 62, 29, 42, 182, 0, 146, 162, 0, 37, 42, 29, 182, 0, 154]
abbrev dktX4_goes_0 : List UInt8 := dkwX4_goes_0 ++ dktX4_goes_1
theorem dksX4_goes_0 : cX4_goes.data.toList.drop 0 = dktX4_goes_0 := by decide +kernel
theorem dksX4_goes_1 : cX4_goes.data.toList.drop 23 = dktX4_goes_1 := dk_seg dksX4_goes_0 23 rfl rfl
theorem dksX4_goes_2 : cX4_goes.data.toList.drop 46 = dktX4_goes_2 := dk_seg dksX4_goes_1 23 rfl rfl
theorem dksX4_goes_3 : cX4_goes.data.toList.drop 70 = dktX4_goes_3 := dk_seg dksX4_goes_2 24 rfl rfl
theorem dksX4_goes_4 : cX4_goes.data.toList.drop 93 = dktX4_goes_4 := dk_seg dksX4_goes_3 23 rfl rfl
theorem dksX4_goes_5 : cX4_goes.data.toList.drop 115 = dktX4_goes_5 := dk_seg dksX4_goes_4 22 rfl rfl
theorem dksX4_goes_6 : cX4_goes.data.toList.drop 137 = dktX4_goes_6 := dk_seg dksX4_goes_5 22 rfl rfl
theorem dksX4_goes_7 : cX4_goes.data.toList.drop 161 = dktX4_goes_7 := dk_seg dksX4_goes_6 24 rfl rfl
theorem dksX4_goes_8 : cX4_goes.data.toList.drop 185 = dktX4_goes_8 := dk_seg dksX4_goes_7 24 rfl rfl
theorem dksX4_goes_9 : cX4_goes.data.toList.drop 209 = dktX4_goes_9 := dk_seg dksX4_goes_8 24 rfl rfl
theorem dksX4_goes_10 : cX4_goes.data.toList.drop 232 = dktX4_goes_10 := dk_seg dksX4_goes_9 23 rfl rfl
theorem dksX4_goes_11 : cX4_goes.data.toList.drop 255 = dktX4_goes_11 := dk_seg dksX4_goes_10 23 rfl rfl
theorem dksX4_goes_12 : cX4_goes.data.toList.drop 279 = dktX4_goes_12 := dk_seg dksX4_goes_11 24 rfl rfl
theorem dksX4_goes_13 : cX4_goes.data.toList.drop 302 = dktX4_goes_13 := dk_seg dksX4_goes_12 23 rfl rfl
theorem dksX4_goes_14 : cX4_goes.data.toList.drop 324 = dktX4_goes_14 := dk_seg dksX4_goes_13 22 rfl rfl
theorem dksX4_goes_15 : cX4_goes.data.toList.drop 348 = dktX4_goes_15 := dk_seg dksX4_goes_14 24 rfl rfl
theorem dksX4_goes_16 : cX4_goes.data.toList.drop 372 = dktX4_goes_16 := dk_seg dksX4_goes_15 24 rfl rfl
theorem dX4_goes_0 : decode cX4_goes 0 = .ok (.aload_n 0, 1) := dk_42 (dk_at dksX4_goes_0 0 rfl rfl)
theorem dX4_goes_1 : decode cX4_goes 1 = .ok (.invokevirtual 334, 3) := dk_182 1 78 (dk_at dksX4_goes_0 1 rfl rfl)
theorem dX4_goes_4 : decode cX4_goes 4 = .ok (.iconst 0, 1) := dk_3 (dk_at dksX4_goes_0 4 rfl rfl)
theorem dX4_goes_5 : decode cX4_goes 5 = .ok (.istore_n 1, 1) := dk_60 (dk_at dksX4_goes_0 5 rfl rfl)
theorem dX4_goes_6 : decode cX4_goes 6 = .ok (.iconst 0, 1) := dk_3 (dk_at dksX4_goes_0 6 rfl rfl)
theorem dX4_goes_7 : decode cX4_goes 7 = .ok (.istore_n 2, 1) := dk_61 (dk_at dksX4_goes_0 7 rfl rfl)
theorem dX4_goes_8 : decode cX4_goes 8 = .ok (.iconst 0, 1) := dk_3 (dk_at dksX4_goes_0 8 rfl rfl)
theorem dX4_goes_9 : decode cX4_goes 9 = .ok (.istore_n 3, 1) := dk_62 (dk_at dksX4_goes_0 9 rfl rfl)
theorem dX4_goes_10 : decode cX4_goes 10 = .ok (.iload_n 3, 1) := dk_29 (dk_at dksX4_goes_0 10 rfl rfl)
theorem dX4_goes_11 : decode cX4_goes 11 = .ok (.aload_n 0, 1) := dk_42 (dk_at dksX4_goes_0 11 rfl rfl)
theorem dX4_goes_12 : decode cX4_goes 12 = .ok (.invokevirtual 146, 3) := dk_182 0 146 (dk_at dksX4_goes_0 12 rfl rfl)
theorem dX4_goes_15 : decode cX4_goes 15 = .ok (.if_icmp .ge 37, 3) := dk_162 0 37 (dk_at dksX4_goes_0 15 rfl rfl)
theorem dX4_goes_18 : decode cX4_goes 18 = .ok (.aload_n 0, 1) := dk_42 (dk_at dksX4_goes_0 18 rfl rfl)
theorem dX4_goes_19 : decode cX4_goes 19 = .ok (.iload_n 3, 1) := dk_29 (dk_at dksX4_goes_0 19 rfl rfl)
theorem dX4_goes_20 : decode cX4_goes 20 = .ok (.invokevirtual 154, 3) := dk_182 0 154 (dk_at dksX4_goes_0 20 rfl rfl)
theorem dX4_goes_23 : decode cX4_goes 23 = .ok (.ifCond .ne 6, 3) := dk_154 0 6 (dk_at dksX4_goes_1 0 rfl rfl)
theorem dX4_goes_26 : decode cX4_goes 26 = .ok (.goto 20, 3) := dk_167 0 20 (dk_at dksX4_goes_1 3 rfl rfl)
theorem dX4_goes_29 : decode cX4_goes 29 = .ok (.iload_n 1, 1) := dk_27 (dk_at dksX4_goes_1 6 rfl rfl)
theorem dX4_goes_30 : decode cX4_goes 30 = .ok (.iconst 1, 1) := dk_4 (dk_at dksX4_goes_1 7 rfl rfl)
theorem dX4_goes_31 : decode cX4_goes 31 = .ok (.iload_n 3, 1) := dk_29 (dk_at dksX4_goes_1 8 rfl rfl)
theorem dX4_goes_32 : decode cX4_goes 32 = .ok (.ishl, 1) := dk_120 (dk_at dksX4_goes_1 9 rfl rfl)
theorem dX4_goes_33 : decode cX4_goes 33 = .ok (.ior, 1) := dk_128 (dk_at dksX4_goes_1 10 rfl rfl)
theorem dX4_goes_34 : decode cX4_goes 34 = .ok (.istore_n 1, 1) := dk_60 (dk_at dksX4_goes_1 11 rfl rfl)
theorem dX4_goes_35 : decode cX4_goes 35 = .ok (.iload_n 2, 1) := dk_28 (dk_at dksX4_goes_1 12 rfl rfl)
theorem dX4_goes_36 : decode cX4_goes 36 = .ok (.aload_n 0, 1) := dk_42 (dk_at dksX4_goes_1 13 rfl rfl)
theorem dX4_goes_37 : decode cX4_goes 37 = .ok (.iload_n 3, 1) := dk_29 (dk_at dksX4_goes_1 14 rfl rfl)
theorem dX4_goes_38 : decode cX4_goes 38 = .ok (.iconst 3, 1) := dk_6 (dk_at dksX4_goes_1 15 rfl rfl)
theorem dX4_goes_39 : decode cX4_goes 39 = .ok (.invokevirtual 150, 3) := dk_182 0 150 (dk_at dksX4_goes_1 16 rfl rfl)
theorem dX4_goes_42 : decode cX4_goes 42 = .ok (.iload_n 3, 1) := dk_29 (dk_at dksX4_goes_1 19 rfl rfl)
theorem dX4_goes_43 : decode cX4_goes 43 = .ok (.ishl, 1) := dk_120 (dk_at dksX4_goes_1 20 rfl rfl)
theorem dX4_goes_44 : decode cX4_goes 44 = .ok (.ior, 1) := dk_128 (dk_at dksX4_goes_1 21 rfl rfl)
theorem dX4_goes_45 : decode cX4_goes 45 = .ok (.istore_n 2, 1) := dk_61 (dk_at dksX4_goes_1 22 rfl rfl)
theorem dX4_goes_46 : decode cX4_goes 46 = .ok (.iinc 3 1, 3) := dk_132 3 1 (dk_at dksX4_goes_2 0 rfl rfl)
theorem dX4_goes_49 : decode cX4_goes 49 = .ok (.goto (-39), 3) := dk_167 255 217 (dk_at dksX4_goes_2 3 rfl rfl)
theorem dX4_goes_52 : decode cX4_goes 52 = .ok (.aload_n 0, 1) := dk_42 (dk_at dksX4_goes_2 6 rfl rfl)
theorem dX4_goes_53 : decode cX4_goes 53 = .ok (.iconst 0, 1) := dk_3 (dk_at dksX4_goes_2 7 rfl rfl)
theorem dX4_goes_54 : decode cX4_goes 54 = .ok (.invokevirtual 318, 3) := dk_182 1 62 (dk_at dksX4_goes_2 8 rfl rfl)
theorem dX4_goes_57 : decode cX4_goes 57 = .ok (.istore_n 3, 1) := dk_62 (dk_at dksX4_goes_2 11 rfl rfl)
theorem dX4_goes_58 : decode cX4_goes 58 = .ok (.iload_n 3, 1) := dk_29 (dk_at dksX4_goes_2 12 rfl rfl)
theorem dX4_goes_59 : decode cX4_goes 59 = .ok (.iload_n 1, 1) := dk_27 (dk_at dksX4_goes_2 13 rfl rfl)
theorem dX4_goes_60 : decode cX4_goes 60 = .ok (.invokestatic 502, 3) := dk_184 1 246 (dk_at dksX4_goes_2 14 rfl rfl)
theorem dX4_goes_63 : decode cX4_goes 63 = .ok (.if_icmp .ge 7, 3) := dk_162 0 7 (dk_at dksX4_goes_2 17 rfl rfl)
theorem dX4_goes_66 : decode cX4_goes 66 = .ok (.iconst 1, 1) := dk_4 (dk_at dksX4_goes_2 20 rfl rfl)
theorem dX4_goes_67 : decode cX4_goes 67 = .ok (.goto 4, 3) := dk_167 0 4 (dk_at dksX4_goes_2 21 rfl rfl)
theorem dX4_goes_70 : decode cX4_goes 70 = .ok (.iconst 0, 1) := dk_3 (dk_at dksX4_goes_3 0 rfl rfl)
theorem dX4_goes_71 : decode cX4_goes 71 = .ok (.istore 4, 2) := dk_54 4 (dk_at dksX4_goes_3 1 rfl rfl)
theorem dX4_goes_73 : decode cX4_goes 73 = .ok (.aload_n 0, 1) := dk_42 (dk_at dksX4_goes_3 3 rfl rfl)
theorem dX4_goes_74 : decode cX4_goes 74 = .ok (.iload 4, 2) := dk_21 4 (dk_at dksX4_goes_3 4 rfl rfl)
theorem dX4_goes_76 : decode cX4_goes 76 = .ok (.ifCond .eq 7, 3) := dk_153 0 7 (dk_at dksX4_goes_3 6 rfl rfl)
theorem dX4_goes_79 : decode cX4_goes 79 = .ok (.iconst 0, 1) := dk_3 (dk_at dksX4_goes_3 9 rfl rfl)
theorem dX4_goes_80 : decode cX4_goes 80 = .ok (.goto 4, 3) := dk_167 0 4 (dk_at dksX4_goes_3 10 rfl rfl)
theorem dX4_goes_83 : decode cX4_goes 83 = .ok (.iload_n 1, 1) := dk_27 (dk_at dksX4_goes_3 13 rfl rfl)
theorem dX4_goes_84 : decode cX4_goes 84 = .ok (.putfield 505, 3) := dk_181 1 249 (dk_at dksX4_goes_3 14 rfl rfl)
theorem dX4_goes_87 : decode cX4_goes 87 = .ok (.iload 4, 2) := dk_21 4 (dk_at dksX4_goes_3 17 rfl rfl)
theorem dX4_goes_89 : decode cX4_goes 89 = .ok (.ifCond .eq 39, 3) := dk_153 0 39 (dk_at dksX4_goes_3 19 rfl rfl)
theorem dX4_goes_92 : decode cX4_goes 92 = .ok (.iload_n 2, 1) := dk_28 (dk_at dksX4_goes_3 22 rfl rfl)
theorem dX4_goes_93 : decode cX4_goes 93 = .ok (.ifCond .eq 35, 3) := dk_153 0 35 (dk_at dksX4_goes_4 0 rfl rfl)
theorem dX4_goes_96 : decode cX4_goes 96 = .ok (.aload_n 0, 1) := dk_42 (dk_at dksX4_goes_4 3 rfl rfl)
theorem dX4_goes_97 : decode cX4_goes 97 = .ok (.bipush 100, 2) := dk_16 100 (dk_at dksX4_goes_4 4 rfl rfl)
theorem dX4_goes_99 : decode cX4_goes 99 = .ok (.invokevirtual 508, 3) := dk_182 1 252 (dk_at dksX4_goes_4 6 rfl rfl)
theorem dX4_goes_102 : decode cX4_goes 102 = .ok (.aload_n 0, 1) := dk_42 (dk_at dksX4_goes_4 9 rfl rfl)
theorem dX4_goes_103 : decode cX4_goes 103 = .ok (.iconst 3, 1) := dk_6 (dk_at dksX4_goes_4 10 rfl rfl)
theorem dX4_goes_104 : decode cX4_goes 104 = .ok (.invokevirtual 318, 3) := dk_182 1 62 (dk_at dksX4_goes_4 11 rfl rfl)
theorem dX4_goes_107 : decode cX4_goes 107 = .ok (.if_icmp .ge 21, 3) := dk_162 0 21 (dk_at dksX4_goes_4 14 rfl rfl)
theorem dX4_goes_110 : decode cX4_goes 110 = .ok (.aload_n 0, 1) := dk_42 (dk_at dksX4_goes_4 17 rfl rfl)
theorem dX4_goes_111 : decode cX4_goes 111 = .ok (.iconst 1, 1) := dk_4 (dk_at dksX4_goes_4 18 rfl rfl)
theorem dX4_goes_112 : decode cX4_goes 112 = .ok (.iload_n 2, 1) := dk_28 (dk_at dksX4_goes_4 19 rfl rfl)
theorem dX4_goes_113 : decode cX4_goes 113 = .ok (.aload_n 0, 1) := dk_42 (dk_at dksX4_goes_4 20 rfl rfl)
theorem dX4_goes_114 : decode cX4_goes 114 = .ok (.iload_n 2, 1) := dk_28 (dk_at dksX4_goes_4 21 rfl rfl)
theorem dX4_goes_115 : decode cX4_goes 115 = .ok (.invokestatic 502, 3) := dk_184 1 246 (dk_at dksX4_goes_5 0 rfl rfl)
theorem dX4_goes_118 : decode cX4_goes 118 = .ok (.invokevirtual 508, 3) := dk_182 1 252 (dk_at dksX4_goes_5 3 rfl rfl)
theorem dX4_goes_121 : decode cX4_goes 121 = .ok (.invokestatic 511, 3) := dk_184 1 255 (dk_at dksX4_goes_5 6 rfl rfl)
theorem dX4_goes_124 : decode cX4_goes 124 = .ok (.ishl, 1) := dk_120 (dk_at dksX4_goes_5 9 rfl rfl)
theorem dX4_goes_125 : decode cX4_goes 125 = .ok (.putfield 505, 3) := dk_181 1 249 (dk_at dksX4_goes_5 10 rfl rfl)
theorem dX4_goes_128 : decode cX4_goes 128 = .ok (.iload 4, 2) := dk_21 4 (dk_at dksX4_goes_5 13 rfl rfl)
theorem dX4_goes_130 : decode cX4_goes 130 = .ok (.ifCond .eq 54, 3) := dk_153 0 54 (dk_at dksX4_goes_5 15 rfl rfl)
theorem dX4_goes_133 : decode cX4_goes 133 = .ok (.aload_n 0, 1) := dk_42 (dk_at dksX4_goes_5 18 rfl rfl)
theorem dX4_goes_134 : decode cX4_goes 134 = .ok (.getfield 505, 3) := dk_180 1 249 (dk_at dksX4_goes_5 19 rfl rfl)
theorem dX4_goes_137 : decode cX4_goes 137 = .ok (.invokestatic 502, 3) := dk_184 1 246 (dk_at dksX4_goes_6 0 rfl rfl)
theorem dX4_goes_140 : decode cX4_goes 140 = .ok (.iload_n 3, 1) := dk_29 (dk_at dksX4_goes_6 3 rfl rfl)
theorem dX4_goes_141 : decode cX4_goes 141 = .ok (.if_icmp .ge 43, 3) := dk_162 0 43 (dk_at dksX4_goes_6 4 rfl rfl)
theorem dX4_goes_144 : decode cX4_goes 144 = .ok (.aload_n 0, 1) := dk_42 (dk_at dksX4_goes_6 7 rfl rfl)
theorem dX4_goes_145 : decode cX4_goes 145 = .ok (.aload_n 0, 1) := dk_42 (dk_at dksX4_goes_6 8 rfl rfl)
theorem dX4_goes_146 : decode cX4_goes 146 = .ok (.getfield 505, 3) := dk_180 1 249 (dk_at dksX4_goes_6 9 rfl rfl)
theorem dX4_goes_149 : decode cX4_goes 149 = .ok (.iconst 1, 1) := dk_4 (dk_at dksX4_goes_6 12 rfl rfl)
theorem dX4_goes_150 : decode cX4_goes 150 = .ok (.iload_n 1, 1) := dk_27 (dk_at dksX4_goes_6 13 rfl rfl)
theorem dX4_goes_151 : decode cX4_goes 151 = .ok (.aload_n 0, 1) := dk_42 (dk_at dksX4_goes_6 14 rfl rfl)
theorem dX4_goes_152 : decode cX4_goes 152 = .ok (.getfield 505, 3) := dk_180 1 249 (dk_at dksX4_goes_6 15 rfl rfl)
theorem dX4_goes_155 : decode cX4_goes 155 = .ok (.iconst (-1), 1) := dk_2 (dk_at dksX4_goes_6 18 rfl rfl)
theorem dX4_goes_156 : decode cX4_goes 156 = .ok (.ixor, 1) := dk_130 (dk_at dksX4_goes_6 19 rfl rfl)
theorem dX4_goes_157 : decode cX4_goes 157 = .ok (.iand, 1) := dk_126 (dk_at dksX4_goes_6 20 rfl rfl)
theorem dX4_goes_158 : decode cX4_goes 158 = .ok (.aload_n 0, 1) := dk_42 (dk_at dksX4_goes_6 21 rfl rfl)
theorem dX4_goes_159 : decode cX4_goes 159 = .ok (.iload_n 1, 1) := dk_27 (dk_at dksX4_goes_6 22 rfl rfl)
theorem dX4_goes_160 : decode cX4_goes 160 = .ok (.aload_n 0, 1) := dk_42 (dk_at dksX4_goes_6 23 rfl rfl)
theorem dX4_goes_161 : decode cX4_goes 161 = .ok (.getfield 505, 3) := dk_180 1 249 (dk_at dksX4_goes_7 0 rfl rfl)
theorem dX4_goes_164 : decode cX4_goes 164 = .ok (.iconst (-1), 1) := dk_2 (dk_at dksX4_goes_7 3 rfl rfl)
theorem dX4_goes_165 : decode cX4_goes 165 = .ok (.ixor, 1) := dk_130 (dk_at dksX4_goes_7 4 rfl rfl)
theorem dX4_goes_166 : decode cX4_goes 166 = .ok (.iand, 1) := dk_126 (dk_at dksX4_goes_7 5 rfl rfl)
theorem dX4_goes_167 : decode cX4_goes 167 = .ok (.invokestatic 502, 3) := dk_184 1 246 (dk_at dksX4_goes_7 6 rfl rfl)
theorem dX4_goes_170 : decode cX4_goes 170 = .ok (.invokevirtual 508, 3) := dk_182 1 252 (dk_at dksX4_goes_7 9 rfl rfl)
theorem dX4_goes_173 : decode cX4_goes 173 = .ok (.invokestatic 511, 3) := dk_184 1 255 (dk_at dksX4_goes_7 12 rfl rfl)
theorem dX4_goes_176 : decode cX4_goes 176 = .ok (.ishl, 1) := dk_120 (dk_at dksX4_goes_7 15 rfl rfl)
theorem dX4_goes_177 : decode cX4_goes 177 = .ok (.ior, 1) := dk_128 (dk_at dksX4_goes_7 16 rfl rfl)
theorem dX4_goes_178 : decode cX4_goes 178 = .ok (.putfield 505, 3) := dk_181 1 249 (dk_at dksX4_goes_7 17 rfl rfl)
theorem dX4_goes_181 : decode cX4_goes 181 = .ok (.goto (-53), 3) := dk_167 255 203 (dk_at dksX4_goes_7 20 rfl rfl)
theorem dX4_goes_184 : decode cX4_goes 184 = .ok (.aload_n 0, 1) := dk_42 (dk_at dksX4_goes_7 23 rfl rfl)
theorem dX4_goes_185 : decode cX4_goes 185 = .ok (.iconst 0, 1) := dk_3 (dk_at dksX4_goes_8 0 rfl rfl)
theorem dX4_goes_186 : decode cX4_goes 186 = .ok (.putfield 514, 3) := dk_181 2 2 (dk_at dksX4_goes_8 1 rfl rfl)
theorem dX4_goes_189 : decode cX4_goes 189 = .ok (.aload_n 0, 1) := dk_42 (dk_at dksX4_goes_8 4 rfl rfl)
theorem dX4_goes_190 : decode cX4_goes 190 = .ok (.iconst 0, 1) := dk_3 (dk_at dksX4_goes_8 5 rfl rfl)
theorem dX4_goes_191 : decode cX4_goes 191 = .ok (.putfield 517, 3) := dk_181 2 5 (dk_at dksX4_goes_8 6 rfl rfl)
theorem dX4_goes_194 : decode cX4_goes 194 = .ok (.iconst 0, 1) := dk_3 (dk_at dksX4_goes_8 9 rfl rfl)
theorem dX4_goes_195 : decode cX4_goes 195 = .ok (.istore 5, 2) := dk_54 5 (dk_at dksX4_goes_8 10 rfl rfl)
theorem dX4_goes_197 : decode cX4_goes 197 = .ok (.aload_n 0, 1) := dk_42 (dk_at dksX4_goes_8 12 rfl rfl)
theorem dX4_goes_198 : decode cX4_goes 198 = .ok (.iconst 1, 1) := dk_4 (dk_at dksX4_goes_8 13 rfl rfl)
theorem dX4_goes_199 : decode cX4_goes 199 = .ok (.invokevirtual 318, 3) := dk_182 1 62 (dk_at dksX4_goes_8 14 rfl rfl)
theorem dX4_goes_202 : decode cX4_goes 202 = .ok (.aload_n 0, 1) := dk_42 (dk_at dksX4_goes_8 17 rfl rfl)
theorem dX4_goes_203 : decode cX4_goes 203 = .ok (.getfield 505, 3) := dk_180 1 249 (dk_at dksX4_goes_8 18 rfl rfl)
theorem dX4_goes_206 : decode cX4_goes 206 = .ok (.invokestatic 502, 3) := dk_184 1 246 (dk_at dksX4_goes_8 21 rfl rfl)
theorem dX4_goes_209 : decode cX4_goes 209 = .ok (.if_icmp .ge 11, 3) := dk_162 0 11 (dk_at dksX4_goes_9 0 rfl rfl)
theorem dX4_goes_212 : decode cX4_goes 212 = .ok (.aload_n 0, 1) := dk_42 (dk_at dksX4_goes_9 3 rfl rfl)
theorem dX4_goes_213 : decode cX4_goes 213 = .ok (.iconst 1, 1) := dk_4 (dk_at dksX4_goes_9 4 rfl rfl)
theorem dX4_goes_214 : decode cX4_goes 214 = .ok (.invokevirtual 318, 3) := dk_182 1 62 (dk_at dksX4_goes_9 5 rfl rfl)
theorem dX4_goes_217 : decode cX4_goes 217 = .ok (.goto 10, 3) := dk_167 0 10 (dk_at dksX4_goes_9 8 rfl rfl)
theorem dX4_goes_220 : decode cX4_goes 220 = .ok (.aload_n 0, 1) := dk_42 (dk_at dksX4_goes_9 11 rfl rfl)
theorem dX4_goes_221 : decode cX4_goes 221 = .ok (.getfield 505, 3) := dk_180 1 249 (dk_at dksX4_goes_9 12 rfl rfl)
theorem dX4_goes_224 : decode cX4_goes 224 = .ok (.invokestatic 502, 3) := dk_184 1 246 (dk_at dksX4_goes_9 15 rfl rfl)
theorem dX4_goes_227 : decode cX4_goes 227 = .ok (.istore 6, 2) := dk_54 6 (dk_at dksX4_goes_9 18 rfl rfl)
theorem dX4_goes_229 : decode cX4_goes 229 = .ok (.iconst 0, 1) := dk_3 (dk_at dksX4_goes_9 20 rfl rfl)
theorem dX4_goes_230 : decode cX4_goes 230 = .ok (.istore 7, 2) := dk_54 7 (dk_at dksX4_goes_9 21 rfl rfl)
theorem dX4_goes_232 : decode cX4_goes 232 = .ok (.iload 7, 2) := dk_21 7 (dk_at dksX4_goes_10 0 rfl rfl)
theorem dX4_goes_234 : decode cX4_goes 234 = .ok (.iload 6, 2) := dk_21 6 (dk_at dksX4_goes_10 2 rfl rfl)
theorem dX4_goes_236 : decode cX4_goes 236 = .ok (.if_icmp .ge 145, 3) := dk_162 0 145 (dk_at dksX4_goes_10 4 rfl rfl)
theorem dX4_goes_239 : decode cX4_goes 239 = .ok (.iconst (-1), 1) := dk_2 (dk_at dksX4_goes_10 7 rfl rfl)
theorem dX4_goes_240 : decode cX4_goes 240 = .ok (.istore 8, 2) := dk_54 8 (dk_at dksX4_goes_10 8 rfl rfl)
theorem dX4_goes_242 : decode cX4_goes 242 = .ok (.iconst 0, 1) := dk_3 (dk_at dksX4_goes_10 10 rfl rfl)
theorem dX4_goes_243 : decode cX4_goes 243 = .ok (.istore 9, 2) := dk_54 9 (dk_at dksX4_goes_10 11 rfl rfl)
theorem dX4_goes_245 : decode cX4_goes 245 = .ok (.iload 9, 2) := dk_21 9 (dk_at dksX4_goes_10 13 rfl rfl)
theorem dX4_goes_247 : decode cX4_goes 247 = .ok (.aload_n 0, 1) := dk_42 (dk_at dksX4_goes_10 15 rfl rfl)
theorem dX4_goes_248 : decode cX4_goes 248 = .ok (.invokevirtual 146, 3) := dk_182 0 146 (dk_at dksX4_goes_10 16 rfl rfl)
theorem dX4_goes_251 : decode cX4_goes 251 = .ok (.if_icmp .ge 71, 3) := dk_162 0 71 (dk_at dksX4_goes_10 19 rfl rfl)
theorem dX4_goes_254 : decode cX4_goes 254 = .ok (.aload_n 0, 1) := dk_42 (dk_at dksX4_goes_10 22 rfl rfl)
theorem dX4_goes_255 : decode cX4_goes 255 = .ok (.getfield 505, 3) := dk_180 1 249 (dk_at dksX4_goes_11 0 rfl rfl)
theorem dX4_goes_258 : decode cX4_goes 258 = .ok (.iload 9, 2) := dk_21 9 (dk_at dksX4_goes_11 3 rfl rfl)
theorem dX4_goes_260 : decode cX4_goes 260 = .ok (.ishr, 1) := dk_122 (dk_at dksX4_goes_11 5 rfl rfl)
theorem dX4_goes_261 : decode cX4_goes 261 = .ok (.iconst 1, 1) := dk_4 (dk_at dksX4_goes_11 6 rfl rfl)
theorem dX4_goes_262 : decode cX4_goes 262 = .ok (.iand, 1) := dk_126 (dk_at dksX4_goes_11 7 rfl rfl)
theorem dX4_goes_263 : decode cX4_goes 263 = .ok (.iconst 1, 1) := dk_4 (dk_at dksX4_goes_11 8 rfl rfl)
theorem dX4_goes_264 : decode cX4_goes 264 = .ok (.if_icmp .ne 52, 3) := dk_160 0 52 (dk_at dksX4_goes_11 9 rfl rfl)
theorem dX4_goes_267 : decode cX4_goes 267 = .ok (.aload_n 0, 1) := dk_42 (dk_at dksX4_goes_11 12 rfl rfl)
theorem dX4_goes_268 : decode cX4_goes 268 = .ok (.getfield 514, 3) := dk_180 2 2 (dk_at dksX4_goes_11 13 rfl rfl)
theorem dX4_goes_271 : decode cX4_goes 271 = .ok (.iload 9, 2) := dk_21 9 (dk_at dksX4_goes_11 16 rfl rfl)
theorem dX4_goes_273 : decode cX4_goes 273 = .ok (.ishr, 1) := dk_122 (dk_at dksX4_goes_11 18 rfl rfl)
theorem dX4_goes_274 : decode cX4_goes 274 = .ok (.iconst 1, 1) := dk_4 (dk_at dksX4_goes_11 19 rfl rfl)
theorem dX4_goes_275 : decode cX4_goes 275 = .ok (.iand, 1) := dk_126 (dk_at dksX4_goes_11 20 rfl rfl)
theorem dX4_goes_276 : decode cX4_goes 276 = .ok (.ifCond .ne 40, 3) := dk_154 0 40 (dk_at dksX4_goes_11 21 rfl rfl)
theorem dX4_goes_279 : decode cX4_goes 279 = .ok (.iload 8, 2) := dk_21 8 (dk_at dksX4_goes_12 0 rfl rfl)
theorem dX4_goes_281 : decode cX4_goes 281 = .ok (.iconst (-1), 1) := dk_2 (dk_at dksX4_goes_12 2 rfl rfl)
theorem dX4_goes_282 : decode cX4_goes 282 = .ok (.if_icmp .eq 30, 3) := dk_159 0 30 (dk_at dksX4_goes_12 3 rfl rfl)
theorem dX4_goes_285 : decode cX4_goes 285 = .ok (.aload_n 0, 1) := dk_42 (dk_at dksX4_goes_12 6 rfl rfl)
theorem dX4_goes_286 : decode cX4_goes 286 = .ok (.getfield 55, 3) := dk_180 0 55 (dk_at dksX4_goes_12 7 rfl rfl)
theorem dX4_goes_289 : decode cX4_goes 289 = .ok (.aload_n 0, 1) := dk_42 (dk_at dksX4_goes_12 10 rfl rfl)
theorem dX4_goes_290 : decode cX4_goes 290 = .ok (.iload 9, 2) := dk_21 9 (dk_at dksX4_goes_12 11 rfl rfl)
theorem dX4_goes_292 : decode cX4_goes 292 = .ok (.iconst 2, 1) := dk_5 (dk_at dksX4_goes_12 13 rfl rfl)
theorem dX4_goes_293 : decode cX4_goes 293 = .ok (.invokevirtual 150, 3) := dk_182 0 150 (dk_at dksX4_goes_12 14 rfl rfl)
theorem dX4_goes_296 : decode cX4_goes 296 = .ok (.iaload, 1) := dk_46 (dk_at dksX4_goes_12 17 rfl rfl)
theorem dX4_goes_297 : decode cX4_goes 297 = .ok (.aload_n 0, 1) := dk_42 (dk_at dksX4_goes_12 18 rfl rfl)
theorem dX4_goes_298 : decode cX4_goes 298 = .ok (.getfield 55, 3) := dk_180 0 55 (dk_at dksX4_goes_12 19 rfl rfl)
theorem dX4_goes_301 : decode cX4_goes 301 = .ok (.aload_n 0, 1) := dk_42 (dk_at dksX4_goes_12 22 rfl rfl)
theorem dX4_goes_302 : decode cX4_goes 302 = .ok (.iload 8, 2) := dk_21 8 (dk_at dksX4_goes_13 0 rfl rfl)
theorem dX4_goes_304 : decode cX4_goes 304 = .ok (.iconst 2, 1) := dk_5 (dk_at dksX4_goes_13 2 rfl rfl)
theorem dX4_goes_305 : decode cX4_goes 305 = .ok (.invokevirtual 150, 3) := dk_182 0 150 (dk_at dksX4_goes_13 3 rfl rfl)
theorem dX4_goes_308 : decode cX4_goes 308 = .ok (.iaload, 1) := dk_46 (dk_at dksX4_goes_13 6 rfl rfl)
theorem dX4_goes_309 : decode cX4_goes 309 = .ok (.if_icmp .le 7, 3) := dk_164 0 7 (dk_at dksX4_goes_13 7 rfl rfl)
theorem dX4_goes_312 : decode cX4_goes 312 = .ok (.iload 9, 2) := dk_21 9 (dk_at dksX4_goes_13 10 rfl rfl)
theorem dX4_goes_314 : decode cX4_goes 314 = .ok (.istore 8, 2) := dk_54 8 (dk_at dksX4_goes_13 12 rfl rfl)
theorem dX4_goes_316 : decode cX4_goes 316 = .ok (.iinc 9 1, 3) := dk_132 9 1 (dk_at dksX4_goes_13 14 rfl rfl)
theorem dX4_goes_319 : decode cX4_goes 319 = .ok (.goto (-74), 3) := dk_167 255 182 (dk_at dksX4_goes_13 17 rfl rfl)
theorem dX4_goes_322 : decode cX4_goes 322 = .ok (.aload_n 0, 1) := dk_42 (dk_at dksX4_goes_13 20 rfl rfl)
theorem dX4_goes_323 : decode cX4_goes 323 = .ok (.dup, 1) := dk_89 (dk_at dksX4_goes_13 21 rfl rfl)
theorem dX4_goes_324 : decode cX4_goes 324 = .ok (.getfield 514, 3) := dk_180 2 2 (dk_at dksX4_goes_14 0 rfl rfl)
theorem dX4_goes_327 : decode cX4_goes 327 = .ok (.iconst 1, 1) := dk_4 (dk_at dksX4_goes_14 3 rfl rfl)
theorem dX4_goes_328 : decode cX4_goes 328 = .ok (.iload 8, 2) := dk_21 8 (dk_at dksX4_goes_14 4 rfl rfl)
theorem dX4_goes_330 : decode cX4_goes 330 = .ok (.ishl, 1) := dk_120 (dk_at dksX4_goes_14 6 rfl rfl)
theorem dX4_goes_331 : decode cX4_goes 331 = .ok (.ior, 1) := dk_128 (dk_at dksX4_goes_14 7 rfl rfl)
theorem dX4_goes_332 : decode cX4_goes 332 = .ok (.putfield 514, 3) := dk_181 2 2 (dk_at dksX4_goes_14 8 rfl rfl)
theorem dX4_goes_335 : decode cX4_goes 335 = .ok (.aload_n 0, 1) := dk_42 (dk_at dksX4_goes_14 11 rfl rfl)
theorem dX4_goes_336 : decode cX4_goes 336 = .ok (.bipush 100, 2) := dk_16 100 (dk_at dksX4_goes_14 12 rfl rfl)
theorem dX4_goes_338 : decode cX4_goes 338 = .ok (.invokevirtual 508, 3) := dk_182 1 252 (dk_at dksX4_goes_14 14 rfl rfl)
theorem dX4_goes_341 : decode cX4_goes 341 = .ok (.aload_n 0, 1) := dk_42 (dk_at dksX4_goes_14 17 rfl rfl)
theorem dX4_goes_342 : decode cX4_goes 342 = .ok (.getfield 55, 3) := dk_180 0 55 (dk_at dksX4_goes_14 18 rfl rfl)
theorem dX4_goes_345 : decode cX4_goes 345 = .ok (.aload_n 0, 1) := dk_42 (dk_at dksX4_goes_14 21 rfl rfl)
theorem dX4_goes_346 : decode cX4_goes 346 = .ok (.iload 8, 2) := dk_21 8 (dk_at dksX4_goes_14 22 rfl rfl)
theorem dX4_goes_348 : decode cX4_goes 348 = .ok (.iconst 2, 1) := dk_5 (dk_at dksX4_goes_15 0 rfl rfl)
theorem dX4_goes_349 : decode cX4_goes 349 = .ok (.invokevirtual 150, 3) := dk_182 0 150 (dk_at dksX4_goes_15 1 rfl rfl)
theorem dX4_goes_352 : decode cX4_goes 352 = .ok (.iaload, 1) := dk_46 (dk_at dksX4_goes_15 4 rfl rfl)
theorem dX4_goes_353 : decode cX4_goes 353 = .ok (.if_icmp .lt 6, 3) := dk_161 0 6 (dk_at dksX4_goes_15 5 rfl rfl)
theorem dX4_goes_356 : decode cX4_goes 356 = .ok (.goto 19, 3) := dk_167 0 19 (dk_at dksX4_goes_15 8 rfl rfl)
theorem dX4_goes_359 : decode cX4_goes 359 = .ok (.aload_n 0, 1) := dk_42 (dk_at dksX4_goes_15 11 rfl rfl)
theorem dX4_goes_360 : decode cX4_goes 360 = .ok (.dup, 1) := dk_89 (dk_at dksX4_goes_15 12 rfl rfl)
theorem dX4_goes_361 : decode cX4_goes 361 = .ok (.getfield 517, 3) := dk_180 2 5 (dk_at dksX4_goes_15 13 rfl rfl)
theorem dX4_goes_364 : decode cX4_goes 364 = .ok (.iconst 1, 1) := dk_4 (dk_at dksX4_goes_15 16 rfl rfl)
theorem dX4_goes_365 : decode cX4_goes 365 = .ok (.iload 8, 2) := dk_21 8 (dk_at dksX4_goes_15 17 rfl rfl)
theorem dX4_goes_367 : decode cX4_goes 367 = .ok (.ishl, 1) := dk_120 (dk_at dksX4_goes_15 19 rfl rfl)
theorem dX4_goes_368 : decode cX4_goes 368 = .ok (.ior, 1) := dk_128 (dk_at dksX4_goes_15 20 rfl rfl)
theorem dX4_goes_369 : decode cX4_goes 369 = .ok (.putfield 517, 3) := dk_181 2 5 (dk_at dksX4_goes_15 21 rfl rfl)
theorem dX4_goes_372 : decode cX4_goes 372 = .ok (.iinc 5 1, 3) := dk_132 5 1 (dk_at dksX4_goes_16 0 rfl rfl)
theorem dX4_goes_375 : decode cX4_goes 375 = .ok (.iinc 7 1, 3) := dk_132 7 1 (dk_at dksX4_goes_16 3 rfl rfl)
theorem dX4_goes_378 : decode cX4_goes 378 = .ok (.goto (-146), 3) := dk_167 255 110 (dk_at dksX4_goes_16 6 rfl rfl)
theorem dX4_goes_381 : decode cX4_goes 381 = .ok (.iload 5, 2) := dk_21 5 (dk_at dksX4_goes_16 9 rfl rfl)
theorem dX4_goes_383 : decode cX4_goes 383 = .ok (.ireturn, 1) := dk_172 (dk_at dksX4_goes_16 11 rfl rfl)
abbrev cX4_ones : ByteArray := prog_29_method_120_code
def yX4_ones : MethodName := ⟨RX4, "ones", "(I)I"⟩
def dkwX4_ones_1 : List UInt8 := [27, 172]
abbrev dktX4_ones_1 : List UInt8 := dkwX4_ones_1 ++ []
def dkwX4_ones_0 : List UInt8 := [3, 60, 3, 61, 28, 16, 20, 162, 0, 17, 27, 26, 28, 122, 4, 126, 96, 60, 132, 2, 1, 167, 255, 239]
abbrev dktX4_ones_0 : List UInt8 := dkwX4_ones_0 ++ dktX4_ones_1
theorem dksX4_ones_0 : cX4_ones.data.toList.drop 0 = dktX4_ones_0 := by decide +kernel
theorem dksX4_ones_1 : cX4_ones.data.toList.drop 24 = dktX4_ones_1 := dk_seg dksX4_ones_0 24 rfl rfl
theorem dX4_ones_0 : decode cX4_ones 0 = .ok (.iconst 0, 1) := dk_3 (dk_at dksX4_ones_0 0 rfl rfl)
theorem dX4_ones_1 : decode cX4_ones 1 = .ok (.istore_n 1, 1) := dk_60 (dk_at dksX4_ones_0 1 rfl rfl)
theorem dX4_ones_2 : decode cX4_ones 2 = .ok (.iconst 0, 1) := dk_3 (dk_at dksX4_ones_0 2 rfl rfl)
theorem dX4_ones_3 : decode cX4_ones 3 = .ok (.istore_n 2, 1) := dk_61 (dk_at dksX4_ones_0 3 rfl rfl)
theorem dX4_ones_4 : decode cX4_ones 4 = .ok (.iload_n 2, 1) := dk_28 (dk_at dksX4_ones_0 4 rfl rfl)
theorem dX4_ones_5 : decode cX4_ones 5 = .ok (.bipush 20, 2) := dk_16 20 (dk_at dksX4_ones_0 5 rfl rfl)
theorem dX4_ones_7 : decode cX4_ones 7 = .ok (.if_icmp .ge 17, 3) := dk_162 0 17 (dk_at dksX4_ones_0 7 rfl rfl)
theorem dX4_ones_10 : decode cX4_ones 10 = .ok (.iload_n 1, 1) := dk_27 (dk_at dksX4_ones_0 10 rfl rfl)
theorem dX4_ones_11 : decode cX4_ones 11 = .ok (.iload_n 0, 1) := dk_26 (dk_at dksX4_ones_0 11 rfl rfl)
theorem dX4_ones_12 : decode cX4_ones 12 = .ok (.iload_n 2, 1) := dk_28 (dk_at dksX4_ones_0 12 rfl rfl)
theorem dX4_ones_13 : decode cX4_ones 13 = .ok (.ishr, 1) := dk_122 (dk_at dksX4_ones_0 13 rfl rfl)
theorem dX4_ones_14 : decode cX4_ones 14 = .ok (.iconst 1, 1) := dk_4 (dk_at dksX4_ones_0 14 rfl rfl)
theorem dX4_ones_15 : decode cX4_ones 15 = .ok (.iand, 1) := dk_126 (dk_at dksX4_ones_0 15 rfl rfl)
theorem dX4_ones_16 : decode cX4_ones 16 = .ok (.iadd, 1) := dk_96 (dk_at dksX4_ones_0 16 rfl rfl)
theorem dX4_ones_17 : decode cX4_ones 17 = .ok (.istore_n 1, 1) := dk_60 (dk_at dksX4_ones_0 17 rfl rfl)
theorem dX4_ones_18 : decode cX4_ones 18 = .ok (.iinc 2 1, 3) := dk_132 2 1 (dk_at dksX4_ones_0 18 rfl rfl)
theorem dX4_ones_21 : decode cX4_ones 21 = .ok (.goto (-17), 3) := dk_167 255 239 (dk_at dksX4_ones_0 21 rfl rfl)
theorem dX4_ones_24 : decode cX4_ones 24 = .ok (.iload_n 1, 1) := dk_27 (dk_at dksX4_ones_1 0 rfl rfl)
theorem dX4_ones_25 : decode cX4_ones 25 = .ok (.ireturn, 1) := dk_172 (dk_at dksX4_ones_1 1 rfl rfl)
abbrev cX4_draws : ByteArray := prog_29_method_118_code
def yX4_draws : MethodName := ⟨RX4, "draws", "(I)I"⟩
def dkwX4_draws_1 : List UInt8 := [180, 1, 239, 27, 112, 172]
abbrev dktX4_draws_1 : List UInt8 := dkwX4_draws_1 ++ []
def dkwX4_draws_0 : List UInt8 := [42, 20, 1, 237, 42, 180, 1, 239, 133, 105, 20, 1, 242, 97, 20, 1, 244, 113, 136, 181, 1, 239, 42]
abbrev dktX4_draws_0 : List UInt8 := dkwX4_draws_0 ++ dktX4_draws_1
theorem dksX4_draws_0 : cX4_draws.data.toList.drop 0 = dktX4_draws_0 := by decide +kernel
theorem dksX4_draws_1 : cX4_draws.data.toList.drop 23 = dktX4_draws_1 := dk_seg dksX4_draws_0 23 rfl rfl
theorem dX4_draws_0 : decode cX4_draws 0 = .ok (.aload_n 0, 1) := dk_42 (dk_at dksX4_draws_0 0 rfl rfl)
theorem dX4_draws_1 : decode cX4_draws 1 = .ok (.ldc2_w 493, 3) := dk_20 1 237 (dk_at dksX4_draws_0 1 rfl rfl)
theorem dX4_draws_4 : decode cX4_draws 4 = .ok (.aload_n 0, 1) := dk_42 (dk_at dksX4_draws_0 4 rfl rfl)
theorem dX4_draws_5 : decode cX4_draws 5 = .ok (.getfield 495, 3) := dk_180 1 239 (dk_at dksX4_draws_0 5 rfl rfl)
theorem dX4_draws_8 : decode cX4_draws 8 = .ok (.i2l, 1) := dk_133 (dk_at dksX4_draws_0 8 rfl rfl)
theorem dX4_draws_9 : decode cX4_draws 9 = .ok (.lmul, 1) := dk_105 (dk_at dksX4_draws_0 9 rfl rfl)
theorem dX4_draws_10 : decode cX4_draws 10 = .ok (.ldc2_w 498, 3) := dk_20 1 242 (dk_at dksX4_draws_0 10 rfl rfl)
theorem dX4_draws_13 : decode cX4_draws 13 = .ok (.ladd, 1) := dk_97 (dk_at dksX4_draws_0 13 rfl rfl)
theorem dX4_draws_14 : decode cX4_draws 14 = .ok (.ldc2_w 500, 3) := dk_20 1 244 (dk_at dksX4_draws_0 14 rfl rfl)
theorem dX4_draws_17 : decode cX4_draws 17 = .ok (.lrem, 1) := dk_113 (dk_at dksX4_draws_0 17 rfl rfl)
theorem dX4_draws_18 : decode cX4_draws 18 = .ok (.l2i, 1) := dk_136 (dk_at dksX4_draws_0 18 rfl rfl)
theorem dX4_draws_19 : decode cX4_draws 19 = .ok (.putfield 495, 3) := dk_181 1 239 (dk_at dksX4_draws_0 19 rfl rfl)
theorem dX4_draws_22 : decode cX4_draws 22 = .ok (.aload_n 0, 1) := dk_42 (dk_at dksX4_draws_0 22 rfl rfl)
theorem dX4_draws_23 : decode cX4_draws 23 = .ok (.getfield 495, 3) := dk_180 1 239 (dk_at dksX4_draws_1 0 rfl rfl)
theorem dX4_draws_26 : decode cX4_draws 26 = .ok (.iload_n 1, 1) := dk_27 (dk_at dksX4_draws_1 3 rfl rfl)
theorem dX4_draws_27 : decode cX4_draws 27 = .ok (.irem, 1) := dk_112 (dk_at dksX4_draws_1 4 rfl rfl)
theorem dX4_draws_28 : decode cX4_draws 28 = .ok (.ireturn, 1) := dk_172 (dk_at dksX4_draws_1 5 rfl rfl)
abbrev cX4_nth : ByteArray := prog_29_method_119_code
def yX4_nth : MethodName := ⟨RX4, "nth", "(II)I"⟩
def dkwX4_nth_1 : List UInt8 := [160, 0, 5, 29, 172, 132, 2, 1, 132, 3, 1, 167, 255, 226, 2, 172]
abbrev dktX4_nth_1 : List UInt8 := dkwX4_nth_1 ++ []
def dkwX4_nth_0 : List UInt8 := [3, 61, 3, 62, 29, 16, 20, 162, 0, 30, 26, 29, 122, 4, 126, 154, 0, 6, 167, 0, 13, 28, 27]
abbrev dktX4_nth_0 : List UInt8 := dkwX4_nth_0 ++ dktX4_nth_1
theorem dksX4_nth_0 : cX4_nth.data.toList.drop 0 = dktX4_nth_0 := by decide +kernel
theorem dksX4_nth_1 : cX4_nth.data.toList.drop 23 = dktX4_nth_1 := dk_seg dksX4_nth_0 23 rfl rfl
theorem dX4_nth_0 : decode cX4_nth 0 = .ok (.iconst 0, 1) := dk_3 (dk_at dksX4_nth_0 0 rfl rfl)
theorem dX4_nth_1 : decode cX4_nth 1 = .ok (.istore_n 2, 1) := dk_61 (dk_at dksX4_nth_0 1 rfl rfl)
theorem dX4_nth_2 : decode cX4_nth 2 = .ok (.iconst 0, 1) := dk_3 (dk_at dksX4_nth_0 2 rfl rfl)
theorem dX4_nth_3 : decode cX4_nth 3 = .ok (.istore_n 3, 1) := dk_62 (dk_at dksX4_nth_0 3 rfl rfl)
theorem dX4_nth_4 : decode cX4_nth 4 = .ok (.iload_n 3, 1) := dk_29 (dk_at dksX4_nth_0 4 rfl rfl)
theorem dX4_nth_5 : decode cX4_nth 5 = .ok (.bipush 20, 2) := dk_16 20 (dk_at dksX4_nth_0 5 rfl rfl)
theorem dX4_nth_7 : decode cX4_nth 7 = .ok (.if_icmp .ge 30, 3) := dk_162 0 30 (dk_at dksX4_nth_0 7 rfl rfl)
theorem dX4_nth_10 : decode cX4_nth 10 = .ok (.iload_n 0, 1) := dk_26 (dk_at dksX4_nth_0 10 rfl rfl)
theorem dX4_nth_11 : decode cX4_nth 11 = .ok (.iload_n 3, 1) := dk_29 (dk_at dksX4_nth_0 11 rfl rfl)
theorem dX4_nth_12 : decode cX4_nth 12 = .ok (.ishr, 1) := dk_122 (dk_at dksX4_nth_0 12 rfl rfl)
theorem dX4_nth_13 : decode cX4_nth 13 = .ok (.iconst 1, 1) := dk_4 (dk_at dksX4_nth_0 13 rfl rfl)
theorem dX4_nth_14 : decode cX4_nth 14 = .ok (.iand, 1) := dk_126 (dk_at dksX4_nth_0 14 rfl rfl)
theorem dX4_nth_15 : decode cX4_nth 15 = .ok (.ifCond .ne 6, 3) := dk_154 0 6 (dk_at dksX4_nth_0 15 rfl rfl)
theorem dX4_nth_18 : decode cX4_nth 18 = .ok (.goto 13, 3) := dk_167 0 13 (dk_at dksX4_nth_0 18 rfl rfl)
theorem dX4_nth_21 : decode cX4_nth 21 = .ok (.iload_n 2, 1) := dk_28 (dk_at dksX4_nth_0 21 rfl rfl)
theorem dX4_nth_22 : decode cX4_nth 22 = .ok (.iload_n 1, 1) := dk_27 (dk_at dksX4_nth_0 22 rfl rfl)
theorem dX4_nth_23 : decode cX4_nth 23 = .ok (.if_icmp .ne 5, 3) := dk_160 0 5 (dk_at dksX4_nth_1 0 rfl rfl)
theorem dX4_nth_26 : decode cX4_nth 26 = .ok (.iload_n 3, 1) := dk_29 (dk_at dksX4_nth_1 3 rfl rfl)
theorem dX4_nth_27 : decode cX4_nth 27 = .ok (.ireturn, 1) := dk_172 (dk_at dksX4_nth_1 4 rfl rfl)
theorem dX4_nth_28 : decode cX4_nth 28 = .ok (.iinc 2 1, 3) := dk_132 2 1 (dk_at dksX4_nth_1 5 rfl rfl)
theorem dX4_nth_31 : decode cX4_nth 31 = .ok (.iinc 3 1, 3) := dk_132 3 1 (dk_at dksX4_nth_1 8 rfl rfl)
theorem dX4_nth_34 : decode cX4_nth 34 = .ok (.goto (-30), 3) := dk_167 255 226 (dk_at dksX4_nth_1 11 rfl rfl)
theorem dX4_nth_37 : decode cX4_nth 37 = .ok (.iconst (-1), 1) := dk_2 (dk_at dksX4_nth_1 14 rfl rfl)
theorem dX4_nth_38 : decode cX4_nth 38 = .ok (.ireturn, 1) := dk_172 (dk_at dksX4_nth_1 15 rfl rfl)
abbrev cX4_table : ByteArray := prog_29_method_123_code
def yX4_table : MethodName := ⟨RX4, "table", "(I)I"⟩
def dkwX4_table_2 : List UInt8 := [180, 2, 14, 172]
abbrev dktX4_table_2 : List UInt8 := dkwX4_table_2 ++ []
def dkwX4_table_1 : List UInt8 := [154, 0, 10, 42, 180, 0, 132, 167, 0, 19, 27, 4, 160, 0, 10, 42, 180, 2, 11, 167, 0, 7, 42]
abbrev dktX4_table_1 : List UInt8 := dkwX4_table_1 ++ dktX4_table_2
def dkwX4_table_0 : List UInt8 := [42, 180, 0, 132, 2, 159, 0, 12, 27, 3, 5, 184, 0, 135, 154, 0, 7, 2, 167, 0, 30, 27]
abbrev dktX4_table_0 : List UInt8 := dkwX4_table_0 ++ dktX4_table_1
theorem dksX4_table_0 : cX4_table.data.toList.drop 0 = dktX4_table_0 := by decide +kernel
theorem dksX4_table_1 : cX4_table.data.toList.drop 22 = dktX4_table_1 := dk_seg dksX4_table_0 22 rfl rfl
theorem dksX4_table_2 : cX4_table.data.toList.drop 45 = dktX4_table_2 := dk_seg dksX4_table_1 23 rfl rfl
theorem dX4_table_0 : decode cX4_table 0 = .ok (.aload_n 0, 1) := dk_42 (dk_at dksX4_table_0 0 rfl rfl)
theorem dX4_table_1 : decode cX4_table 1 = .ok (.getfield 132, 3) := dk_180 0 132 (dk_at dksX4_table_0 1 rfl rfl)
theorem dX4_table_4 : decode cX4_table 4 = .ok (.iconst (-1), 1) := dk_2 (dk_at dksX4_table_0 4 rfl rfl)
theorem dX4_table_5 : decode cX4_table 5 = .ok (.if_icmp .eq 12, 3) := dk_159 0 12 (dk_at dksX4_table_0 5 rfl rfl)
theorem dX4_table_8 : decode cX4_table 8 = .ok (.iload_n 1, 1) := dk_27 (dk_at dksX4_table_0 8 rfl rfl)
theorem dX4_table_9 : decode cX4_table 9 = .ok (.iconst 0, 1) := dk_3 (dk_at dksX4_table_0 9 rfl rfl)
theorem dX4_table_10 : decode cX4_table 10 = .ok (.iconst 2, 1) := dk_5 (dk_at dksX4_table_0 10 rfl rfl)
theorem dX4_table_11 : decode cX4_table 11 = .ok (.invokestatic 135, 3) := dk_184 0 135 (dk_at dksX4_table_0 11 rfl rfl)
theorem dX4_table_14 : decode cX4_table 14 = .ok (.ifCond .ne 7, 3) := dk_154 0 7 (dk_at dksX4_table_0 14 rfl rfl)
theorem dX4_table_17 : decode cX4_table 17 = .ok (.iconst (-1), 1) := dk_2 (dk_at dksX4_table_0 17 rfl rfl)
theorem dX4_table_18 : decode cX4_table 18 = .ok (.goto 30, 3) := dk_167 0 30 (dk_at dksX4_table_0 18 rfl rfl)
theorem dX4_table_21 : decode cX4_table 21 = .ok (.iload_n 1, 1) := dk_27 (dk_at dksX4_table_0 21 rfl rfl)
theorem dX4_table_22 : decode cX4_table 22 = .ok (.ifCond .ne 10, 3) := dk_154 0 10 (dk_at dksX4_table_1 0 rfl rfl)
theorem dX4_table_25 : decode cX4_table 25 = .ok (.aload_n 0, 1) := dk_42 (dk_at dksX4_table_1 3 rfl rfl)
theorem dX4_table_26 : decode cX4_table 26 = .ok (.getfield 132, 3) := dk_180 0 132 (dk_at dksX4_table_1 4 rfl rfl)
theorem dX4_table_29 : decode cX4_table 29 = .ok (.goto 19, 3) := dk_167 0 19 (dk_at dksX4_table_1 7 rfl rfl)
theorem dX4_table_32 : decode cX4_table 32 = .ok (.iload_n 1, 1) := dk_27 (dk_at dksX4_table_1 10 rfl rfl)
theorem dX4_table_33 : decode cX4_table 33 = .ok (.iconst 1, 1) := dk_4 (dk_at dksX4_table_1 11 rfl rfl)
theorem dX4_table_34 : decode cX4_table 34 = .ok (.if_icmp .ne 10, 3) := dk_160 0 10 (dk_at dksX4_table_1 12 rfl rfl)
theorem dX4_table_37 : decode cX4_table 37 = .ok (.aload_n 0, 1) := dk_42 (dk_at dksX4_table_1 15 rfl rfl)
theorem dX4_table_38 : decode cX4_table 38 = .ok (.getfield 523, 3) := dk_180 2 11 (dk_at dksX4_table_1 16 rfl rfl)
theorem dX4_table_41 : decode cX4_table 41 = .ok (.goto 7, 3) := dk_167 0 7 (dk_at dksX4_table_1 19 rfl rfl)
theorem dX4_table_44 : decode cX4_table 44 = .ok (.aload_n 0, 1) := dk_42 (dk_at dksX4_table_1 22 rfl rfl)
theorem dX4_table_45 : decode cX4_table 45 = .ok (.getfield 526, 3) := dk_180 2 14 (dk_at dksX4_table_2 0 rfl rfl)
theorem dX4_table_48 : decode cX4_table 48 = .ok (.ireturn, 1) := dk_172 (dk_at dksX4_table_2 3 rfl rfl)
abbrev cX4_exams : ByteArray := prog_29_method_124_code
def yX4_exams : MethodName := ⟨RX4, "exams", "(II)I"⟩
def dkwX4_exams_2 : List UInt8 := [182, 1, 62, 161, 0, 7, 4, 167, 0, 4, 3, 96, 62, 132, 4, 1, 167, 255, 227, 29, 172]
abbrev dktX4_exams_2 : List UInt8 := dkwX4_exams_2 ++ []
def dkwX4_exams_1 : List UInt8 := [28, 181, 1, 239, 3, 62, 3, 54, 4, 21, 4, 27, 162, 0, 29, 29, 42, 182, 2, 8, 42, 5]
abbrev dktX4_exams_1 : List UInt8 := dkwX4_exams_1 ++ dktX4_exams_2
def dkwX4_exams_0 : List UInt8 := [27, 4, 17, 1, 244, 184, 0, 135, 153, 0, 13, 28, 3, 18, 185, 184, 0, 135, 154, 0, 5, 2, 172, 42]
abbrev dktX4_exams_0 : List UInt8 := dkwX4_exams_0 ++ dktX4_exams_1
theorem dksX4_exams_0 : cX4_exams.data.toList.drop 0 = dktX4_exams_0 := by decide +kernel
theorem dksX4_exams_1 : cX4_exams.data.toList.drop 24 = dktX4_exams_1 := dk_seg dksX4_exams_0 24 rfl rfl
theorem dksX4_exams_2 : cX4_exams.data.toList.drop 46 = dktX4_exams_2 := dk_seg dksX4_exams_1 22 rfl rfl
theorem dX4_exams_0 : decode cX4_exams 0 = .ok (.iload_n 1, 1) := dk_27 (dk_at dksX4_exams_0 0 rfl rfl)
theorem dX4_exams_1 : decode cX4_exams 1 = .ok (.iconst 1, 1) := dk_4 (dk_at dksX4_exams_0 1 rfl rfl)
theorem dX4_exams_2 : decode cX4_exams 2 = .ok (.sipush 500, 3) := dk_17 1 244 (dk_at dksX4_exams_0 2 rfl rfl)
theorem dX4_exams_5 : decode cX4_exams 5 = .ok (.invokestatic 135, 3) := dk_184 0 135 (dk_at dksX4_exams_0 5 rfl rfl)
theorem dX4_exams_8 : decode cX4_exams 8 = .ok (.ifCond .eq 13, 3) := dk_153 0 13 (dk_at dksX4_exams_0 8 rfl rfl)
theorem dX4_exams_11 : decode cX4_exams 11 = .ok (.iload_n 2, 1) := dk_28 (dk_at dksX4_exams_0 11 rfl rfl)
theorem dX4_exams_12 : decode cX4_exams 12 = .ok (.iconst 0, 1) := dk_3 (dk_at dksX4_exams_0 12 rfl rfl)
theorem dX4_exams_13 : decode cX4_exams 13 = .ok (.ldc 185, 2) := dk_18 185 (dk_at dksX4_exams_0 13 rfl rfl)
theorem dX4_exams_15 : decode cX4_exams 15 = .ok (.invokestatic 135, 3) := dk_184 0 135 (dk_at dksX4_exams_0 15 rfl rfl)
theorem dX4_exams_18 : decode cX4_exams 18 = .ok (.ifCond .ne 5, 3) := dk_154 0 5 (dk_at dksX4_exams_0 18 rfl rfl)
theorem dX4_exams_21 : decode cX4_exams 21 = .ok (.iconst (-1), 1) := dk_2 (dk_at dksX4_exams_0 21 rfl rfl)
theorem dX4_exams_22 : decode cX4_exams 22 = .ok (.ireturn, 1) := dk_172 (dk_at dksX4_exams_0 22 rfl rfl)
theorem dX4_exams_23 : decode cX4_exams 23 = .ok (.aload_n 0, 1) := dk_42 (dk_at dksX4_exams_0 23 rfl rfl)
theorem dX4_exams_24 : decode cX4_exams 24 = .ok (.iload_n 2, 1) := dk_28 (dk_at dksX4_exams_1 0 rfl rfl)
theorem dX4_exams_25 : decode cX4_exams 25 = .ok (.putfield 495, 3) := dk_181 1 239 (dk_at dksX4_exams_1 1 rfl rfl)
theorem dX4_exams_28 : decode cX4_exams 28 = .ok (.iconst 0, 1) := dk_3 (dk_at dksX4_exams_1 4 rfl rfl)
theorem dX4_exams_29 : decode cX4_exams 29 = .ok (.istore_n 3, 1) := dk_62 (dk_at dksX4_exams_1 5 rfl rfl)
theorem dX4_exams_30 : decode cX4_exams 30 = .ok (.iconst 0, 1) := dk_3 (dk_at dksX4_exams_1 6 rfl rfl)
theorem dX4_exams_31 : decode cX4_exams 31 = .ok (.istore 4, 2) := dk_54 4 (dk_at dksX4_exams_1 7 rfl rfl)
theorem dX4_exams_33 : decode cX4_exams 33 = .ok (.iload 4, 2) := dk_21 4 (dk_at dksX4_exams_1 9 rfl rfl)
theorem dX4_exams_35 : decode cX4_exams 35 = .ok (.iload_n 1, 1) := dk_27 (dk_at dksX4_exams_1 11 rfl rfl)
theorem dX4_exams_36 : decode cX4_exams 36 = .ok (.if_icmp .ge 29, 3) := dk_162 0 29 (dk_at dksX4_exams_1 12 rfl rfl)
theorem dX4_exams_39 : decode cX4_exams 39 = .ok (.iload_n 3, 1) := dk_29 (dk_at dksX4_exams_1 15 rfl rfl)
theorem dX4_exams_40 : decode cX4_exams 40 = .ok (.aload_n 0, 1) := dk_42 (dk_at dksX4_exams_1 16 rfl rfl)
theorem dX4_exams_41 : decode cX4_exams 41 = .ok (.invokevirtual 520, 3) := dk_182 2 8 (dk_at dksX4_exams_1 17 rfl rfl)
theorem dX4_exams_44 : decode cX4_exams 44 = .ok (.aload_n 0, 1) := dk_42 (dk_at dksX4_exams_1 20 rfl rfl)
theorem dX4_exams_45 : decode cX4_exams 45 = .ok (.iconst 2, 1) := dk_5 (dk_at dksX4_exams_1 21 rfl rfl)
theorem dX4_exams_46 : decode cX4_exams 46 = .ok (.invokevirtual 318, 3) := dk_182 1 62 (dk_at dksX4_exams_2 0 rfl rfl)
theorem dX4_exams_49 : decode cX4_exams 49 = .ok (.if_icmp .lt 7, 3) := dk_161 0 7 (dk_at dksX4_exams_2 3 rfl rfl)
theorem dX4_exams_52 : decode cX4_exams 52 = .ok (.iconst 1, 1) := dk_4 (dk_at dksX4_exams_2 6 rfl rfl)
theorem dX4_exams_53 : decode cX4_exams 53 = .ok (.goto 4, 3) := dk_167 0 4 (dk_at dksX4_exams_2 7 rfl rfl)
theorem dX4_exams_56 : decode cX4_exams 56 = .ok (.iconst 0, 1) := dk_3 (dk_at dksX4_exams_2 10 rfl rfl)
theorem dX4_exams_57 : decode cX4_exams 57 = .ok (.iadd, 1) := dk_96 (dk_at dksX4_exams_2 11 rfl rfl)
theorem dX4_exams_58 : decode cX4_exams 58 = .ok (.istore_n 3, 1) := dk_62 (dk_at dksX4_exams_2 12 rfl rfl)
theorem dX4_exams_59 : decode cX4_exams 59 = .ok (.iinc 4 1, 3) := dk_132 4 1 (dk_at dksX4_exams_2 13 rfl rfl)
theorem dX4_exams_62 : decode cX4_exams 62 = .ok (.goto (-29), 3) := dk_167 255 227 (dk_at dksX4_exams_2 16 rfl rfl)
theorem dX4_exams_65 : decode cX4_exams 65 = .ok (.iload_n 3, 1) := dk_29 (dk_at dksX4_exams_2 19 rfl rfl)
theorem dX4_exams_66 : decode cX4_exams 66 = .ok (.ireturn, 1) := dk_172 (dk_at dksX4_exams_2 20 rfl rfl)
abbrev cX4_count : ByteArray := prog_29_method_125_code
def yX4_count : MethodName := ⟨RX4, "count", "(I)I"⟩
def dkwX4_count_6 : List UInt8 := [42, 180, 0, 20, 17, 1, 138, 46, 172, 2, 172]
abbrev dktX4_count_6 : List UInt8 := dkwX4_count_6 ++ []
def dkwX4_count_5 : List UInt8 := [180, 0, 7, 27, 16, 6, 100, 46, 172, 42, 180, 0, 7, 8, 46, 172, 42, 180, 0, 7, 16, 6, 46, 172]
abbrev dktX4_count_5 : List UInt8 := dkwX4_count_5 ++ dktX4_count_6
def dkwX4_count_4 : List UInt8 := [17, 1, 135, 46, 172, 42, 180, 0, 20, 17, 1, 136, 46, 172, 28, 172, 42, 180, 0, 170, 172, 42]
abbrev dktX4_count_4 : List UInt8 := dkwX4_count_4 ++ dktX4_count_5
def dkwX4_count_3 : List UInt8 := [42, 182, 0, 146, 172, 42, 182, 1, 106, 172, 42, 180, 0, 20, 17, 1, 137, 46, 172, 42, 180, 0, 20]
abbrev dktX4_count_3 : List UInt8 := dkwX4_count_3 ++ dktX4_count_4
def dkwX4_count_2 : List UInt8 := [170, 0, 0, 0, 0, 0, 0, 146, 0, 0, 0, 0, 0, 0, 0, 12, 0, 0, 0, 68, 0, 0, 0, 73, 0, 0, 0, 78, 0, 0, 0, 87, 0, 0, 0, 96, 0, 0, 0, 105, 0, 0, 0, 107, 0, 0, 0, 112, 0, 0, 0, 112, 0, 0, 0, 112, 0, 0, 0, 122, 0, 0, 0, 129, 0, 0, 0, 137]
abbrev dktX4_count_2 : List UInt8 := dkwX4_count_2 ++ dktX4_count_3
def dkwX4_count_1 : List UInt8 := [167, 0, 4, 3, 96, 61, 132, 3, 1, 167, 255, 228, 27]
abbrev dktX4_count_1 : List UInt8 := dkwX4_count_1 ++ dktX4_count_2
def dkwX4_count_0 : List UInt8 := [3, 61, 3, 62, 29, 42, 182, 0, 146, 162, 0, 26, 28, 42, 29, 5, 182, 0, 150, 158, 0, 7, 4]
abbrev dktX4_count_0 : List UInt8 := dkwX4_count_0 ++ dktX4_count_1
theorem dksX4_count_0 : cX4_count.data.toList.drop 0 = dktX4_count_0 := by decide +kernel
theorem dksX4_count_1 : cX4_count.data.toList.drop 23 = dktX4_count_1 := dk_seg dksX4_count_0 23 rfl rfl
theorem dksX4_count_2 : cX4_count.data.toList.drop 36 = dktX4_count_2 := dk_seg dksX4_count_1 13 rfl rfl
theorem dksX4_count_3 : cX4_count.data.toList.drop 104 = dktX4_count_3 := dk_seg dksX4_count_2 68 rfl rfl
theorem dksX4_count_4 : cX4_count.data.toList.drop 127 = dktX4_count_4 := dk_seg dksX4_count_3 23 rfl rfl
theorem dksX4_count_5 : cX4_count.data.toList.drop 149 = dktX4_count_5 := dk_seg dksX4_count_4 22 rfl rfl
theorem dksX4_count_6 : cX4_count.data.toList.drop 173 = dktX4_count_6 := dk_seg dksX4_count_5 24 rfl rfl
theorem dX4_count_0 : decode cX4_count 0 = .ok (.iconst 0, 1) := dk_3 (dk_at dksX4_count_0 0 rfl rfl)
theorem dX4_count_1 : decode cX4_count 1 = .ok (.istore_n 2, 1) := dk_61 (dk_at dksX4_count_0 1 rfl rfl)
theorem dX4_count_2 : decode cX4_count 2 = .ok (.iconst 0, 1) := dk_3 (dk_at dksX4_count_0 2 rfl rfl)
theorem dX4_count_3 : decode cX4_count 3 = .ok (.istore_n 3, 1) := dk_62 (dk_at dksX4_count_0 3 rfl rfl)
theorem dX4_count_4 : decode cX4_count 4 = .ok (.iload_n 3, 1) := dk_29 (dk_at dksX4_count_0 4 rfl rfl)
theorem dX4_count_5 : decode cX4_count 5 = .ok (.aload_n 0, 1) := dk_42 (dk_at dksX4_count_0 5 rfl rfl)
theorem dX4_count_6 : decode cX4_count 6 = .ok (.invokevirtual 146, 3) := dk_182 0 146 (dk_at dksX4_count_0 6 rfl rfl)
theorem dX4_count_9 : decode cX4_count 9 = .ok (.if_icmp .ge 26, 3) := dk_162 0 26 (dk_at dksX4_count_0 9 rfl rfl)
theorem dX4_count_12 : decode cX4_count 12 = .ok (.iload_n 2, 1) := dk_28 (dk_at dksX4_count_0 12 rfl rfl)
theorem dX4_count_13 : decode cX4_count 13 = .ok (.aload_n 0, 1) := dk_42 (dk_at dksX4_count_0 13 rfl rfl)
theorem dX4_count_14 : decode cX4_count 14 = .ok (.iload_n 3, 1) := dk_29 (dk_at dksX4_count_0 14 rfl rfl)
theorem dX4_count_15 : decode cX4_count 15 = .ok (.iconst 2, 1) := dk_5 (dk_at dksX4_count_0 15 rfl rfl)
theorem dX4_count_16 : decode cX4_count 16 = .ok (.invokevirtual 150, 3) := dk_182 0 150 (dk_at dksX4_count_0 16 rfl rfl)
theorem dX4_count_19 : decode cX4_count 19 = .ok (.ifCond .le 7, 3) := dk_158 0 7 (dk_at dksX4_count_0 19 rfl rfl)
theorem dX4_count_22 : decode cX4_count 22 = .ok (.iconst 1, 1) := dk_4 (dk_at dksX4_count_0 22 rfl rfl)
theorem dX4_count_23 : decode cX4_count 23 = .ok (.goto 4, 3) := dk_167 0 4 (dk_at dksX4_count_1 0 rfl rfl)
theorem dX4_count_26 : decode cX4_count 26 = .ok (.iconst 0, 1) := dk_3 (dk_at dksX4_count_1 3 rfl rfl)
theorem dX4_count_27 : decode cX4_count 27 = .ok (.iadd, 1) := dk_96 (dk_at dksX4_count_1 4 rfl rfl)
theorem dX4_count_28 : decode cX4_count 28 = .ok (.istore_n 2, 1) := dk_61 (dk_at dksX4_count_1 5 rfl rfl)
theorem dX4_count_29 : decode cX4_count 29 = .ok (.iinc 3 1, 3) := dk_132 3 1 (dk_at dksX4_count_1 6 rfl rfl)
theorem dX4_count_32 : decode cX4_count 32 = .ok (.goto (-28), 3) := dk_167 255 228 (dk_at dksX4_count_1 9 rfl rfl)
theorem dX4_count_35 : decode cX4_count 35 = .ok (.iload_n 1, 1) := dk_27 (dk_at dksX4_count_1 12 rfl rfl)
theorem dX4_count_36 : decode cX4_count 36 = .ok (.tableswitch 146 0 12 #[68, 73, 78, 87, 96, 105, 107, 112, 112, 112, 122, 129, 137], 68) := by decide +kernel
theorem dX4_count_104 : decode cX4_count 104 = .ok (.aload_n 0, 1) := dk_42 (dk_at dksX4_count_3 0 rfl rfl)
theorem dX4_count_105 : decode cX4_count 105 = .ok (.invokevirtual 146, 3) := dk_182 0 146 (dk_at dksX4_count_3 1 rfl rfl)
theorem dX4_count_108 : decode cX4_count 108 = .ok (.ireturn, 1) := dk_172 (dk_at dksX4_count_3 4 rfl rfl)
theorem dX4_count_109 : decode cX4_count 109 = .ok (.aload_n 0, 1) := dk_42 (dk_at dksX4_count_3 5 rfl rfl)
theorem dX4_count_110 : decode cX4_count 110 = .ok (.invokevirtual 362, 3) := dk_182 1 106 (dk_at dksX4_count_3 6 rfl rfl)
theorem dX4_count_113 : decode cX4_count 113 = .ok (.ireturn, 1) := dk_172 (dk_at dksX4_count_3 9 rfl rfl)
theorem dX4_count_114 : decode cX4_count 114 = .ok (.aload_n 0, 1) := dk_42 (dk_at dksX4_count_3 10 rfl rfl)
theorem dX4_count_115 : decode cX4_count 115 = .ok (.getfield 20, 3) := dk_180 0 20 (dk_at dksX4_count_3 11 rfl rfl)
theorem dX4_count_118 : decode cX4_count 118 = .ok (.sipush 393, 3) := dk_17 1 137 (dk_at dksX4_count_3 14 rfl rfl)
theorem dX4_count_121 : decode cX4_count 121 = .ok (.iaload, 1) := dk_46 (dk_at dksX4_count_3 17 rfl rfl)
theorem dX4_count_122 : decode cX4_count 122 = .ok (.ireturn, 1) := dk_172 (dk_at dksX4_count_3 18 rfl rfl)
theorem dX4_count_123 : decode cX4_count 123 = .ok (.aload_n 0, 1) := dk_42 (dk_at dksX4_count_3 19 rfl rfl)
theorem dX4_count_124 : decode cX4_count 124 = .ok (.getfield 20, 3) := dk_180 0 20 (dk_at dksX4_count_3 20 rfl rfl)
theorem dX4_count_127 : decode cX4_count 127 = .ok (.sipush 391, 3) := dk_17 1 135 (dk_at dksX4_count_4 0 rfl rfl)
theorem dX4_count_130 : decode cX4_count 130 = .ok (.iaload, 1) := dk_46 (dk_at dksX4_count_4 3 rfl rfl)
theorem dX4_count_131 : decode cX4_count 131 = .ok (.ireturn, 1) := dk_172 (dk_at dksX4_count_4 4 rfl rfl)
theorem dX4_count_132 : decode cX4_count 132 = .ok (.aload_n 0, 1) := dk_42 (dk_at dksX4_count_4 5 rfl rfl)
theorem dX4_count_133 : decode cX4_count 133 = .ok (.getfield 20, 3) := dk_180 0 20 (dk_at dksX4_count_4 6 rfl rfl)
theorem dX4_count_136 : decode cX4_count 136 = .ok (.sipush 392, 3) := dk_17 1 136 (dk_at dksX4_count_4 9 rfl rfl)
theorem dX4_count_139 : decode cX4_count 139 = .ok (.iaload, 1) := dk_46 (dk_at dksX4_count_4 12 rfl rfl)
theorem dX4_count_140 : decode cX4_count 140 = .ok (.ireturn, 1) := dk_172 (dk_at dksX4_count_4 13 rfl rfl)
theorem dX4_count_141 : decode cX4_count 141 = .ok (.iload_n 2, 1) := dk_28 (dk_at dksX4_count_4 14 rfl rfl)
theorem dX4_count_142 : decode cX4_count 142 = .ok (.ireturn, 1) := dk_172 (dk_at dksX4_count_4 15 rfl rfl)
theorem dX4_count_143 : decode cX4_count 143 = .ok (.aload_n 0, 1) := dk_42 (dk_at dksX4_count_4 16 rfl rfl)
theorem dX4_count_144 : decode cX4_count 144 = .ok (.getfield 170, 3) := dk_180 0 170 (dk_at dksX4_count_4 17 rfl rfl)
theorem dX4_count_147 : decode cX4_count 147 = .ok (.ireturn, 1) := dk_172 (dk_at dksX4_count_4 20 rfl rfl)
theorem dX4_count_148 : decode cX4_count 148 = .ok (.aload_n 0, 1) := dk_42 (dk_at dksX4_count_4 21 rfl rfl)
theorem dX4_count_149 : decode cX4_count 149 = .ok (.getfield 7, 3) := dk_180 0 7 (dk_at dksX4_count_5 0 rfl rfl)
theorem dX4_count_152 : decode cX4_count 152 = .ok (.iload_n 1, 1) := dk_27 (dk_at dksX4_count_5 3 rfl rfl)
theorem dX4_count_153 : decode cX4_count 153 = .ok (.bipush 6, 2) := dk_16 6 (dk_at dksX4_count_5 4 rfl rfl)
theorem dX4_count_155 : decode cX4_count 155 = .ok (.isub, 1) := dk_100 (dk_at dksX4_count_5 6 rfl rfl)
theorem dX4_count_156 : decode cX4_count 156 = .ok (.iaload, 1) := dk_46 (dk_at dksX4_count_5 7 rfl rfl)
theorem dX4_count_157 : decode cX4_count 157 = .ok (.ireturn, 1) := dk_172 (dk_at dksX4_count_5 8 rfl rfl)
theorem dX4_count_158 : decode cX4_count 158 = .ok (.aload_n 0, 1) := dk_42 (dk_at dksX4_count_5 9 rfl rfl)
theorem dX4_count_159 : decode cX4_count 159 = .ok (.getfield 7, 3) := dk_180 0 7 (dk_at dksX4_count_5 10 rfl rfl)
theorem dX4_count_162 : decode cX4_count 162 = .ok (.iconst 5, 1) := dk_8 (dk_at dksX4_count_5 13 rfl rfl)
theorem dX4_count_163 : decode cX4_count 163 = .ok (.iaload, 1) := dk_46 (dk_at dksX4_count_5 14 rfl rfl)
theorem dX4_count_164 : decode cX4_count 164 = .ok (.ireturn, 1) := dk_172 (dk_at dksX4_count_5 15 rfl rfl)
theorem dX4_count_165 : decode cX4_count 165 = .ok (.aload_n 0, 1) := dk_42 (dk_at dksX4_count_5 16 rfl rfl)
theorem dX4_count_166 : decode cX4_count 166 = .ok (.getfield 7, 3) := dk_180 0 7 (dk_at dksX4_count_5 17 rfl rfl)
theorem dX4_count_169 : decode cX4_count 169 = .ok (.bipush 6, 2) := dk_16 6 (dk_at dksX4_count_5 20 rfl rfl)
theorem dX4_count_171 : decode cX4_count 171 = .ok (.iaload, 1) := dk_46 (dk_at dksX4_count_5 22 rfl rfl)
theorem dX4_count_172 : decode cX4_count 172 = .ok (.ireturn, 1) := dk_172 (dk_at dksX4_count_5 23 rfl rfl)
theorem dX4_count_173 : decode cX4_count 173 = .ok (.aload_n 0, 1) := dk_42 (dk_at dksX4_count_6 0 rfl rfl)
theorem dX4_count_174 : decode cX4_count 174 = .ok (.getfield 20, 3) := dk_180 0 20 (dk_at dksX4_count_6 1 rfl rfl)
theorem dX4_count_177 : decode cX4_count 177 = .ok (.sipush 394, 3) := dk_17 1 138 (dk_at dksX4_count_6 4 rfl rfl)
theorem dX4_count_180 : decode cX4_count 180 = .ok (.iaload, 1) := dk_46 (dk_at dksX4_count_6 7 rfl rfl)
theorem dX4_count_181 : decode cX4_count 181 = .ok (.ireturn, 1) := dk_172 (dk_at dksX4_count_6 8 rfl rfl)
theorem dX4_count_182 : decode cX4_count 182 = .ok (.iconst (-1), 1) := dk_2 (dk_at dksX4_count_6 9 rfl rfl)
theorem dX4_count_183 : decode cX4_count 183 = .ok (.ireturn, 1) := dk_172 (dk_at dksX4_count_6 10 rfl rfl)
abbrev cX4_status : ByteArray := prog_29_method_126_code
def yX4_status : MethodName := ⟨RX4, "status", "()I"⟩
theorem dX4_status_0 : decode cX4_status 0 = .ok (.aload_n 0, 1) := by decide +kernel
theorem dX4_status_1 : decode cX4_status 1 = .ok (.getfield 3, 3) := by decide +kernel
theorem dX4_status_4 : decode cX4_status 4 = .ok (.ireturn, 1) := by decide +kernel
theorem q131 : (Jvm.Cond.initialized "ExamSlipsModel") ∈ lw_all := lw_g (lw_at lw_m1 8 rfl) rfl
theorem q467 : (Jvm.Cond.selects "ExamSlipsModel" ({ cls := "java/lang/Object", name := "getClass", desc := "()Ljava/lang/Class;" } : Jvm.MethodName) ({ cls := "java/lang/Object", name := "getClass", desc := "()Ljava/lang/Class;" } : Jvm.MethodName)) ∈ lw_all := lw_g (lw_at lw_m2 104 rfl) rfl
theorem q1659 : (Jvm.Cond.instantiable "ExamSlipsModel" (70 : Nat)) ∈ lw_all := lw_g (lw_at lw_m7 96 rfl) rfl
theorem q1661 : (Jvm.Cond.instanceMethod ({ cls := "ExamSlipsModel", name := "<init>", desc := "()V" } : Jvm.MethodName)) ∈ lw_all := lw_g (lw_at lw_m7 98 rfl) rfl
theorem q1662 : (Jvm.Cond.code ({ cls := "ExamSlipsModel", name := "<init>", desc := "()V" } : Jvm.MethodName) prog_29_method_4_code (1 : Nat) (Option.none : Option Jvm.ClassFile.FieldType)) ∈ lw_all := lw_g (lw_at lw_m7 99 rfl) rfl
theorem q1663 : (Jvm.Cond.methodLink "ExamSlipsModel" (14 : Nat) ({ cls := "java/lang/Object", name := "<init>", desc := "()V" } : Jvm.MethodName)) ∈ lw_all := lw_g (lw_at lw_m7 100 rfl) rfl
theorem q1664 : (Jvm.Cond.constant "ExamSlipsModel" (74 : Nat) (148176 : Int32)) ∈ lw_all := lw_g (lw_at lw_m7 101 rfl) rfl
theorem q1665 : (Jvm.Cond.fieldLink "ExamSlipsModel" (3 : Nat) "ExamSlipsModel" "status" "I") ∈ lw_all := lw_g (lw_at lw_m7 102 rfl) rfl
theorem q1666 : (Jvm.Cond.fieldLink "ExamSlipsModel" (11 : Nat) "ExamSlipsModel" "version" "I") ∈ lw_all := lw_g (lw_at lw_m7 103 rfl) rfl
theorem q1667 : (Jvm.Cond.fieldLink "ExamSlipsModel" (7 : Nat) "ExamSlipsModel" "refused" "[I") ∈ lw_all := lw_g (lw_at lw_m7 104 rfl) rfl
theorem q1668 : (Jvm.Cond.fieldLink "ExamSlipsModel" (20 : Nat) "ExamSlipsModel" "kept" "[I") ∈ lw_all := lw_g (lw_at lw_m7 105 rfl) rfl
theorem q1669 : (Jvm.Cond.fieldLink "ExamSlipsModel" (23 : Nat) "ExamSlipsModel" "images" "[I") ∈ lw_all := lw_g (lw_at lw_m7 106 rfl) rfl
theorem q1670 : (Jvm.Cond.fieldLink "ExamSlipsModel" (26 : Nat) "ExamSlipsModel" "hasImage" "[Z") ∈ lw_all := lw_g (lw_at lw_m7 107 rfl) rfl
theorem q1671 : (Jvm.Cond.fieldLink "ExamSlipsModel" (30 : Nat) "ExamSlipsModel" "words" "[B") ∈ lw_all := lw_g (lw_at lw_m7 108 rfl) rfl
theorem q1672 : (Jvm.Cond.fieldLink "ExamSlipsModel" (34 : Nat) "ExamSlipsModel" "tape" "[B") ∈ lw_all := lw_g (lw_at lw_m7 109 rfl) rfl
theorem q1673 : (Jvm.Cond.fieldLink "ExamSlipsModel" (37 : Nat) "ExamSlipsModel" "five" "[I") ∈ lw_all := lw_g (lw_at lw_m7 110 rfl) rfl
theorem q1674 : (Jvm.Cond.fieldLink "ExamSlipsModel" (170 : Nat) "ExamSlipsModel" "taped" "I") ∈ lw_all := lw_g (lw_at lw_m7 111 rfl) rfl
theorem q1675 : (Jvm.Cond.fieldLink "ExamSlipsModel" (40 : Nat) "ExamSlipsModel" "fault" "I") ∈ lw_all := lw_g (lw_at lw_m7 112 rfl) rfl
theorem q1676 : (Jvm.Cond.fieldLink "ExamSlipsModel" (43 : Nat) "ExamSlipsModel" "code" "[I") ∈ lw_all := lw_g (lw_at lw_m7 113 rfl) rfl
theorem q1677 : (Jvm.Cond.fieldLink "ExamSlipsModel" (46 : Nat) "ExamSlipsModel" "value" "[I") ∈ lw_all := lw_g (lw_at lw_m7 114 rfl) rfl
theorem q1678 : (Jvm.Cond.fieldLink "ExamSlipsModel" (49 : Nat) "ExamSlipsModel" "placed" "[I") ∈ lw_all := lw_g (lw_at lw_m7 115 rfl) rfl
theorem q1679 : (Jvm.Cond.fieldLink "ExamSlipsModel" (173 : Nat) "ExamSlipsModel" "tokens" "I") ∈ lw_all := lw_g (lw_at lw_m7 116 rfl) rfl
theorem q1680 : (Jvm.Cond.fieldLink "ExamSlipsModel" (193 : Nat) "ExamSlipsModel" "token" "I") ∈ lw_all := lw_g (lw_at lw_m7 117 rfl) rfl
theorem q1681 : (Jvm.Cond.fieldLink "ExamSlipsModel" (202 : Nat) "ExamSlipsModel" "leaves" "I") ∈ lw_all := lw_g (lw_at lw_m7 118 rfl) rfl
theorem q1682 : (Jvm.Cond.fieldLink "ExamSlipsModel" (186 : Nat) "ExamSlipsModel" "bad" "I") ∈ lw_all := lw_g (lw_at lw_m7 119 rfl) rfl
theorem q1683 : (Jvm.Cond.fieldLink "ExamSlipsModel" (246 : Nat) "ExamSlipsModel" "go" "I") ∈ lw_all := lw_g (lw_at lw_m7 120 rfl) rfl
theorem q1684 : (Jvm.Cond.fieldLink "ExamSlipsModel" (243 : Nat) "ExamSlipsModel" "goEnd" "I") ∈ lw_all := lw_g (lw_at lw_m7 121 rfl) rfl
theorem q1685 : (Jvm.Cond.fieldLink "ExamSlipsModel" (256 : Nat) "ExamSlipsModel" "broken" "Z") ∈ lw_all := lw_g (lw_at lw_m7 122 rfl) rfl
theorem q1686 : (Jvm.Cond.fieldLink "ExamSlipsModel" (52 : Nat) "ExamSlipsModel" "asked" "[I") ∈ lw_all := lw_g (lw_at lw_m7 123 rfl) rfl
theorem q1687 : (Jvm.Cond.fieldLink "ExamSlipsModel" (55 : Nat) "ExamSlipsModel" "chances" "[I") ∈ lw_all := lw_g (lw_at lw_m7 124 rfl) rfl
theorem q1688 : (Jvm.Cond.fieldLink "ExamSlipsModel" (58 : Nat) "ExamSlipsModel" "there" "[I") ∈ lw_all := lw_g (lw_at lw_m7 125 rfl) rfl
theorem q1689 : (Jvm.Cond.fieldLink "ExamSlipsModel" (61 : Nat) "ExamSlipsModel" "likedThere" "[I") ∈ lw_all := lw_g (lw_at lw_m7 126 rfl) rfl
theorem q1690 : (Jvm.Cond.fieldLink "ExamSlipsModel" (64 : Nat) "ExamSlipsModel" "drawnOf" "[I") ∈ lw_all := lw_g (lw_at lw_m7 127 rfl) rfl
theorem q1691 : (Jvm.Cond.fieldLink "ExamSlipsModel" (67 : Nat) "ExamSlipsModel" "rights" "[J") ∈ lw_all := lw_g (lw_at lw_m7 128 rfl) rfl
theorem q1692 : (Jvm.Cond.fieldLink "ExamSlipsModel" (71 : Nat) "ExamSlipsModel" "sums" "[J") ∈ lw_all := lw_g (lw_at lw_m7 129 rfl) rfl
theorem q1693 : (Jvm.Cond.fieldLink "ExamSlipsModel" (321 : Nat) "ExamSlipsModel" "lie" "I") ∈ lw_all := lw_g (lw_at lw_m7 130 rfl) rfl
theorem q1694 : (Jvm.Cond.fieldLink "ExamSlipsModel" (308 : Nat) "ExamSlipsModel" "answered" "I") ∈ lw_all := lw_g (lw_at lw_m7 131 rfl) rfl
theorem q1695 : (Jvm.Cond.fieldLink "ExamSlipsModel" (324 : Nat) "ExamSlipsModel" "whole" "J") ∈ lw_all := lw_g (lw_at lw_m7 132 rfl) rfl
theorem q1696 : (Jvm.Cond.fieldLink "ExamSlipsModel" (75 : Nat) "ExamSlipsModel" "least" "[I") ∈ lw_all := lw_g (lw_at lw_m7 133 rfl) rfl
theorem q1697 : (Jvm.Cond.fieldLink "ExamSlipsModel" (78 : Nat) "ExamSlipsModel" "passing" "[J") ∈ lw_all := lw_g (lw_at lw_m7 134 rfl) rfl
theorem q1698 : (Jvm.Cond.fieldLink "ExamSlipsModel" (81 : Nat) "ExamSlipsModel" "costs" "[I") ∈ lw_all := lw_g (lw_at lw_m7 135 rfl) rfl
theorem q1699 : (Jvm.Cond.fieldLink "ExamSlipsModel" (381 : Nat) "ExamSlipsModel" "schemeWhole" "J") ∈ lw_all := lw_g (lw_at lw_m7 136 rfl) rfl
theorem q1700 : (Jvm.Cond.fieldLink "ExamSlipsModel" (84 : Nat) "ExamSlipsModel" "schemedBy" "I") ∈ lw_all := lw_g (lw_at lw_m7 137 rfl) rfl
theorem q1701 : (Jvm.Cond.fieldLink "ExamSlipsModel" (400 : Nat) "ExamSlipsModel" "bestPassing" "J") ∈ lw_all := lw_g (lw_at lw_m7 138 rfl) rfl
theorem q1702 : (Jvm.Cond.fieldLink "ExamSlipsModel" (403 : Nat) "ExamSlipsModel" "bestHours" "I") ∈ lw_all := lw_g (lw_at lw_m7 139 rfl) rfl
theorem q1703 : (Jvm.Cond.fieldLink "ExamSlipsModel" (87 : Nat) "ExamSlipsModel" "levels" "[I") ∈ lw_all := lw_g (lw_at lw_m7 140 rfl) rfl
theorem q1704 : (Jvm.Cond.fieldLink "ExamSlipsModel" (90 : Nat) "ExamSlipsModel" "behind" "[I") ∈ lw_all := lw_g (lw_at lw_m7 141 rfl) rfl
theorem q1705 : (Jvm.Cond.fieldLink "ExamSlipsModel" (93 : Nat) "ExamSlipsModel" "hoursOf" "[I") ∈ lw_all := lw_g (lw_at lw_m7 142 rfl) rfl
theorem q1706 : (Jvm.Cond.fieldLink "ExamSlipsModel" (96 : Nat) "ExamSlipsModel" "now" "[I") ∈ lw_all := lw_g (lw_at lw_m7 143 rfl) rfl
theorem q1707 : (Jvm.Cond.fieldLink "ExamSlipsModel" (99 : Nat) "ExamSlipsModel" "since" "[I") ∈ lw_all := lw_g (lw_at lw_m7 144 rfl) rfl
theorem q1708 : (Jvm.Cond.fieldLink "ExamSlipsModel" (416 : Nat) "ExamSlipsModel" "dropped" "I") ∈ lw_all := lw_g (lw_at lw_m7 145 rfl) rfl
theorem q1709 : (Jvm.Cond.fieldLink "ExamSlipsModel" (419 : Nat) "ExamSlipsModel" "firstDropped" "I") ∈ lw_all := lw_g (lw_at lw_m7 146 rfl) rfl
theorem q1710 : (Jvm.Cond.fieldLink "ExamSlipsModel" (422 : Nat) "ExamSlipsModel" "fell" "I") ∈ lw_all := lw_g (lw_at lw_m7 147 rfl) rfl
theorem q1711 : (Jvm.Cond.fieldLink "ExamSlipsModel" (102 : Nat) "ExamSlipsModel" "dayOf" "[I") ∈ lw_all := lw_g (lw_at lw_m7 148 rfl) rfl
theorem q1712 : (Jvm.Cond.fieldLink "ExamSlipsModel" (105 : Nat) "ExamSlipsModel" "room" "[I") ∈ lw_all := lw_g (lw_at lw_m7 149 rfl) rfl
theorem q1713 : (Jvm.Cond.fieldLink "ExamSlipsModel" (437 : Nat) "ExamSlipsModel" "at" "I") ∈ lw_all := lw_g (lw_at lw_m7 150 rfl) rfl
theorem q1714 : (Jvm.Cond.fieldLink "ExamSlipsModel" (440 : Nat) "ExamSlipsModel" "leftOut" "I") ∈ lw_all := lw_g (lw_at lw_m7 151 rfl) rfl
theorem q1715 : (Jvm.Cond.fieldLink "ExamSlipsModel" (443 : Nat) "ExamSlipsModel" "firstDay" "I") ∈ lw_all := lw_g (lw_at lw_m7 152 rfl) rfl
theorem q1716 : (Jvm.Cond.fieldLink "ExamSlipsModel" (434 : Nat) "ExamSlipsModel" "full" "Z") ∈ lw_all := lw_g (lw_at lw_m7 153 rfl) rfl
theorem q1717 : (Jvm.Cond.fieldLink "ExamSlipsModel" (108 : Nat) "ExamSlipsModel" "hoursLeft" "[I") ∈ lw_all := lw_g (lw_at lw_m7 154 rfl) rfl
theorem q1718 : (Jvm.Cond.fieldLink "ExamSlipsModel" (111 : Nat) "ExamSlipsModel" "learner" "[I") ∈ lw_all := lw_g (lw_at lw_m7 155 rfl) rfl
theorem q1719 : (Jvm.Cond.fieldLink "ExamSlipsModel" (114 : Nat) "ExamSlipsModel" "bestLearner" "[I") ∈ lw_all := lw_g (lw_at lw_m7 156 rfl) rfl
theorem q1720 : (Jvm.Cond.fieldLink "ExamSlipsModel" (117 : Nat) "ExamSlipsModel" "wellCost" "[I") ∈ lw_all := lw_g (lw_at lw_m7 157 rfl) rfl
theorem q1721 : (Jvm.Cond.fieldLink "ExamSlipsModel" (453 : Nat) "ExamSlipsModel" "shareMany" "I") ∈ lw_all := lw_g (lw_at lw_m7 158 rfl) rfl
theorem q1722 : (Jvm.Cond.fieldLink "ExamSlipsModel" (456 : Nat) "ExamSlipsModel" "shareBest" "I") ∈ lw_all := lw_g (lw_at lw_m7 159 rfl) rfl
theorem q1723 : (Jvm.Cond.fieldLink "ExamSlipsModel" (120 : Nat) "ExamSlipsModel" "sharedBy" "I") ∈ lw_all := lw_g (lw_at lw_m7 160 rfl) rfl
theorem q1724 : (Jvm.Cond.fieldLink "ExamSlipsModel" (462 : Nat) "ExamSlipsModel" "lost" "I") ∈ lw_all := lw_g (lw_at lw_m7 161 rfl) rfl
theorem q1725 : (Jvm.Cond.fieldLink "ExamSlipsModel" (123 : Nat) "ExamSlipsModel" "one" "[J") ∈ lw_all := lw_g (lw_at lw_m7 162 rfl) rfl
theorem q1726 : (Jvm.Cond.fieldLink "ExamSlipsModel" (126 : Nat) "ExamSlipsModel" "two" "[J") ∈ lw_all := lw_g (lw_at lw_m7 163 rfl) rfl
theorem q1727 : (Jvm.Cond.fieldLink "ExamSlipsModel" (129 : Nat) "ExamSlipsModel" "step" "[J") ∈ lw_all := lw_g (lw_at lw_m7 164 rfl) rfl
theorem q1728 : (Jvm.Cond.fieldLink "ExamSlipsModel" (495 : Nat) "ExamSlipsModel" "latest" "I") ∈ lw_all := lw_g (lw_at lw_m7 165 rfl) rfl
theorem q1729 : (Jvm.Cond.fieldLink "ExamSlipsModel" (132 : Nat) "ExamSlipsModel" "examTable" "I") ∈ lw_all := lw_g (lw_at lw_m7 166 rfl) rfl
theorem q1730 : (Jvm.Cond.fieldLink "ExamSlipsModel" (523 : Nat) "ExamSlipsModel" "examAnswered" "I") ∈ lw_all := lw_g (lw_at lw_m7 167 rfl) rfl
theorem q1731 : (Jvm.Cond.fieldLink "ExamSlipsModel" (526 : Nat) "ExamSlipsModel" "examRight" "I") ∈ lw_all := lw_g (lw_at lw_m7 168 rfl) rfl
theorem q1732 : (Jvm.Cond.fieldLink "ExamSlipsModel" (505 : Nat) "ExamSlipsModel" "lay" "I") ∈ lw_all := lw_g (lw_at lw_m7 169 rfl) rfl
theorem q1733 : (Jvm.Cond.fieldLink "ExamSlipsModel" (514 : Nat) "ExamSlipsModel" "gave" "I") ∈ lw_all := lw_g (lw_at lw_m7 170 rfl) rfl
theorem q1734 : (Jvm.Cond.fieldLink "ExamSlipsModel" (517 : Nat) "ExamSlipsModel" "were" "I") ∈ lw_all := lw_g (lw_at lw_m7 171 rfl) rfl
theorem q1735 : (Jvm.Cond.lays "ExamSlipsModel" "ExamSlipsModel" "status" "I") ∈ lw_all := lw_g (lw_at lw_m7 172 rfl) rfl
theorem q1736 : (Jvm.Cond.soleField "ExamSlipsModel" "status") ∈ lw_all := lw_g (lw_at lw_m7 173 rfl) rfl
theorem q1737 : (Jvm.Cond.lays "ExamSlipsModel" "ExamSlipsModel" "version" "I") ∈ lw_all := lw_g (lw_at lw_m7 174 rfl) rfl
theorem q1738 : (Jvm.Cond.soleField "ExamSlipsModel" "version") ∈ lw_all := lw_g (lw_at lw_m7 175 rfl) rfl
theorem q1739 : (Jvm.Cond.laysFinal "ExamSlipsModel" "ExamSlipsModel" "refused" "[I") ∈ lw_all := lw_g (lw_at lw_m7 176 rfl) rfl
theorem q1740 : (Jvm.Cond.soleField "ExamSlipsModel" "refused") ∈ lw_all := lw_g (lw_at lw_m7 177 rfl) rfl
theorem q1741 : (Jvm.Cond.laysFinal "ExamSlipsModel" "ExamSlipsModel" "kept" "[I") ∈ lw_all := lw_g (lw_at lw_m7 178 rfl) rfl
theorem q1742 : (Jvm.Cond.soleField "ExamSlipsModel" "kept") ∈ lw_all := lw_g (lw_at lw_m7 179 rfl) rfl
theorem q1743 : (Jvm.Cond.laysFinal "ExamSlipsModel" "ExamSlipsModel" "images" "[I") ∈ lw_all := lw_g (lw_at lw_m7 180 rfl) rfl
theorem q1744 : (Jvm.Cond.soleField "ExamSlipsModel" "images") ∈ lw_all := lw_g (lw_at lw_m7 181 rfl) rfl
theorem q1745 : (Jvm.Cond.laysFinal "ExamSlipsModel" "ExamSlipsModel" "hasImage" "[Z") ∈ lw_all := lw_g (lw_at lw_m7 182 rfl) rfl
theorem q1746 : (Jvm.Cond.soleField "ExamSlipsModel" "hasImage") ∈ lw_all := lw_g (lw_at lw_m7 183 rfl) rfl
theorem q1747 : (Jvm.Cond.laysFinal "ExamSlipsModel" "ExamSlipsModel" "words" "[B") ∈ lw_all := lw_g (lw_at lw_m7 184 rfl) rfl
theorem q1748 : (Jvm.Cond.soleField "ExamSlipsModel" "words") ∈ lw_all := lw_g (lw_at lw_m7 185 rfl) rfl
theorem q1749 : (Jvm.Cond.laysFinal "ExamSlipsModel" "ExamSlipsModel" "tape" "[B") ∈ lw_all := lw_g (lw_at lw_m7 186 rfl) rfl
theorem q1750 : (Jvm.Cond.soleField "ExamSlipsModel" "tape") ∈ lw_all := lw_g (lw_at lw_m7 187 rfl) rfl
theorem q1751 : (Jvm.Cond.laysFinal "ExamSlipsModel" "ExamSlipsModel" "five" "[I") ∈ lw_all := lw_g (lw_at lw_m7 188 rfl) rfl
theorem q1752 : (Jvm.Cond.soleField "ExamSlipsModel" "five") ∈ lw_all := lw_g (lw_at lw_m7 189 rfl) rfl
theorem q1753 : (Jvm.Cond.lays "ExamSlipsModel" "ExamSlipsModel" "taped" "I") ∈ lw_all := lw_g (lw_at lw_m7 190 rfl) rfl
theorem q1754 : (Jvm.Cond.soleField "ExamSlipsModel" "taped") ∈ lw_all := lw_g (lw_at lw_m7 191 rfl) rfl
theorem q1755 : (Jvm.Cond.lays "ExamSlipsModel" "ExamSlipsModel" "fault" "I") ∈ lw_all := lw_g (lw_at lw_m7 192 rfl) rfl
theorem q1756 : (Jvm.Cond.soleField "ExamSlipsModel" "fault") ∈ lw_all := lw_g (lw_at lw_m7 193 rfl) rfl
theorem q1757 : (Jvm.Cond.laysFinal "ExamSlipsModel" "ExamSlipsModel" "code" "[I") ∈ lw_all := lw_g (lw_at lw_m7 194 rfl) rfl
theorem q1758 : (Jvm.Cond.soleField "ExamSlipsModel" "code") ∈ lw_all := lw_g (lw_at lw_m7 195 rfl) rfl
theorem q1759 : (Jvm.Cond.laysFinal "ExamSlipsModel" "ExamSlipsModel" "value" "[I") ∈ lw_all := lw_g (lw_at lw_m7 196 rfl) rfl
theorem q1760 : (Jvm.Cond.soleField "ExamSlipsModel" "value") ∈ lw_all := lw_g (lw_at lw_m7 197 rfl) rfl
theorem q1761 : (Jvm.Cond.laysFinal "ExamSlipsModel" "ExamSlipsModel" "placed" "[I") ∈ lw_all := lw_g (lw_at lw_m7 198 rfl) rfl
theorem q1762 : (Jvm.Cond.soleField "ExamSlipsModel" "placed") ∈ lw_all := lw_g (lw_at lw_m7 199 rfl) rfl
theorem q1763 : (Jvm.Cond.lays "ExamSlipsModel" "ExamSlipsModel" "tokens" "I") ∈ lw_all := lw_g (lw_at lw_m7 200 rfl) rfl
theorem q1764 : (Jvm.Cond.soleField "ExamSlipsModel" "tokens") ∈ lw_all := lw_g (lw_at lw_m7 201 rfl) rfl
theorem q1765 : (Jvm.Cond.lays "ExamSlipsModel" "ExamSlipsModel" "token" "I") ∈ lw_all := lw_g (lw_at lw_m7 202 rfl) rfl
theorem q1766 : (Jvm.Cond.soleField "ExamSlipsModel" "token") ∈ lw_all := lw_g (lw_at lw_m7 203 rfl) rfl
theorem q1767 : (Jvm.Cond.lays "ExamSlipsModel" "ExamSlipsModel" "leaves" "I") ∈ lw_all := lw_g (lw_at lw_m7 204 rfl) rfl
theorem q1768 : (Jvm.Cond.soleField "ExamSlipsModel" "leaves") ∈ lw_all := lw_g (lw_at lw_m7 205 rfl) rfl
theorem q1769 : (Jvm.Cond.lays "ExamSlipsModel" "ExamSlipsModel" "bad" "I") ∈ lw_all := lw_g (lw_at lw_m7 206 rfl) rfl
theorem q1770 : (Jvm.Cond.soleField "ExamSlipsModel" "bad") ∈ lw_all := lw_g (lw_at lw_m7 207 rfl) rfl
theorem q1771 : (Jvm.Cond.lays "ExamSlipsModel" "ExamSlipsModel" "go" "I") ∈ lw_all := lw_g (lw_at lw_m7 208 rfl) rfl
theorem q1772 : (Jvm.Cond.soleField "ExamSlipsModel" "go") ∈ lw_all := lw_g (lw_at lw_m7 209 rfl) rfl
theorem q1773 : (Jvm.Cond.lays "ExamSlipsModel" "ExamSlipsModel" "goEnd" "I") ∈ lw_all := lw_g (lw_at lw_m7 210 rfl) rfl
theorem q1774 : (Jvm.Cond.soleField "ExamSlipsModel" "goEnd") ∈ lw_all := lw_g (lw_at lw_m7 211 rfl) rfl
theorem q1775 : (Jvm.Cond.lays "ExamSlipsModel" "ExamSlipsModel" "broken" "Z") ∈ lw_all := lw_g (lw_at lw_m7 212 rfl) rfl
theorem q1776 : (Jvm.Cond.soleField "ExamSlipsModel" "broken") ∈ lw_all := lw_g (lw_at lw_m7 213 rfl) rfl
theorem q1777 : (Jvm.Cond.laysFinal "ExamSlipsModel" "ExamSlipsModel" "asked" "[I") ∈ lw_all := lw_g (lw_at lw_m7 214 rfl) rfl
theorem q1778 : (Jvm.Cond.soleField "ExamSlipsModel" "asked") ∈ lw_all := lw_g (lw_at lw_m7 215 rfl) rfl
theorem q1779 : (Jvm.Cond.laysFinal "ExamSlipsModel" "ExamSlipsModel" "chances" "[I") ∈ lw_all := lw_g (lw_at lw_m7 216 rfl) rfl
theorem q1780 : (Jvm.Cond.soleField "ExamSlipsModel" "chances") ∈ lw_all := lw_g (lw_at lw_m7 217 rfl) rfl
theorem q1781 : (Jvm.Cond.laysFinal "ExamSlipsModel" "ExamSlipsModel" "there" "[I") ∈ lw_all := lw_g (lw_at lw_m7 218 rfl) rfl
theorem q1782 : (Jvm.Cond.soleField "ExamSlipsModel" "there") ∈ lw_all := lw_g (lw_at lw_m7 219 rfl) rfl
theorem q1783 : (Jvm.Cond.laysFinal "ExamSlipsModel" "ExamSlipsModel" "likedThere" "[I") ∈ lw_all := lw_g (lw_at lw_m7 220 rfl) rfl
theorem q1784 : (Jvm.Cond.soleField "ExamSlipsModel" "likedThere") ∈ lw_all := lw_g (lw_at lw_m7 221 rfl) rfl
theorem q1785 : (Jvm.Cond.laysFinal "ExamSlipsModel" "ExamSlipsModel" "drawnOf" "[I") ∈ lw_all := lw_g (lw_at lw_m7 222 rfl) rfl
theorem q1786 : (Jvm.Cond.soleField "ExamSlipsModel" "drawnOf") ∈ lw_all := lw_g (lw_at lw_m7 223 rfl) rfl
theorem q1787 : (Jvm.Cond.laysFinal "ExamSlipsModel" "ExamSlipsModel" "rights" "[J") ∈ lw_all := lw_g (lw_at lw_m7 224 rfl) rfl
theorem q1788 : (Jvm.Cond.soleField "ExamSlipsModel" "rights") ∈ lw_all := lw_g (lw_at lw_m7 225 rfl) rfl
theorem q1789 : (Jvm.Cond.laysFinal "ExamSlipsModel" "ExamSlipsModel" "sums" "[J") ∈ lw_all := lw_g (lw_at lw_m7 226 rfl) rfl
theorem q1790 : (Jvm.Cond.soleField "ExamSlipsModel" "sums") ∈ lw_all := lw_g (lw_at lw_m7 227 rfl) rfl
theorem q1791 : (Jvm.Cond.lays "ExamSlipsModel" "ExamSlipsModel" "lie" "I") ∈ lw_all := lw_g (lw_at lw_m7 228 rfl) rfl
theorem q1792 : (Jvm.Cond.soleField "ExamSlipsModel" "lie") ∈ lw_all := lw_g (lw_at lw_m7 229 rfl) rfl
theorem q1793 : (Jvm.Cond.lays "ExamSlipsModel" "ExamSlipsModel" "answered" "I") ∈ lw_all := lw_g (lw_at lw_m7 230 rfl) rfl
theorem q1794 : (Jvm.Cond.soleField "ExamSlipsModel" "answered") ∈ lw_all := lw_g (lw_at lw_m7 231 rfl) rfl
theorem q1795 : (Jvm.Cond.lays "ExamSlipsModel" "ExamSlipsModel" "whole" "J") ∈ lw_all := lw_g (lw_at lw_m7 232 rfl) rfl
theorem q1796 : (Jvm.Cond.soleField "ExamSlipsModel" "whole") ∈ lw_all := lw_g (lw_at lw_m7 233 rfl) rfl
theorem q1797 : (Jvm.Cond.laysFinal "ExamSlipsModel" "ExamSlipsModel" "least" "[I") ∈ lw_all := lw_g (lw_at lw_m7 234 rfl) rfl
theorem q1798 : (Jvm.Cond.soleField "ExamSlipsModel" "least") ∈ lw_all := lw_g (lw_at lw_m7 235 rfl) rfl
theorem q1799 : (Jvm.Cond.laysFinal "ExamSlipsModel" "ExamSlipsModel" "passing" "[J") ∈ lw_all := lw_g (lw_at lw_m7 236 rfl) rfl
theorem q1800 : (Jvm.Cond.soleField "ExamSlipsModel" "passing") ∈ lw_all := lw_g (lw_at lw_m7 237 rfl) rfl
theorem q1801 : (Jvm.Cond.laysFinal "ExamSlipsModel" "ExamSlipsModel" "costs" "[I") ∈ lw_all := lw_g (lw_at lw_m7 238 rfl) rfl
theorem q1802 : (Jvm.Cond.soleField "ExamSlipsModel" "costs") ∈ lw_all := lw_g (lw_at lw_m7 239 rfl) rfl
theorem q1803 : (Jvm.Cond.lays "ExamSlipsModel" "ExamSlipsModel" "schemeWhole" "J") ∈ lw_all := lw_g (lw_at lw_m8 0 rfl) rfl
theorem q1804 : (Jvm.Cond.soleField "ExamSlipsModel" "schemeWhole") ∈ lw_all := lw_g (lw_at lw_m8 1 rfl) rfl
theorem q1805 : (Jvm.Cond.lays "ExamSlipsModel" "ExamSlipsModel" "schemedBy" "I") ∈ lw_all := lw_g (lw_at lw_m8 2 rfl) rfl
theorem q1806 : (Jvm.Cond.soleField "ExamSlipsModel" "schemedBy") ∈ lw_all := lw_g (lw_at lw_m8 3 rfl) rfl
theorem q1807 : (Jvm.Cond.lays "ExamSlipsModel" "ExamSlipsModel" "bestPassing" "J") ∈ lw_all := lw_g (lw_at lw_m8 4 rfl) rfl
theorem q1808 : (Jvm.Cond.soleField "ExamSlipsModel" "bestPassing") ∈ lw_all := lw_g (lw_at lw_m8 5 rfl) rfl
theorem q1809 : (Jvm.Cond.lays "ExamSlipsModel" "ExamSlipsModel" "bestHours" "I") ∈ lw_all := lw_g (lw_at lw_m8 6 rfl) rfl
theorem q1810 : (Jvm.Cond.soleField "ExamSlipsModel" "bestHours") ∈ lw_all := lw_g (lw_at lw_m8 7 rfl) rfl
theorem q1811 : (Jvm.Cond.laysFinal "ExamSlipsModel" "ExamSlipsModel" "levels" "[I") ∈ lw_all := lw_g (lw_at lw_m8 8 rfl) rfl
theorem q1812 : (Jvm.Cond.soleField "ExamSlipsModel" "levels") ∈ lw_all := lw_g (lw_at lw_m8 9 rfl) rfl
theorem q1813 : (Jvm.Cond.laysFinal "ExamSlipsModel" "ExamSlipsModel" "behind" "[I") ∈ lw_all := lw_g (lw_at lw_m8 10 rfl) rfl
theorem q1814 : (Jvm.Cond.soleField "ExamSlipsModel" "behind") ∈ lw_all := lw_g (lw_at lw_m8 11 rfl) rfl
theorem q1815 : (Jvm.Cond.laysFinal "ExamSlipsModel" "ExamSlipsModel" "hoursOf" "[I") ∈ lw_all := lw_g (lw_at lw_m8 12 rfl) rfl
theorem q1816 : (Jvm.Cond.soleField "ExamSlipsModel" "hoursOf") ∈ lw_all := lw_g (lw_at lw_m8 13 rfl) rfl
theorem q1817 : (Jvm.Cond.laysFinal "ExamSlipsModel" "ExamSlipsModel" "now" "[I") ∈ lw_all := lw_g (lw_at lw_m8 14 rfl) rfl
theorem q1818 : (Jvm.Cond.soleField "ExamSlipsModel" "now") ∈ lw_all := lw_g (lw_at lw_m8 15 rfl) rfl
theorem q1819 : (Jvm.Cond.laysFinal "ExamSlipsModel" "ExamSlipsModel" "since" "[I") ∈ lw_all := lw_g (lw_at lw_m8 16 rfl) rfl
theorem q1820 : (Jvm.Cond.soleField "ExamSlipsModel" "since") ∈ lw_all := lw_g (lw_at lw_m8 17 rfl) rfl
theorem q1821 : (Jvm.Cond.lays "ExamSlipsModel" "ExamSlipsModel" "dropped" "I") ∈ lw_all := lw_g (lw_at lw_m8 18 rfl) rfl
theorem q1822 : (Jvm.Cond.soleField "ExamSlipsModel" "dropped") ∈ lw_all := lw_g (lw_at lw_m8 19 rfl) rfl
theorem q1823 : (Jvm.Cond.lays "ExamSlipsModel" "ExamSlipsModel" "firstDropped" "I") ∈ lw_all := lw_g (lw_at lw_m8 20 rfl) rfl
theorem q1824 : (Jvm.Cond.soleField "ExamSlipsModel" "firstDropped") ∈ lw_all := lw_g (lw_at lw_m8 21 rfl) rfl
theorem q1825 : (Jvm.Cond.lays "ExamSlipsModel" "ExamSlipsModel" "fell" "I") ∈ lw_all := lw_g (lw_at lw_m8 22 rfl) rfl
theorem q1826 : (Jvm.Cond.soleField "ExamSlipsModel" "fell") ∈ lw_all := lw_g (lw_at lw_m8 23 rfl) rfl
theorem q1827 : (Jvm.Cond.laysFinal "ExamSlipsModel" "ExamSlipsModel" "dayOf" "[I") ∈ lw_all := lw_g (lw_at lw_m8 24 rfl) rfl
theorem q1828 : (Jvm.Cond.soleField "ExamSlipsModel" "dayOf") ∈ lw_all := lw_g (lw_at lw_m8 25 rfl) rfl
theorem q1829 : (Jvm.Cond.laysFinal "ExamSlipsModel" "ExamSlipsModel" "room" "[I") ∈ lw_all := lw_g (lw_at lw_m8 26 rfl) rfl
theorem q1830 : (Jvm.Cond.soleField "ExamSlipsModel" "room") ∈ lw_all := lw_g (lw_at lw_m8 27 rfl) rfl
theorem q1831 : (Jvm.Cond.lays "ExamSlipsModel" "ExamSlipsModel" "at" "I") ∈ lw_all := lw_g (lw_at lw_m8 28 rfl) rfl
theorem q1832 : (Jvm.Cond.soleField "ExamSlipsModel" "at") ∈ lw_all := lw_g (lw_at lw_m8 29 rfl) rfl
theorem q1833 : (Jvm.Cond.lays "ExamSlipsModel" "ExamSlipsModel" "leftOut" "I") ∈ lw_all := lw_g (lw_at lw_m8 30 rfl) rfl
theorem q1834 : (Jvm.Cond.soleField "ExamSlipsModel" "leftOut") ∈ lw_all := lw_g (lw_at lw_m8 31 rfl) rfl
theorem q1835 : (Jvm.Cond.lays "ExamSlipsModel" "ExamSlipsModel" "firstDay" "I") ∈ lw_all := lw_g (lw_at lw_m8 32 rfl) rfl
theorem q1836 : (Jvm.Cond.soleField "ExamSlipsModel" "firstDay") ∈ lw_all := lw_g (lw_at lw_m8 33 rfl) rfl
theorem q1837 : (Jvm.Cond.lays "ExamSlipsModel" "ExamSlipsModel" "full" "Z") ∈ lw_all := lw_g (lw_at lw_m8 34 rfl) rfl
theorem q1838 : (Jvm.Cond.soleField "ExamSlipsModel" "full") ∈ lw_all := lw_g (lw_at lw_m8 35 rfl) rfl
theorem q1839 : (Jvm.Cond.laysFinal "ExamSlipsModel" "ExamSlipsModel" "hoursLeft" "[I") ∈ lw_all := lw_g (lw_at lw_m8 36 rfl) rfl
theorem q1840 : (Jvm.Cond.soleField "ExamSlipsModel" "hoursLeft") ∈ lw_all := lw_g (lw_at lw_m8 37 rfl) rfl
theorem q1841 : (Jvm.Cond.laysFinal "ExamSlipsModel" "ExamSlipsModel" "learner" "[I") ∈ lw_all := lw_g (lw_at lw_m8 38 rfl) rfl
theorem q1842 : (Jvm.Cond.soleField "ExamSlipsModel" "learner") ∈ lw_all := lw_g (lw_at lw_m8 39 rfl) rfl
theorem q1843 : (Jvm.Cond.laysFinal "ExamSlipsModel" "ExamSlipsModel" "bestLearner" "[I") ∈ lw_all := lw_g (lw_at lw_m8 40 rfl) rfl
theorem q1844 : (Jvm.Cond.soleField "ExamSlipsModel" "bestLearner") ∈ lw_all := lw_g (lw_at lw_m8 41 rfl) rfl
theorem q1845 : (Jvm.Cond.laysFinal "ExamSlipsModel" "ExamSlipsModel" "wellCost" "[I") ∈ lw_all := lw_g (lw_at lw_m8 42 rfl) rfl
theorem q1846 : (Jvm.Cond.soleField "ExamSlipsModel" "wellCost") ∈ lw_all := lw_g (lw_at lw_m8 43 rfl) rfl
theorem q1847 : (Jvm.Cond.lays "ExamSlipsModel" "ExamSlipsModel" "shareMany" "I") ∈ lw_all := lw_g (lw_at lw_m8 44 rfl) rfl
theorem q1848 : (Jvm.Cond.soleField "ExamSlipsModel" "shareMany") ∈ lw_all := lw_g (lw_at lw_m8 45 rfl) rfl
theorem q1849 : (Jvm.Cond.lays "ExamSlipsModel" "ExamSlipsModel" "shareBest" "I") ∈ lw_all := lw_g (lw_at lw_m8 46 rfl) rfl
theorem q1850 : (Jvm.Cond.soleField "ExamSlipsModel" "shareBest") ∈ lw_all := lw_g (lw_at lw_m8 47 rfl) rfl
theorem q1851 : (Jvm.Cond.lays "ExamSlipsModel" "ExamSlipsModel" "sharedBy" "I") ∈ lw_all := lw_g (lw_at lw_m8 48 rfl) rfl
theorem q1852 : (Jvm.Cond.soleField "ExamSlipsModel" "sharedBy") ∈ lw_all := lw_g (lw_at lw_m8 49 rfl) rfl
theorem q1853 : (Jvm.Cond.lays "ExamSlipsModel" "ExamSlipsModel" "lost" "I") ∈ lw_all := lw_g (lw_at lw_m8 50 rfl) rfl
theorem q1854 : (Jvm.Cond.soleField "ExamSlipsModel" "lost") ∈ lw_all := lw_g (lw_at lw_m8 51 rfl) rfl
theorem q1855 : (Jvm.Cond.laysFinal "ExamSlipsModel" "ExamSlipsModel" "one" "[J") ∈ lw_all := lw_g (lw_at lw_m8 52 rfl) rfl
theorem q1856 : (Jvm.Cond.soleField "ExamSlipsModel" "one") ∈ lw_all := lw_g (lw_at lw_m8 53 rfl) rfl
theorem q1857 : (Jvm.Cond.laysFinal "ExamSlipsModel" "ExamSlipsModel" "two" "[J") ∈ lw_all := lw_g (lw_at lw_m8 54 rfl) rfl
theorem q1858 : (Jvm.Cond.soleField "ExamSlipsModel" "two") ∈ lw_all := lw_g (lw_at lw_m8 55 rfl) rfl
theorem q1859 : (Jvm.Cond.laysFinal "ExamSlipsModel" "ExamSlipsModel" "step" "[J") ∈ lw_all := lw_g (lw_at lw_m8 56 rfl) rfl
theorem q1860 : (Jvm.Cond.soleField "ExamSlipsModel" "step") ∈ lw_all := lw_g (lw_at lw_m8 57 rfl) rfl
theorem q1861 : (Jvm.Cond.lays "ExamSlipsModel" "ExamSlipsModel" "latest" "I") ∈ lw_all := lw_g (lw_at lw_m8 58 rfl) rfl
theorem q1862 : (Jvm.Cond.soleField "ExamSlipsModel" "latest") ∈ lw_all := lw_g (lw_at lw_m8 59 rfl) rfl
theorem q1863 : (Jvm.Cond.lays "ExamSlipsModel" "ExamSlipsModel" "examTable" "I") ∈ lw_all := lw_g (lw_at lw_m8 60 rfl) rfl
theorem q1864 : (Jvm.Cond.soleField "ExamSlipsModel" "examTable") ∈ lw_all := lw_g (lw_at lw_m8 61 rfl) rfl
theorem q1865 : (Jvm.Cond.lays "ExamSlipsModel" "ExamSlipsModel" "examAnswered" "I") ∈ lw_all := lw_g (lw_at lw_m8 62 rfl) rfl
theorem q1866 : (Jvm.Cond.soleField "ExamSlipsModel" "examAnswered") ∈ lw_all := lw_g (lw_at lw_m8 63 rfl) rfl
theorem q1867 : (Jvm.Cond.lays "ExamSlipsModel" "ExamSlipsModel" "examRight" "I") ∈ lw_all := lw_g (lw_at lw_m8 64 rfl) rfl
theorem q1868 : (Jvm.Cond.soleField "ExamSlipsModel" "examRight") ∈ lw_all := lw_g (lw_at lw_m8 65 rfl) rfl
theorem q1869 : (Jvm.Cond.lays "ExamSlipsModel" "ExamSlipsModel" "lay" "I") ∈ lw_all := lw_g (lw_at lw_m8 66 rfl) rfl
theorem q1870 : (Jvm.Cond.soleField "ExamSlipsModel" "lay") ∈ lw_all := lw_g (lw_at lw_m8 67 rfl) rfl
theorem q1871 : (Jvm.Cond.lays "ExamSlipsModel" "ExamSlipsModel" "gave" "I") ∈ lw_all := lw_g (lw_at lw_m8 68 rfl) rfl
theorem q1872 : (Jvm.Cond.soleField "ExamSlipsModel" "gave") ∈ lw_all := lw_g (lw_at lw_m8 69 rfl) rfl
theorem q1873 : (Jvm.Cond.lays "ExamSlipsModel" "ExamSlipsModel" "were" "I") ∈ lw_all := lw_g (lw_at lw_m8 70 rfl) rfl
theorem q1874 : (Jvm.Cond.soleField "ExamSlipsModel" "were") ∈ lw_all := lw_g (lw_at lw_m8 71 rfl) rfl
theorem q1875 : (Jvm.Cond.superclass "ExamSlipsModel" "java/lang/Object") ∈ lw_all := lw_g (lw_at lw_m8 72 rfl) rfl
theorem q1877 : (Jvm.Cond.instanceMethod ({ cls := "ExamSlipsModel", name := "image", desc := "(I)I" } : Jvm.MethodName)) ∈ lw_all := lw_g (lw_at lw_m8 74 rfl) rfl
theorem q1878 : (Jvm.Cond.selects "ExamSlipsModel" ({ cls := "ExamSlipsModel", name := "image", desc := "(I)I" } : Jvm.MethodName) ({ cls := "ExamSlipsModel", name := "image", desc := "(I)I" } : Jvm.MethodName)) ∈ lw_all := lw_g (lw_at lw_m8 75 rfl) rfl
theorem q1879 : (Jvm.Cond.code ({ cls := "ExamSlipsModel", name := "image", desc := "(I)I" } : Jvm.MethodName) prog_29_method_5_code (3 : Nat) (Option.some Jvm.ClassFile.FieldType.int)) ∈ lw_all := lw_g (lw_at lw_m8 76 rfl) rfl
theorem q1880 : (Jvm.Cond.methodLink "ExamSlipsModel" (135 : Nat) ({ cls := "ExamSlipsModel", name := "lies", desc := "(III)Z" } : Jvm.MethodName)) ∈ lw_all := lw_g (lw_at lw_m8 77 rfl) rfl
theorem q1881 : (Jvm.Cond.static ({ cls := "ExamSlipsModel", name := "lies", desc := "(III)Z" } : Jvm.MethodName)) ∈ lw_all := lw_g (lw_at lw_m8 78 rfl) rfl
theorem q1882 : (Jvm.Cond.code ({ cls := "ExamSlipsModel", name := "lies", desc := "(III)Z" } : Jvm.MethodName) prog_29_method_1_code (3 : Nat) (Option.some Jvm.ClassFile.FieldType.boolean)) ∈ lw_all := lw_g (lw_at lw_m8 79 rfl) rfl
theorem q1883 : (Jvm.Cond.methodLink "ExamSlipsModel" (139 : Nat) ({ cls := "ExamSlipsModel", name := "refuses", desc := "(I)I" } : Jvm.MethodName)) ∈ lw_all := lw_g (lw_at lw_m8 80 rfl) rfl
theorem q1884 : (Jvm.Cond.privateMethod ({ cls := "ExamSlipsModel", name := "refuses", desc := "(I)I" } : Jvm.MethodName)) ∈ lw_tbl := lw_at lw_m8 81 rfl
theorem q1885 : (Jvm.Cond.instanceMethod ({ cls := "ExamSlipsModel", name := "refuses", desc := "(I)I" } : Jvm.MethodName)) ∈ lw_all := lw_g (lw_at lw_m8 82 rfl) rfl
theorem q1886 : (Jvm.Cond.code ({ cls := "ExamSlipsModel", name := "refuses", desc := "(I)I" } : Jvm.MethodName) prog_29_method_2_code (2 : Nat) (Option.some Jvm.ClassFile.FieldType.int)) ∈ lw_all := lw_g (lw_at lw_m8 83 rfl) rfl
theorem q1887 : (Jvm.Cond.methodLink "ExamSlipsModel" (143 : Nat) ({ cls := "ExamSlipsModel", name := "good", desc := "(I)I" } : Jvm.MethodName)) ∈ lw_all := lw_g (lw_at lw_m8 84 rfl) rfl
theorem q1888 : (Jvm.Cond.privateMethod ({ cls := "ExamSlipsModel", name := "good", desc := "(I)I" } : Jvm.MethodName)) ∈ lw_tbl := lw_at lw_m8 85 rfl
theorem q1889 : (Jvm.Cond.instanceMethod ({ cls := "ExamSlipsModel", name := "good", desc := "(I)I" } : Jvm.MethodName)) ∈ lw_all := lw_g (lw_at lw_m8 86 rfl) rfl
theorem q1890 : (Jvm.Cond.code ({ cls := "ExamSlipsModel", name := "good", desc := "(I)I" } : Jvm.MethodName) prog_29_method_3_code (2 : Nat) (Option.some Jvm.ClassFile.FieldType.int)) ∈ lw_all := lw_g (lw_at lw_m8 87 rfl) rfl
theorem q1892 : (Jvm.Cond.instanceMethod ({ cls := "ExamSlipsModel", name := "back", desc := "(I)I" } : Jvm.MethodName)) ∈ lw_all := lw_g (lw_at lw_m8 89 rfl) rfl
theorem q1893 : (Jvm.Cond.selects "ExamSlipsModel" ({ cls := "ExamSlipsModel", name := "back", desc := "(I)I" } : Jvm.MethodName) ({ cls := "ExamSlipsModel", name := "back", desc := "(I)I" } : Jvm.MethodName)) ∈ lw_all := lw_g (lw_at lw_m8 90 rfl) rfl
theorem q1894 : (Jvm.Cond.code ({ cls := "ExamSlipsModel", name := "back", desc := "(I)I" } : Jvm.MethodName) prog_29_method_6_code (3 : Nat) (Option.some Jvm.ClassFile.FieldType.int)) ∈ lw_all := lw_g (lw_at lw_m8 91 rfl) rfl
theorem q1896 : (Jvm.Cond.instanceMethod ({ cls := "ExamSlipsModel", name := "question", desc := "(II)I" } : Jvm.MethodName)) ∈ lw_all := lw_g (lw_at lw_m8 93 rfl) rfl
theorem q1897 : (Jvm.Cond.selects "ExamSlipsModel" ({ cls := "ExamSlipsModel", name := "question", desc := "(II)I" } : Jvm.MethodName) ({ cls := "ExamSlipsModel", name := "question", desc := "(II)I" } : Jvm.MethodName)) ∈ lw_all := lw_g (lw_at lw_m8 94 rfl) rfl
theorem q1898 : (Jvm.Cond.code ({ cls := "ExamSlipsModel", name := "question", desc := "(II)I" } : Jvm.MethodName) prog_29_method_14_code (5 : Nat) (Option.some Jvm.ClassFile.FieldType.int)) ∈ lw_all := lw_g (lw_at lw_m8 95 rfl) rfl
theorem q1899 : (Jvm.Cond.methodLink "ExamSlipsModel" (146 : Nat) ({ cls := "ExamSlipsModel", name := "questions", desc := "()I" } : Jvm.MethodName)) ∈ lw_all := lw_g (lw_at lw_m8 96 rfl) rfl
theorem q1900 : (Jvm.Cond.privateMethod ({ cls := "ExamSlipsModel", name := "questions", desc := "()I" } : Jvm.MethodName)) ∈ lw_tbl := lw_at lw_m8 97 rfl
theorem q1901 : (Jvm.Cond.instanceMethod ({ cls := "ExamSlipsModel", name := "questions", desc := "()I" } : Jvm.MethodName)) ∈ lw_all := lw_g (lw_at lw_m8 98 rfl) rfl
theorem q1902 : (Jvm.Cond.code ({ cls := "ExamSlipsModel", name := "questions", desc := "()I" } : Jvm.MethodName) prog_29_method_8_code (1 : Nat) (Option.some Jvm.ClassFile.FieldType.int)) ∈ lw_all := lw_g (lw_at lw_m8 99 rfl) rfl
theorem q1904 : (Jvm.Cond.instanceMethod ({ cls := "ExamSlipsModel", name := "know", desc := "(III)I" } : Jvm.MethodName)) ∈ lw_all := lw_g (lw_at lw_m8 101 rfl) rfl
theorem q1905 : (Jvm.Cond.selects "ExamSlipsModel" ({ cls := "ExamSlipsModel", name := "know", desc := "(III)I" } : Jvm.MethodName) ({ cls := "ExamSlipsModel", name := "know", desc := "(III)I" } : Jvm.MethodName)) ∈ lw_all := lw_g (lw_at lw_m8 102 rfl) rfl
theorem q1906 : (Jvm.Cond.code ({ cls := "ExamSlipsModel", name := "know", desc := "(III)I" } : Jvm.MethodName) prog_29_method_15_code (4 : Nat) (Option.some Jvm.ClassFile.FieldType.int)) ∈ lw_all := lw_g (lw_at lw_m8 103 rfl) rfl
theorem q1907 : (Jvm.Cond.methodLink "ExamSlipsModel" (158 : Nat) ({ cls := "ExamSlipsModel", name := "isQuestion", desc := "(I)Z" } : Jvm.MethodName)) ∈ lw_all := lw_g (lw_at lw_m8 104 rfl) rfl
theorem q1908 : (Jvm.Cond.privateMethod ({ cls := "ExamSlipsModel", name := "isQuestion", desc := "(I)Z" } : Jvm.MethodName)) ∈ lw_tbl := lw_at lw_m8 105 rfl
theorem q1909 : (Jvm.Cond.instanceMethod ({ cls := "ExamSlipsModel", name := "isQuestion", desc := "(I)Z" } : Jvm.MethodName)) ∈ lw_all := lw_g (lw_at lw_m8 106 rfl) rfl
theorem q1910 : (Jvm.Cond.code ({ cls := "ExamSlipsModel", name := "isQuestion", desc := "(I)Z" } : Jvm.MethodName) prog_29_method_9_code (2 : Nat) (Option.some Jvm.ClassFile.FieldType.boolean)) ∈ lw_all := lw_g (lw_at lw_m8 107 rfl) rfl
theorem q1911 : (Jvm.Cond.methodLink "ExamSlipsModel" (161 : Nat) ({ cls := "ExamSlipsModel", name := "replaces", desc := "(II)I" } : Jvm.MethodName)) ∈ lw_all := lw_g (lw_at lw_m8 108 rfl) rfl
theorem q1912 : (Jvm.Cond.privateMethod ({ cls := "ExamSlipsModel", name := "replaces", desc := "(II)I" } : Jvm.MethodName)) ∈ lw_tbl := lw_at lw_m8 109 rfl
theorem q1913 : (Jvm.Cond.instanceMethod ({ cls := "ExamSlipsModel", name := "replaces", desc := "(II)I" } : Jvm.MethodName)) ∈ lw_all := lw_g (lw_at lw_m8 110 rfl) rfl
theorem q1914 : (Jvm.Cond.code ({ cls := "ExamSlipsModel", name := "replaces", desc := "(II)I" } : Jvm.MethodName) prog_29_method_13_code (4 : Nat) (Option.some Jvm.ClassFile.FieldType.int)) ∈ lw_all := lw_g (lw_at lw_m8 111 rfl) rfl
theorem q1916 : (Jvm.Cond.instanceMethod ({ cls := "ExamSlipsModel", name := "of", desc := "(II)I" } : Jvm.MethodName)) ∈ lw_all := lw_g (lw_at lw_m8 113 rfl) rfl
theorem q1917 : (Jvm.Cond.selects "ExamSlipsModel" ({ cls := "ExamSlipsModel", name := "of", desc := "(II)I" } : Jvm.MethodName) ({ cls := "ExamSlipsModel", name := "of", desc := "(II)I" } : Jvm.MethodName)) ∈ lw_all := lw_g (lw_at lw_m8 114 rfl) rfl
theorem q1918 : (Jvm.Cond.code ({ cls := "ExamSlipsModel", name := "of", desc := "(II)I" } : Jvm.MethodName) prog_29_method_16_code (3 : Nat) (Option.some Jvm.ClassFile.FieldType.int)) ∈ lw_all := lw_g (lw_at lw_m8 115 rfl) rfl
theorem q1919 : (Jvm.Cond.methodLink "ExamSlipsModel" (150 : Nat) ({ cls := "ExamSlipsModel", name := "factOf", desc := "(II)I" } : Jvm.MethodName)) ∈ lw_all := lw_g (lw_at lw_m8 116 rfl) rfl
theorem q1920 : (Jvm.Cond.privateMethod ({ cls := "ExamSlipsModel", name := "factOf", desc := "(II)I" } : Jvm.MethodName)) ∈ lw_tbl := lw_at lw_m8 117 rfl
theorem q1921 : (Jvm.Cond.instanceMethod ({ cls := "ExamSlipsModel", name := "factOf", desc := "(II)I" } : Jvm.MethodName)) ∈ lw_all := lw_g (lw_at lw_m8 118 rfl) rfl
theorem q1922 : (Jvm.Cond.code ({ cls := "ExamSlipsModel", name := "factOf", desc := "(II)I" } : Jvm.MethodName) prog_29_method_10_code (3 : Nat) (Option.some Jvm.ClassFile.FieldType.int)) ∈ lw_all := lw_g (lw_at lw_m8 119 rfl) rfl
theorem q1924 : (Jvm.Cond.instanceMethod ({ cls := "ExamSlipsModel", name := "terms", desc := "(II)I" } : Jvm.MethodName)) ∈ lw_all := lw_g (lw_at lw_m8 121 rfl) rfl
theorem q1925 : (Jvm.Cond.selects "ExamSlipsModel" ({ cls := "ExamSlipsModel", name := "terms", desc := "(II)I" } : Jvm.MethodName) ({ cls := "ExamSlipsModel", name := "terms", desc := "(II)I" } : Jvm.MethodName)) ∈ lw_all := lw_g (lw_at lw_m8 122 rfl) rfl
theorem q1926 : (Jvm.Cond.code ({ cls := "ExamSlipsModel", name := "terms", desc := "(II)I" } : Jvm.MethodName) prog_29_method_19_code (3 : Nat) (Option.some Jvm.ClassFile.FieldType.int)) ∈ lw_all := lw_g (lw_at lw_m8 123 rfl) rfl
theorem q1927 : (Jvm.Cond.methodLink "ExamSlipsModel" (164 : Nat) ({ cls := "ExamSlipsModel", name := "leastOf", desc := "(I)I" } : Jvm.MethodName)) ∈ lw_all := lw_g (lw_at lw_m8 124 rfl) rfl
theorem q1928 : (Jvm.Cond.static ({ cls := "ExamSlipsModel", name := "leastOf", desc := "(I)I" } : Jvm.MethodName)) ∈ lw_all := lw_g (lw_at lw_m8 125 rfl) rfl
theorem q1929 : (Jvm.Cond.code ({ cls := "ExamSlipsModel", name := "leastOf", desc := "(I)I" } : Jvm.MethodName) prog_29_method_17_code (1 : Nat) (Option.some Jvm.ClassFile.FieldType.int)) ∈ lw_all := lw_g (lw_at lw_m8 126 rfl) rfl
theorem q1930 : (Jvm.Cond.methodLink "ExamSlipsModel" (167 : Nat) ({ cls := "ExamSlipsModel", name := "mostOf", desc := "(I)I" } : Jvm.MethodName)) ∈ lw_all := lw_g (lw_at lw_m8 127 rfl) rfl
theorem q1931 : (Jvm.Cond.static ({ cls := "ExamSlipsModel", name := "mostOf", desc := "(I)I" } : Jvm.MethodName)) ∈ lw_all := lw_g (lw_at lw_m8 128 rfl) rfl
theorem q1932 : (Jvm.Cond.code ({ cls := "ExamSlipsModel", name := "mostOf", desc := "(I)I" } : Jvm.MethodName) prog_29_method_18_code (1 : Nat) (Option.some Jvm.ClassFile.FieldType.int)) ∈ lw_all := lw_g (lw_at lw_m8 129 rfl) rfl
theorem q1934 : (Jvm.Cond.instanceMethod ({ cls := "ExamSlipsModel", name := "feed", desc := "(IIIII)I" } : Jvm.MethodName)) ∈ lw_all := lw_g (lw_at lw_m8 131 rfl) rfl
theorem q1935 : (Jvm.Cond.selects "ExamSlipsModel" ({ cls := "ExamSlipsModel", name := "feed", desc := "(IIIII)I" } : Jvm.MethodName) ({ cls := "ExamSlipsModel", name := "feed", desc := "(IIIII)I" } : Jvm.MethodName)) ∈ lw_all := lw_g (lw_at lw_m8 132 rfl) rfl
theorem q1936 : (Jvm.Cond.code ({ cls := "ExamSlipsModel", name := "feed", desc := "(IIIII)I" } : Jvm.MethodName) prog_29_method_20_code (7 : Nat) (Option.some Jvm.ClassFile.FieldType.int)) ∈ lw_all := lw_g (lw_at lw_m8 133 rfl) rfl
theorem q1938 : (Jvm.Cond.instanceMethod ({ cls := "ExamSlipsModel", name := "end", desc := "(I)I" } : Jvm.MethodName)) ∈ lw_all := lw_g (lw_at lw_m8 135 rfl) rfl
theorem q1939 : (Jvm.Cond.selects "ExamSlipsModel" ({ cls := "ExamSlipsModel", name := "end", desc := "(I)I" } : Jvm.MethodName) ({ cls := "ExamSlipsModel", name := "end", desc := "(I)I" } : Jvm.MethodName)) ∈ lw_all := lw_g (lw_at lw_m8 136 rfl) rfl
theorem q1940 : (Jvm.Cond.code ({ cls := "ExamSlipsModel", name := "end", desc := "(I)I" } : Jvm.MethodName) prog_29_method_21_code (2 : Nat) (Option.some Jvm.ClassFile.FieldType.int)) ∈ lw_all := lw_g (lw_at lw_m8 137 rfl) rfl
theorem q1942 : (Jvm.Cond.instanceMethod ({ cls := "ExamSlipsModel", name := "paper", desc := "()I" } : Jvm.MethodName)) ∈ lw_all := lw_g (lw_at lw_m8 139 rfl) rfl
theorem q1943 : (Jvm.Cond.selects "ExamSlipsModel" ({ cls := "ExamSlipsModel", name := "paper", desc := "()I" } : Jvm.MethodName) ({ cls := "ExamSlipsModel", name := "paper", desc := "()I" } : Jvm.MethodName)) ∈ lw_all := lw_g (lw_at lw_m8 140 rfl) rfl
theorem q1944 : (Jvm.Cond.code ({ cls := "ExamSlipsModel", name := "paper", desc := "()I" } : Jvm.MethodName) prog_29_method_40_code (3 : Nat) (Option.some Jvm.ClassFile.FieldType.int)) ∈ lw_all := lw_g (lw_at lw_m8 141 rfl) rfl
theorem q1945 : (Jvm.Cond.methodLink "ExamSlipsModel" (240 : Nat) ({ cls := "ExamSlipsModel", name := "reads", desc := "()Z" } : Jvm.MethodName)) ∈ lw_all := lw_g (lw_at lw_m8 142 rfl) rfl
theorem q1946 : (Jvm.Cond.privateMethod ({ cls := "ExamSlipsModel", name := "reads", desc := "()Z" } : Jvm.MethodName)) ∈ lw_tbl := lw_at lw_m8 143 rfl
theorem q1947 : (Jvm.Cond.instanceMethod ({ cls := "ExamSlipsModel", name := "reads", desc := "()Z" } : Jvm.MethodName)) ∈ lw_all := lw_g (lw_at lw_m8 144 rfl) rfl
theorem q1948 : (Jvm.Cond.code ({ cls := "ExamSlipsModel", name := "reads", desc := "()Z" } : Jvm.MethodName) prog_29_method_39_code (2 : Nat) (Option.some Jvm.ClassFile.FieldType.boolean)) ∈ lw_all := lw_g (lw_at lw_m8 145 rfl) rfl
theorem q1949 : (Jvm.Cond.methodLink "ExamSlipsModel" (234 : Nat) ({ cls := "ExamSlipsModel", name := "splits", desc := "(I)V" } : Jvm.MethodName)) ∈ lw_all := lw_g (lw_at lw_m8 146 rfl) rfl
theorem q1950 : (Jvm.Cond.privateMethod ({ cls := "ExamSlipsModel", name := "splits", desc := "(I)V" } : Jvm.MethodName)) ∈ lw_tbl := lw_at lw_m8 147 rfl
theorem q1951 : (Jvm.Cond.instanceMethod ({ cls := "ExamSlipsModel", name := "splits", desc := "(I)V" } : Jvm.MethodName)) ∈ lw_all := lw_g (lw_at lw_m8 148 rfl) rfl
theorem q1952 : (Jvm.Cond.code ({ cls := "ExamSlipsModel", name := "splits", desc := "(I)V" } : Jvm.MethodName) prog_29_method_25_code (6 : Nat) (Option.none : Option Jvm.ClassFile.FieldType)) ∈ lw_all := lw_g (lw_at lw_m8 149 rfl) rfl
theorem q1953 : (Jvm.Cond.methodLink "ExamSlipsModel" (176 : Nat) ({ cls := "ExamSlipsModel", name := "isSmall", desc := "(I)Z" } : Jvm.MethodName)) ∈ lw_all := lw_g (lw_at lw_m8 150 rfl) rfl
theorem q1954 : (Jvm.Cond.static ({ cls := "ExamSlipsModel", name := "isSmall", desc := "(I)Z" } : Jvm.MethodName)) ∈ lw_all := lw_g (lw_at lw_m8 151 rfl) rfl
theorem q1955 : (Jvm.Cond.code ({ cls := "ExamSlipsModel", name := "isSmall", desc := "(I)Z" } : Jvm.MethodName) prog_29_method_22_code (1 : Nat) (Option.some Jvm.ClassFile.FieldType.boolean)) ∈ lw_all := lw_g (lw_at lw_m8 152 rfl) rfl
theorem q1956 : (Jvm.Cond.methodLink "ExamSlipsModel" (179 : Nat) ({ cls := "ExamSlipsModel", name := "isDigit", desc := "(I)Z" } : Jvm.MethodName)) ∈ lw_all := lw_g (lw_at lw_m8 153 rfl) rfl
theorem q1957 : (Jvm.Cond.static ({ cls := "ExamSlipsModel", name := "isDigit", desc := "(I)Z" } : Jvm.MethodName)) ∈ lw_all := lw_g (lw_at lw_m8 154 rfl) rfl
theorem q1958 : (Jvm.Cond.code ({ cls := "ExamSlipsModel", name := "isDigit", desc := "(I)Z" } : Jvm.MethodName) prog_29_method_23_code (1 : Nat) (Option.some Jvm.ClassFile.FieldType.boolean)) ∈ lw_all := lw_g (lw_at lw_m8 155 rfl) rfl
theorem q1959 : (Jvm.Cond.methodLink "ExamSlipsModel" (182 : Nat) ({ cls := "ExamSlipsModel", name := "wordOf", desc := "(II)I" } : Jvm.MethodName)) ∈ lw_all := lw_g (lw_at lw_m8 156 rfl) rfl
theorem q1960 : (Jvm.Cond.privateMethod ({ cls := "ExamSlipsModel", name := "wordOf", desc := "(II)I" } : Jvm.MethodName)) ∈ lw_tbl := lw_at lw_m8 157 rfl
theorem q1961 : (Jvm.Cond.instanceMethod ({ cls := "ExamSlipsModel", name := "wordOf", desc := "(II)I" } : Jvm.MethodName)) ∈ lw_all := lw_g (lw_at lw_m8 158 rfl) rfl
theorem q1962 : (Jvm.Cond.code ({ cls := "ExamSlipsModel", name := "wordOf", desc := "(II)I" } : Jvm.MethodName) prog_29_method_24_code (8 : Nat) (Option.some Jvm.ClassFile.FieldType.int)) ∈ lw_all := lw_g (lw_at lw_m8 159 rfl) rfl
theorem q1963 : (Jvm.Cond.constant "ExamSlipsModel" (185 : Nat) (1000000 : Int32)) ∈ lw_all := lw_g (lw_at lw_m8 160 rfl) rfl
theorem q1964 : (Jvm.Cond.methodLink "ExamSlipsModel" (237 : Nat) ({ cls := "ExamSlipsModel", name := "readClause", desc := "()V" } : Jvm.MethodName)) ∈ lw_all := lw_g (lw_at lw_m8 161 rfl) rfl
theorem q1965 : (Jvm.Cond.privateMethod ({ cls := "ExamSlipsModel", name := "readClause", desc := "()V" } : Jvm.MethodName)) ∈ lw_tbl := lw_at lw_m8 162 rfl
theorem q1966 : (Jvm.Cond.instanceMethod ({ cls := "ExamSlipsModel", name := "readClause", desc := "()V" } : Jvm.MethodName)) ∈ lw_all := lw_g (lw_at lw_m8 163 rfl) rfl
theorem q1967 : (Jvm.Cond.code ({ cls := "ExamSlipsModel", name := "readClause", desc := "()V" } : Jvm.MethodName) prog_29_method_32_code (1 : Nat) (Option.none : Option Jvm.ClassFile.FieldType)) ∈ lw_all := lw_g (lw_at lw_m8 164 rfl) rfl
theorem q1968 : (Jvm.Cond.methodLink "ExamSlipsModel" (196 : Nat) ({ cls := "ExamSlipsModel", name := "takes0", desc := "(I)Z" } : Jvm.MethodName)) ∈ lw_all := lw_g (lw_at lw_m8 165 rfl) rfl
theorem q1969 : (Jvm.Cond.privateMethod ({ cls := "ExamSlipsModel", name := "takes0", desc := "(I)Z" } : Jvm.MethodName)) ∈ lw_tbl := lw_at lw_m8 166 rfl
theorem q1970 : (Jvm.Cond.instanceMethod ({ cls := "ExamSlipsModel", name := "takes0", desc := "(I)Z" } : Jvm.MethodName)) ∈ lw_all := lw_g (lw_at lw_m8 167 rfl) rfl
theorem q1971 : (Jvm.Cond.code ({ cls := "ExamSlipsModel", name := "takes0", desc := "(I)Z" } : Jvm.MethodName) prog_29_method_28_code (3 : Nat) (Option.some Jvm.ClassFile.FieldType.boolean)) ∈ lw_all := lw_g (lw_at lw_m8 168 rfl) rfl
theorem q1972 : (Jvm.Cond.methodLink "ExamSlipsModel" (189 : Nat) ({ cls := "ExamSlipsModel", name := "fine", desc := "()Z" } : Jvm.MethodName)) ∈ lw_all := lw_g (lw_at lw_m8 169 rfl) rfl
theorem q1973 : (Jvm.Cond.privateMethod ({ cls := "ExamSlipsModel", name := "fine", desc := "()Z" } : Jvm.MethodName)) ∈ lw_tbl := lw_at lw_m8 170 rfl
theorem q1974 : (Jvm.Cond.instanceMethod ({ cls := "ExamSlipsModel", name := "fine", desc := "()Z" } : Jvm.MethodName)) ∈ lw_all := lw_g (lw_at lw_m8 171 rfl) rfl
theorem q1975 : (Jvm.Cond.code ({ cls := "ExamSlipsModel", name := "fine", desc := "()Z" } : Jvm.MethodName) prog_29_method_26_code (1 : Nat) (Option.some Jvm.ClassFile.FieldType.boolean)) ∈ lw_all := lw_g (lw_at lw_m8 172 rfl) rfl
theorem q1976 : (Jvm.Cond.methodLink "ExamSlipsModel" (205 : Nat) ({ cls := "ExamSlipsModel", name := "must", desc := "(I)V" } : Jvm.MethodName)) ∈ lw_all := lw_g (lw_at lw_m8 173 rfl) rfl
theorem q1977 : (Jvm.Cond.privateMethod ({ cls := "ExamSlipsModel", name := "must", desc := "(I)V" } : Jvm.MethodName)) ∈ lw_tbl := lw_at lw_m8 174 rfl
theorem q1978 : (Jvm.Cond.instanceMethod ({ cls := "ExamSlipsModel", name := "must", desc := "(I)V" } : Jvm.MethodName)) ∈ lw_all := lw_g (lw_at lw_m8 175 rfl) rfl
theorem q1979 : (Jvm.Cond.code ({ cls := "ExamSlipsModel", name := "must", desc := "(I)V" } : Jvm.MethodName) prog_29_method_29_code (2 : Nat) (Option.none : Option Jvm.ClassFile.FieldType)) ∈ lw_all := lw_g (lw_at lw_m8 176 rfl) rfl
theorem q1980 : (Jvm.Cond.methodLink "ExamSlipsModel" (199 : Nat) ({ cls := "ExamSlipsModel", name := "faults", desc := "()V" } : Jvm.MethodName)) ∈ lw_all := lw_g (lw_at lw_m8 177 rfl) rfl
theorem q1981 : (Jvm.Cond.privateMethod ({ cls := "ExamSlipsModel", name := "faults", desc := "()V" } : Jvm.MethodName)) ∈ lw_tbl := lw_at lw_m8 178 rfl
theorem q1982 : (Jvm.Cond.instanceMethod ({ cls := "ExamSlipsModel", name := "faults", desc := "()V" } : Jvm.MethodName)) ∈ lw_all := lw_g (lw_at lw_m8 179 rfl) rfl
theorem q1983 : (Jvm.Cond.code ({ cls := "ExamSlipsModel", name := "faults", desc := "()V" } : Jvm.MethodName) prog_29_method_27_code (1 : Nat) (Option.none : Option Jvm.ClassFile.FieldType)) ∈ lw_all := lw_g (lw_at lw_m8 180 rfl) rfl
theorem q1984 : (Jvm.Cond.methodLink "ExamSlipsModel" (209 : Nat) ({ cls := "ExamSlipsModel", name := "readSum", desc := "(I)V" } : Jvm.MethodName)) ∈ lw_all := lw_g (lw_at lw_m8 181 rfl) rfl
theorem q1985 : (Jvm.Cond.privateMethod ({ cls := "ExamSlipsModel", name := "readSum", desc := "(I)V" } : Jvm.MethodName)) ∈ lw_tbl := lw_at lw_m8 182 rfl
theorem q1986 : (Jvm.Cond.instanceMethod ({ cls := "ExamSlipsModel", name := "readSum", desc := "(I)V" } : Jvm.MethodName)) ∈ lw_all := lw_g (lw_at lw_m8 183 rfl) rfl
theorem q1987 : (Jvm.Cond.code ({ cls := "ExamSlipsModel", name := "readSum", desc := "(I)V" } : Jvm.MethodName) prog_29_method_36_code (2 : Nat) (Option.none : Option Jvm.ClassFile.FieldType)) ∈ lw_all := lw_g (lw_at lw_m8 184 rfl) rfl
theorem q1988 : (Jvm.Cond.methodLink "ExamSlipsModel" (225 : Nat) ({ cls := "ExamSlipsModel", name := "readTerm", desc := "(I)V" } : Jvm.MethodName)) ∈ lw_all := lw_g (lw_at lw_m8 185 rfl) rfl
theorem q1989 : (Jvm.Cond.privateMethod ({ cls := "ExamSlipsModel", name := "readTerm", desc := "(I)V" } : Jvm.MethodName)) ∈ lw_tbl := lw_at lw_m8 186 rfl
theorem q1990 : (Jvm.Cond.instanceMethod ({ cls := "ExamSlipsModel", name := "readTerm", desc := "(I)V" } : Jvm.MethodName)) ∈ lw_all := lw_g (lw_at lw_m8 187 rfl) rfl
theorem q1991 : (Jvm.Cond.code ({ cls := "ExamSlipsModel", name := "readTerm", desc := "(I)V" } : Jvm.MethodName) prog_29_method_37_code (2 : Nat) (Option.none : Option Jvm.ClassFile.FieldType)) ∈ lw_all := lw_g (lw_at lw_m8 188 rfl) rfl
theorem q1992 : (Jvm.Cond.methodLink "ExamSlipsModel" (228 : Nat) ({ cls := "ExamSlipsModel", name := "readPart", desc := "(I)V" } : Jvm.MethodName)) ∈ lw_all := lw_g (lw_at lw_m8 189 rfl) rfl
theorem q1993 : (Jvm.Cond.privateMethod ({ cls := "ExamSlipsModel", name := "readPart", desc := "(I)V" } : Jvm.MethodName)) ∈ lw_tbl := lw_at lw_m8 190 rfl
theorem q1994 : (Jvm.Cond.instanceMethod ({ cls := "ExamSlipsModel", name := "readPart", desc := "(I)V" } : Jvm.MethodName)) ∈ lw_all := lw_g (lw_at lw_m8 191 rfl) rfl
theorem q1995 : (Jvm.Cond.code ({ cls := "ExamSlipsModel", name := "readPart", desc := "(I)V" } : Jvm.MethodName) prog_29_method_38_code (3 : Nat) (Option.none : Option Jvm.ClassFile.FieldType)) ∈ lw_all := lw_g (lw_at lw_m8 192 rfl) rfl
theorem q1996 : (Jvm.Cond.methodLink "ExamSlipsModel" (221 : Nat) ({ cls := "ExamSlipsModel", name := "sign", desc := "(C)I" } : Jvm.MethodName)) ∈ lw_all := lw_g (lw_at lw_m8 193 rfl) rfl
theorem q1997 : (Jvm.Cond.static ({ cls := "ExamSlipsModel", name := "sign", desc := "(C)I" } : Jvm.MethodName)) ∈ lw_all := lw_g (lw_at lw_m8 194 rfl) rfl
theorem q1998 : (Jvm.Cond.code ({ cls := "ExamSlipsModel", name := "sign", desc := "(C)I" } : Jvm.MethodName) prog_29_method_31_code (1 : Nat) (Option.some Jvm.ClassFile.FieldType.int)) ∈ lw_all := lw_g (lw_at lw_m8 195 rfl) rfl
theorem q1999 : (Jvm.Cond.methodLink "ExamSlipsModel" (231 : Nat) ({ cls := "ExamSlipsModel", name := "leaf", desc := "()V" } : Jvm.MethodName)) ∈ lw_all := lw_g (lw_at lw_m8 196 rfl) rfl
theorem q2000 : (Jvm.Cond.privateMethod ({ cls := "ExamSlipsModel", name := "leaf", desc := "()V" } : Jvm.MethodName)) ∈ lw_tbl := lw_at lw_m8 197 rfl
theorem q2001 : (Jvm.Cond.instanceMethod ({ cls := "ExamSlipsModel", name := "leaf", desc := "()V" } : Jvm.MethodName)) ∈ lw_all := lw_g (lw_at lw_m8 198 rfl) rfl
theorem q2002 : (Jvm.Cond.code ({ cls := "ExamSlipsModel", name := "leaf", desc := "()V" } : Jvm.MethodName) prog_29_method_30_code (1 : Nat) (Option.none : Option Jvm.ClassFile.FieldType)) ∈ lw_all := lw_g (lw_at lw_m8 199 rfl) rfl
theorem q2003 : (Jvm.Cond.methodLink "ExamSlipsModel" (212 : Nat) ({ cls := "ExamSlipsModel", name := "readTest", desc := "(I)V" } : Jvm.MethodName)) ∈ lw_all := lw_g (lw_at lw_m8 200 rfl) rfl
theorem q2004 : (Jvm.Cond.privateMethod ({ cls := "ExamSlipsModel", name := "readTest", desc := "(I)V" } : Jvm.MethodName)) ∈ lw_tbl := lw_at lw_m8 201 rfl
theorem q2005 : (Jvm.Cond.instanceMethod ({ cls := "ExamSlipsModel", name := "readTest", desc := "(I)V" } : Jvm.MethodName)) ∈ lw_all := lw_g (lw_at lw_m8 202 rfl) rfl
theorem q2006 : (Jvm.Cond.code ({ cls := "ExamSlipsModel", name := "readTest", desc := "(I)V" } : Jvm.MethodName) prog_29_method_33_code (2 : Nat) (Option.none : Option Jvm.ClassFile.FieldType)) ∈ lw_all := lw_g (lw_at lw_m8 203 rfl) rfl
theorem q2007 : (Jvm.Cond.methodLink "ExamSlipsModel" (215 : Nat) ({ cls := "ExamSlipsModel", name := "readBoth", desc := "(I)V" } : Jvm.MethodName)) ∈ lw_all := lw_g (lw_at lw_m8 204 rfl) rfl
theorem q2008 : (Jvm.Cond.privateMethod ({ cls := "ExamSlipsModel", name := "readBoth", desc := "(I)V" } : Jvm.MethodName)) ∈ lw_tbl := lw_at lw_m8 205 rfl
theorem q2009 : (Jvm.Cond.instanceMethod ({ cls := "ExamSlipsModel", name := "readBoth", desc := "(I)V" } : Jvm.MethodName)) ∈ lw_all := lw_g (lw_at lw_m8 206 rfl) rfl
theorem q2010 : (Jvm.Cond.code ({ cls := "ExamSlipsModel", name := "readBoth", desc := "(I)V" } : Jvm.MethodName) prog_29_method_34_code (2 : Nat) (Option.none : Option Jvm.ClassFile.FieldType)) ∈ lw_all := lw_g (lw_at lw_m8 207 rfl) rfl
theorem q2011 : (Jvm.Cond.methodLink "ExamSlipsModel" (218 : Nat) ({ cls := "ExamSlipsModel", name := "readPlain", desc := "(I)V" } : Jvm.MethodName)) ∈ lw_all := lw_g (lw_at lw_m8 208 rfl) rfl
theorem q2012 : (Jvm.Cond.privateMethod ({ cls := "ExamSlipsModel", name := "readPlain", desc := "(I)V" } : Jvm.MethodName)) ∈ lw_tbl := lw_at lw_m8 209 rfl
theorem q2013 : (Jvm.Cond.instanceMethod ({ cls := "ExamSlipsModel", name := "readPlain", desc := "(I)V" } : Jvm.MethodName)) ∈ lw_all := lw_g (lw_at lw_m8 210 rfl) rfl
theorem q2014 : (Jvm.Cond.code ({ cls := "ExamSlipsModel", name := "readPlain", desc := "(I)V" } : Jvm.MethodName) prog_29_method_35_code (4 : Nat) (Option.none : Option Jvm.ClassFile.FieldType)) ∈ lw_all := lw_g (lw_at lw_m8 211 rfl) rfl
theorem q2016 : (Jvm.Cond.instanceMethod ({ cls := "ExamSlipsModel", name := "fault", desc := "()I" } : Jvm.MethodName)) ∈ lw_all := lw_g (lw_at lw_m8 213 rfl) rfl
theorem q2017 : (Jvm.Cond.selects "ExamSlipsModel" ({ cls := "ExamSlipsModel", name := "fault", desc := "()I" } : Jvm.MethodName) ({ cls := "ExamSlipsModel", name := "fault", desc := "()I" } : Jvm.MethodName)) ∈ lw_all := lw_g (lw_at lw_m8 214 rfl) rfl
theorem q2018 : (Jvm.Cond.code ({ cls := "ExamSlipsModel", name := "fault", desc := "()I" } : Jvm.MethodName) prog_29_method_41_code (1 : Nat) (Option.some Jvm.ClassFile.FieldType.int)) ∈ lw_all := lw_g (lw_at lw_m8 215 rfl) rfl
theorem q2020 : (Jvm.Cond.instanceMethod ({ cls := "ExamSlipsModel", name := "use", desc := "(I)I" } : Jvm.MethodName)) ∈ lw_all := lw_g (lw_at lw_m8 217 rfl) rfl
theorem q2021 : (Jvm.Cond.selects "ExamSlipsModel" ({ cls := "ExamSlipsModel", name := "use", desc := "(I)I" } : Jvm.MethodName) ({ cls := "ExamSlipsModel", name := "use", desc := "(I)I" } : Jvm.MethodName)) ∈ lw_all := lw_g (lw_at lw_m8 218 rfl) rfl
theorem q2022 : (Jvm.Cond.code ({ cls := "ExamSlipsModel", name := "use", desc := "(I)I" } : Jvm.MethodName) prog_29_method_42_code (2 : Nat) (Option.some Jvm.ClassFile.FieldType.int)) ∈ lw_all := lw_g (lw_at lw_m8 219 rfl) rfl
theorem q2024 : (Jvm.Cond.instanceMethod ({ cls := "ExamSlipsModel", name := "takes", desc := "(III)I" } : Jvm.MethodName)) ∈ lw_all := lw_g (lw_at lw_m8 221 rfl) rfl
theorem q2025 : (Jvm.Cond.selects "ExamSlipsModel" ({ cls := "ExamSlipsModel", name := "takes", desc := "(III)I" } : Jvm.MethodName) ({ cls := "ExamSlipsModel", name := "takes", desc := "(III)I" } : Jvm.MethodName)) ∈ lw_all := lw_g (lw_at lw_m8 222 rfl) rfl
theorem q2026 : (Jvm.Cond.code ({ cls := "ExamSlipsModel", name := "takes", desc := "(III)I" } : Jvm.MethodName) prog_29_method_56_code (4 : Nat) (Option.some Jvm.ClassFile.FieldType.int)) ∈ lw_all := lw_g (lw_at lw_m8 223 rfl) rfl
theorem q2027 : (Jvm.Cond.methodLink "ExamSlipsModel" (298 : Nat) ({ cls := "ExamSlipsModel", name := "takesOf", desc := "(IIZI)I" } : Jvm.MethodName)) ∈ lw_all := lw_g (lw_at lw_m8 224 rfl) rfl
theorem q2028 : (Jvm.Cond.privateMethod ({ cls := "ExamSlipsModel", name := "takesOf", desc := "(IIZI)I" } : Jvm.MethodName)) ∈ lw_tbl := lw_at lw_m8 225 rfl
theorem q2029 : (Jvm.Cond.instanceMethod ({ cls := "ExamSlipsModel", name := "takesOf", desc := "(IIZI)I" } : Jvm.MethodName)) ∈ lw_all := lw_g (lw_at lw_m8 226 rfl) rfl
theorem q2030 : (Jvm.Cond.code ({ cls := "ExamSlipsModel", name := "takesOf", desc := "(IIZI)I" } : Jvm.MethodName) prog_29_method_55_code (5 : Nat) (Option.some Jvm.ClassFile.FieldType.int)) ∈ lw_all := lw_g (lw_at lw_m8 227 rfl) rfl
theorem q2031 : (Jvm.Cond.methodLink "ExamSlipsModel" (290 : Nat) ({ cls := "ExamSlipsModel", name := "asksOf", desc := "(IIII)V" } : Jvm.MethodName)) ∈ lw_all := lw_g (lw_at lw_m8 228 rfl) rfl
theorem q2032 : (Jvm.Cond.privateMethod ({ cls := "ExamSlipsModel", name := "asksOf", desc := "(IIII)V" } : Jvm.MethodName)) ∈ lw_tbl := lw_at lw_m8 229 rfl
theorem q2033 : (Jvm.Cond.instanceMethod ({ cls := "ExamSlipsModel", name := "asksOf", desc := "(IIII)V" } : Jvm.MethodName)) ∈ lw_all := lw_g (lw_at lw_m8 230 rfl) rfl
theorem q2034 : (Jvm.Cond.code ({ cls := "ExamSlipsModel", name := "asksOf", desc := "(IIII)V" } : Jvm.MethodName) prog_29_method_54_code (5 : Nat) (Option.none : Option Jvm.ClassFile.FieldType)) ∈ lw_all := lw_g (lw_at lw_m8 231 rfl) rfl
theorem q2035 : (Jvm.Cond.methodLink "ExamSlipsModel" (294 : Nat) ({ cls := "ExamSlipsModel", name := "told", desc := "(IIII)I" } : Jvm.MethodName)) ∈ lw_all := lw_g (lw_at lw_m8 232 rfl) rfl
theorem q2036 : (Jvm.Cond.privateMethod ({ cls := "ExamSlipsModel", name := "told", desc := "(IIII)I" } : Jvm.MethodName)) ∈ lw_tbl := lw_at lw_m8 233 rfl
theorem q2037 : (Jvm.Cond.instanceMethod ({ cls := "ExamSlipsModel", name := "told", desc := "(IIII)I" } : Jvm.MethodName)) ∈ lw_all := lw_g (lw_at lw_m8 234 rfl) rfl
theorem q2038 : (Jvm.Cond.code ({ cls := "ExamSlipsModel", name := "told", desc := "(IIII)I" } : Jvm.MethodName) prog_29_method_53_code (11 : Nat) (Option.some Jvm.ClassFile.FieldType.int)) ∈ lw_all := lw_g (lw_at lw_m8 235 rfl) rfl
theorem q2039 : (Jvm.Cond.methodLink "ExamSlipsModel" (249 : Nat) ({ cls := "ExamSlipsModel", name := "codeAt", desc := "(I)I" } : Jvm.MethodName)) ∈ lw_all := lw_g (lw_at lw_m8 236 rfl) rfl
theorem q2040 : (Jvm.Cond.privateMethod ({ cls := "ExamSlipsModel", name := "codeAt", desc := "(I)I" } : Jvm.MethodName)) ∈ lw_tbl := lw_at lw_m8 237 rfl
theorem q2041 : (Jvm.Cond.instanceMethod ({ cls := "ExamSlipsModel", name := "codeAt", desc := "(I)I" } : Jvm.MethodName)) ∈ lw_all := lw_g (lw_at lw_m8 238 rfl) rfl
theorem q2042 : (Jvm.Cond.code ({ cls := "ExamSlipsModel", name := "codeAt", desc := "(I)I" } : Jvm.MethodName) prog_29_method_43_code (2 : Nat) (Option.some Jvm.ClassFile.FieldType.int)) ∈ lw_all := lw_g (lw_at lw_m8 239 rfl) rfl
theorem q2043 : (Jvm.Cond.methodLink "ExamSlipsModel" (274 : Nat) ({ cls := "ExamSlipsModel", name := "sumOf", desc := "(Z)J" } : Jvm.MethodName)) ∈ lw_all := lw_g (lw_at lw_m9 0 rfl) rfl
theorem q2044 : (Jvm.Cond.privateMethod ({ cls := "ExamSlipsModel", name := "sumOf", desc := "(Z)J" } : Jvm.MethodName)) ∈ lw_tbl := lw_at lw_m9 1 rfl
theorem q2045 : (Jvm.Cond.instanceMethod ({ cls := "ExamSlipsModel", name := "sumOf", desc := "(Z)J" } : Jvm.MethodName)) ∈ lw_all := lw_g (lw_at lw_m9 2 rfl) rfl
theorem q2046 : (Jvm.Cond.code ({ cls := "ExamSlipsModel", name := "sumOf", desc := "(Z)J" } : Jvm.MethodName) prog_29_method_46_code (7 : Nat) (Option.some Jvm.ClassFile.FieldType.long)) ∈ lw_all := lw_g (lw_at lw_m9 3 rfl) rfl
theorem q2047 : (Jvm.Cond.methodLink "ExamSlipsModel" (260 : Nat) ({ cls := "ExamSlipsModel", name := "termOf", desc := "(Z)J" } : Jvm.MethodName)) ∈ lw_all := lw_g (lw_at lw_m9 4 rfl) rfl
theorem q2048 : (Jvm.Cond.privateMethod ({ cls := "ExamSlipsModel", name := "termOf", desc := "(Z)J" } : Jvm.MethodName)) ∈ lw_tbl := lw_at lw_m9 5 rfl
theorem q2049 : (Jvm.Cond.instanceMethod ({ cls := "ExamSlipsModel", name := "termOf", desc := "(Z)J" } : Jvm.MethodName)) ∈ lw_all := lw_g (lw_at lw_m9 6 rfl) rfl
theorem q2050 : (Jvm.Cond.code ({ cls := "ExamSlipsModel", name := "termOf", desc := "(Z)J" } : Jvm.MethodName) prog_29_method_47_code (7 : Nat) (Option.some Jvm.ClassFile.FieldType.long)) ∈ lw_all := lw_g (lw_at lw_m9 7 rfl) rfl
theorem q2051 : (Jvm.Cond.methodLink "ExamSlipsModel" (268 : Nat) ({ cls := "ExamSlipsModel", name := "partOf", desc := "(Z)J" } : Jvm.MethodName)) ∈ lw_all := lw_g (lw_at lw_m9 8 rfl) rfl
theorem q2052 : (Jvm.Cond.privateMethod ({ cls := "ExamSlipsModel", name := "partOf", desc := "(Z)J" } : Jvm.MethodName)) ∈ lw_tbl := lw_at lw_m9 9 rfl
theorem q2053 : (Jvm.Cond.instanceMethod ({ cls := "ExamSlipsModel", name := "partOf", desc := "(Z)J" } : Jvm.MethodName)) ∈ lw_all := lw_g (lw_at lw_m9 10 rfl) rfl
theorem q2054 : (Jvm.Cond.code ({ cls := "ExamSlipsModel", name := "partOf", desc := "(Z)J" } : Jvm.MethodName) prog_29_method_48_code (4 : Nat) (Option.some Jvm.ClassFile.FieldType.long)) ∈ lw_all := lw_g (lw_at lw_m9 11 rfl) rfl
theorem q2055 : (Jvm.Cond.methodLink "ExamSlipsModel" (271 : Nat) ({ cls := "ExamSlipsModel", name := "passes0", desc := "(I)Z" } : Jvm.MethodName)) ∈ lw_all := lw_g (lw_at lw_m9 12 rfl) rfl
theorem q2056 : (Jvm.Cond.privateMethod ({ cls := "ExamSlipsModel", name := "passes0", desc := "(I)Z" } : Jvm.MethodName)) ∈ lw_tbl := lw_at lw_m9 13 rfl
theorem q2057 : (Jvm.Cond.instanceMethod ({ cls := "ExamSlipsModel", name := "passes0", desc := "(I)Z" } : Jvm.MethodName)) ∈ lw_all := lw_g (lw_at lw_m9 14 rfl) rfl
theorem q2058 : (Jvm.Cond.code ({ cls := "ExamSlipsModel", name := "passes0", desc := "(I)Z" } : Jvm.MethodName) prog_29_method_44_code (3 : Nat) (Option.some Jvm.ClassFile.FieldType.boolean)) ∈ lw_all := lw_g (lw_at lw_m9 15 rfl) rfl
theorem q2059 : (Jvm.Cond.methodLink "ExamSlipsModel" (264 : Nat) ({ cls := "ExamSlipsModel", name := "bounded", desc := "(JZ)J" } : Jvm.MethodName)) ∈ lw_all := lw_g (lw_at lw_m9 16 rfl) rfl
theorem q2060 : (Jvm.Cond.privateMethod ({ cls := "ExamSlipsModel", name := "bounded", desc := "(JZ)J" } : Jvm.MethodName)) ∈ lw_tbl := lw_at lw_m9 17 rfl
theorem q2061 : (Jvm.Cond.instanceMethod ({ cls := "ExamSlipsModel", name := "bounded", desc := "(JZ)J" } : Jvm.MethodName)) ∈ lw_all := lw_g (lw_at lw_m9 18 rfl) rfl
theorem q2062 : (Jvm.Cond.code ({ cls := "ExamSlipsModel", name := "bounded", desc := "(JZ)J" } : Jvm.MethodName) prog_29_method_45_code (4 : Nat) (Option.some Jvm.ClassFile.FieldType.long)) ∈ lw_all := lw_g (lw_at lw_m9 19 rfl) rfl
theorem q2063 : (Jvm.Cond.constantLong "ExamSlipsModel" (252 : Nat) (1000000000 : Int64)) ∈ lw_all := lw_g (lw_at lw_m9 20 rfl) rfl
theorem q2064 : (Jvm.Cond.constantLong "ExamSlipsModel" (254 : Nat) (-1000000000 : Int64)) ∈ lw_all := lw_g (lw_at lw_m9 21 rfl) rfl
theorem q2065 : (Jvm.Cond.methodLink "ExamSlipsModel" (287 : Nat) ({ cls := "ExamSlipsModel", name := "testOf", desc := "(Z)Z" } : Jvm.MethodName)) ∈ lw_all := lw_g (lw_at lw_m9 22 rfl) rfl
theorem q2066 : (Jvm.Cond.privateMethod ({ cls := "ExamSlipsModel", name := "testOf", desc := "(Z)Z" } : Jvm.MethodName)) ∈ lw_tbl := lw_at lw_m9 23 rfl
theorem q2067 : (Jvm.Cond.instanceMethod ({ cls := "ExamSlipsModel", name := "testOf", desc := "(Z)Z" } : Jvm.MethodName)) ∈ lw_all := lw_g (lw_at lw_m9 24 rfl) rfl
theorem q2068 : (Jvm.Cond.code ({ cls := "ExamSlipsModel", name := "testOf", desc := "(Z)Z" } : Jvm.MethodName) prog_29_method_49_code (4 : Nat) (Option.some Jvm.ClassFile.FieldType.boolean)) ∈ lw_all := lw_g (lw_at lw_m9 25 rfl) rfl
theorem q2069 : (Jvm.Cond.methodLink "ExamSlipsModel" (277 : Nat) ({ cls := "ExamSlipsModel", name := "bothOf", desc := "(Z)Z" } : Jvm.MethodName)) ∈ lw_all := lw_g (lw_at lw_m9 26 rfl) rfl
theorem q2070 : (Jvm.Cond.privateMethod ({ cls := "ExamSlipsModel", name := "bothOf", desc := "(Z)Z" } : Jvm.MethodName)) ∈ lw_tbl := lw_at lw_m9 27 rfl
theorem q2071 : (Jvm.Cond.instanceMethod ({ cls := "ExamSlipsModel", name := "bothOf", desc := "(Z)Z" } : Jvm.MethodName)) ∈ lw_all := lw_g (lw_at lw_m9 28 rfl) rfl
theorem q2072 : (Jvm.Cond.code ({ cls := "ExamSlipsModel", name := "bothOf", desc := "(Z)Z" } : Jvm.MethodName) prog_29_method_50_code (4 : Nat) (Option.some Jvm.ClassFile.FieldType.boolean)) ∈ lw_all := lw_g (lw_at lw_m9 29 rfl) rfl
theorem q2073 : (Jvm.Cond.methodLink "ExamSlipsModel" (281 : Nat) ({ cls := "ExamSlipsModel", name := "plainOf", desc := "(Z)Z" } : Jvm.MethodName)) ∈ lw_all := lw_g (lw_at lw_m9 30 rfl) rfl
theorem q2074 : (Jvm.Cond.privateMethod ({ cls := "ExamSlipsModel", name := "plainOf", desc := "(Z)Z" } : Jvm.MethodName)) ∈ lw_tbl := lw_at lw_m9 31 rfl
theorem q2075 : (Jvm.Cond.instanceMethod ({ cls := "ExamSlipsModel", name := "plainOf", desc := "(Z)Z" } : Jvm.MethodName)) ∈ lw_all := lw_g (lw_at lw_m9 32 rfl) rfl
theorem q2076 : (Jvm.Cond.code ({ cls := "ExamSlipsModel", name := "plainOf", desc := "(Z)Z" } : Jvm.MethodName) prog_29_method_51_code (3 : Nat) (Option.some Jvm.ClassFile.FieldType.boolean)) ∈ lw_all := lw_g (lw_at lw_m9 33 rfl) rfl
theorem q2077 : (Jvm.Cond.methodLink "ExamSlipsModel" (284 : Nat) ({ cls := "ExamSlipsModel", name := "positiveOf", desc := "(Z)Z" } : Jvm.MethodName)) ∈ lw_all := lw_g (lw_at lw_m9 34 rfl) rfl
theorem q2078 : (Jvm.Cond.privateMethod ({ cls := "ExamSlipsModel", name := "positiveOf", desc := "(Z)Z" } : Jvm.MethodName)) ∈ lw_tbl := lw_at lw_m9 35 rfl
theorem q2079 : (Jvm.Cond.instanceMethod ({ cls := "ExamSlipsModel", name := "positiveOf", desc := "(Z)Z" } : Jvm.MethodName)) ∈ lw_all := lw_g (lw_at lw_m9 36 rfl) rfl
theorem q2080 : (Jvm.Cond.code ({ cls := "ExamSlipsModel", name := "positiveOf", desc := "(Z)Z" } : Jvm.MethodName) prog_29_method_52_code (7 : Nat) (Option.some Jvm.ClassFile.FieldType.boolean)) ∈ lw_all := lw_g (lw_at lw_m9 37 rfl) rfl
theorem q2082 : (Jvm.Cond.instanceMethod ({ cls := "ExamSlipsModel", name := "keeps", desc := "(II)I" } : Jvm.MethodName)) ∈ lw_all := lw_g (lw_at lw_m9 39 rfl) rfl
theorem q2083 : (Jvm.Cond.selects "ExamSlipsModel" ({ cls := "ExamSlipsModel", name := "keeps", desc := "(II)I" } : Jvm.MethodName) ({ cls := "ExamSlipsModel", name := "keeps", desc := "(II)I" } : Jvm.MethodName)) ∈ lw_all := lw_g (lw_at lw_m9 40 rfl) rfl
theorem q2084 : (Jvm.Cond.code ({ cls := "ExamSlipsModel", name := "keeps", desc := "(II)I" } : Jvm.MethodName) prog_29_method_58_code (3 : Nat) (Option.some Jvm.ClassFile.FieldType.int)) ∈ lw_all := lw_g (lw_at lw_m9 41 rfl) rfl
theorem q2085 : (Jvm.Cond.methodLink "ExamSlipsModel" (302 : Nat) ({ cls := "ExamSlipsModel", name := "keepsOf", desc := "(II)I" } : Jvm.MethodName)) ∈ lw_all := lw_g (lw_at lw_m9 42 rfl) rfl
theorem q2086 : (Jvm.Cond.privateMethod ({ cls := "ExamSlipsModel", name := "keepsOf", desc := "(II)I" } : Jvm.MethodName)) ∈ lw_tbl := lw_at lw_m9 43 rfl
theorem q2087 : (Jvm.Cond.instanceMethod ({ cls := "ExamSlipsModel", name := "keepsOf", desc := "(II)I" } : Jvm.MethodName)) ∈ lw_all := lw_g (lw_at lw_m9 44 rfl) rfl
theorem q2088 : (Jvm.Cond.code ({ cls := "ExamSlipsModel", name := "keepsOf", desc := "(II)I" } : Jvm.MethodName) prog_29_method_57_code (3 : Nat) (Option.some Jvm.ClassFile.FieldType.int)) ∈ lw_all := lw_g (lw_at lw_m9 45 rfl) rfl
theorem q2090 : (Jvm.Cond.instanceMethod ({ cls := "ExamSlipsModel", name := "chance", desc := "(I)I" } : Jvm.MethodName)) ∈ lw_all := lw_g (lw_at lw_m9 47 rfl) rfl
theorem q2091 : (Jvm.Cond.selects "ExamSlipsModel" ({ cls := "ExamSlipsModel", name := "chance", desc := "(I)I" } : Jvm.MethodName) ({ cls := "ExamSlipsModel", name := "chance", desc := "(I)I" } : Jvm.MethodName)) ∈ lw_all := lw_g (lw_at lw_m9 48 rfl) rfl
theorem q2092 : (Jvm.Cond.code ({ cls := "ExamSlipsModel", name := "chance", desc := "(I)I" } : Jvm.MethodName) prog_29_method_60_code (2 : Nat) (Option.some Jvm.ClassFile.FieldType.int)) ∈ lw_all := lw_g (lw_at lw_m9 49 rfl) rfl
theorem q2093 : (Jvm.Cond.methodLink "ExamSlipsModel" (305 : Nat) ({ cls := "ExamSlipsModel", name := "chanceOf", desc := "(I)I" } : Jvm.MethodName)) ∈ lw_all := lw_g (lw_at lw_m9 50 rfl) rfl
theorem q2094 : (Jvm.Cond.privateMethod ({ cls := "ExamSlipsModel", name := "chanceOf", desc := "(I)I" } : Jvm.MethodName)) ∈ lw_tbl := lw_at lw_m9 51 rfl
theorem q2095 : (Jvm.Cond.instanceMethod ({ cls := "ExamSlipsModel", name := "chanceOf", desc := "(I)I" } : Jvm.MethodName)) ∈ lw_all := lw_g (lw_at lw_m9 52 rfl) rfl
theorem q2096 : (Jvm.Cond.code ({ cls := "ExamSlipsModel", name := "chanceOf", desc := "(I)I" } : Jvm.MethodName) prog_29_method_59_code (3 : Nat) (Option.some Jvm.ClassFile.FieldType.int)) ∈ lw_all := lw_g (lw_at lw_m9 53 rfl) rfl
theorem q2098 : (Jvm.Cond.instanceMethod ({ cls := "ExamSlipsModel", name := "pass", desc := "(I)J" } : Jvm.MethodName)) ∈ lw_all := lw_g (lw_at lw_m9 55 rfl) rfl
theorem q2099 : (Jvm.Cond.selects "ExamSlipsModel" ({ cls := "ExamSlipsModel", name := "pass", desc := "(I)J" } : Jvm.MethodName) ({ cls := "ExamSlipsModel", name := "pass", desc := "(I)J" } : Jvm.MethodName)) ∈ lw_all := lw_g (lw_at lw_m9 56 rfl) rfl
theorem q2100 : (Jvm.Cond.code ({ cls := "ExamSlipsModel", name := "pass", desc := "(I)J" } : Jvm.MethodName) prog_29_method_70_code (2 : Nat) (Option.some Jvm.ClassFile.FieldType.long)) ∈ lw_all := lw_g (lw_at lw_m9 57 rfl) rfl
theorem q2101 : (Jvm.Cond.constantLong "ExamSlipsModel" (344 : Nat) (-1 : Int64)) ∈ lw_all := lw_g (lw_at lw_m9 58 rfl) rfl
theorem q2102 : (Jvm.Cond.methodLink "ExamSlipsModel" (346 : Nat) ({ cls := "ExamSlipsModel", name := "known", desc := "(II)V" } : Jvm.MethodName)) ∈ lw_all := lw_g (lw_at lw_m9 59 rfl) rfl
theorem q2103 : (Jvm.Cond.privateMethod ({ cls := "ExamSlipsModel", name := "known", desc := "(II)V" } : Jvm.MethodName)) ∈ lw_tbl := lw_at lw_m9 60 rfl
theorem q2104 : (Jvm.Cond.instanceMethod ({ cls := "ExamSlipsModel", name := "known", desc := "(II)V" } : Jvm.MethodName)) ∈ lw_all := lw_g (lw_at lw_m9 61 rfl) rfl
theorem q2105 : (Jvm.Cond.code ({ cls := "ExamSlipsModel", name := "known", desc := "(II)V" } : Jvm.MethodName) prog_29_method_66_code (5 : Nat) (Option.none : Option Jvm.ClassFile.FieldType)) ∈ lw_all := lw_g (lw_at lw_m9 62 rfl) rfl
theorem q2106 : (Jvm.Cond.methodLink "ExamSlipsModel" (334 : Nat) ({ cls := "ExamSlipsModel", name := "laysChances", desc := "()V" } : Jvm.MethodName)) ∈ lw_all := lw_g (lw_at lw_m9 63 rfl) rfl
theorem q2107 : (Jvm.Cond.privateMethod ({ cls := "ExamSlipsModel", name := "laysChances", desc := "()V" } : Jvm.MethodName)) ∈ lw_tbl := lw_at lw_m9 64 rfl
theorem q2108 : (Jvm.Cond.instanceMethod ({ cls := "ExamSlipsModel", name := "laysChances", desc := "()V" } : Jvm.MethodName)) ∈ lw_all := lw_g (lw_at lw_m9 65 rfl) rfl
theorem q2109 : (Jvm.Cond.code ({ cls := "ExamSlipsModel", name := "laysChances", desc := "()V" } : Jvm.MethodName) prog_29_method_62_code (2 : Nat) (Option.none : Option Jvm.ClassFile.FieldType)) ∈ lw_all := lw_g (lw_at lw_m9 66 rfl) rfl
theorem q2110 : (Jvm.Cond.methodLink "ExamSlipsModel" (154 : Nat) ({ cls := "ExamSlipsModel", name := "isBowl", desc := "(I)Z" } : Jvm.MethodName)) ∈ lw_all := lw_g (lw_at lw_m9 67 rfl) rfl
theorem q2111 : (Jvm.Cond.privateMethod ({ cls := "ExamSlipsModel", name := "isBowl", desc := "(I)Z" } : Jvm.MethodName)) ∈ lw_tbl := lw_at lw_m9 68 rfl
theorem q2112 : (Jvm.Cond.instanceMethod ({ cls := "ExamSlipsModel", name := "isBowl", desc := "(I)Z" } : Jvm.MethodName)) ∈ lw_all := lw_g (lw_at lw_m9 69 rfl) rfl
theorem q2113 : (Jvm.Cond.code ({ cls := "ExamSlipsModel", name := "isBowl", desc := "(I)Z" } : Jvm.MethodName) prog_29_method_11_code (2 : Nat) (Option.some Jvm.ClassFile.FieldType.boolean)) ∈ lw_all := lw_g (lw_at lw_m9 70 rfl) rfl
theorem q2114 : (Jvm.Cond.methodLink "ExamSlipsModel" (318 : Nat) ({ cls := "ExamSlipsModel", name := "term", desc := "(I)I" } : Jvm.MethodName)) ∈ lw_all := lw_g (lw_at lw_m9 71 rfl) rfl
theorem q2115 : (Jvm.Cond.privateMethod ({ cls := "ExamSlipsModel", name := "term", desc := "(I)I" } : Jvm.MethodName)) ∈ lw_tbl := lw_at lw_m9 72 rfl
theorem q2116 : (Jvm.Cond.instanceMethod ({ cls := "ExamSlipsModel", name := "term", desc := "(I)I" } : Jvm.MethodName)) ∈ lw_all := lw_g (lw_at lw_m9 73 rfl) rfl
theorem q2117 : (Jvm.Cond.code ({ cls := "ExamSlipsModel", name := "term", desc := "(I)I" } : Jvm.MethodName) prog_29_method_7_code (2 : Nat) (Option.some Jvm.ClassFile.FieldType.int)) ∈ lw_all := lw_g (lw_at lw_m9 74 rfl) rfl
theorem q2118 : (Jvm.Cond.methodLink "ExamSlipsModel" (337 : Nat) ({ cls := "ExamSlipsModel", name := "odds", desc := "(I)V" } : Jvm.MethodName)) ∈ lw_all := lw_g (lw_at lw_m9 75 rfl) rfl
theorem q2119 : (Jvm.Cond.privateMethod ({ cls := "ExamSlipsModel", name := "odds", desc := "(I)V" } : Jvm.MethodName)) ∈ lw_tbl := lw_at lw_m9 76 rfl
theorem q2120 : (Jvm.Cond.instanceMethod ({ cls := "ExamSlipsModel", name := "odds", desc := "(I)V" } : Jvm.MethodName)) ∈ lw_all := lw_g (lw_at lw_m9 77 rfl) rfl
theorem q2121 : (Jvm.Cond.code ({ cls := "ExamSlipsModel", name := "odds", desc := "(I)V" } : Jvm.MethodName) prog_29_method_65_code (6 : Nat) (Option.none : Option Jvm.ClassFile.FieldType)) ∈ lw_all := lw_g (lw_at lw_m9 78 rfl) rfl
theorem q2122 : (Jvm.Cond.methodLink "ExamSlipsModel" (311 : Nat) ({ cls := "ExamSlipsModel", name := "choose", desc := "(II)J" } : Jvm.MethodName)) ∈ lw_all := lw_g (lw_at lw_m9 79 rfl) rfl
theorem q2123 : (Jvm.Cond.static ({ cls := "ExamSlipsModel", name := "choose", desc := "(II)J" } : Jvm.MethodName)) ∈ lw_all := lw_g (lw_at lw_m9 80 rfl) rfl
theorem q2124 : (Jvm.Cond.code ({ cls := "ExamSlipsModel", name := "choose", desc := "(II)J" } : Jvm.MethodName) prog_29_method_61_code (5 : Nat) (Option.some Jvm.ClassFile.FieldType.long)) ∈ lw_all := lw_g (lw_at lw_m9 81 rfl) rfl
theorem q2125 : (Jvm.Cond.constantLong "ExamSlipsModel" (328 : Nat) (100 : Int64)) ∈ lw_all := lw_g (lw_at lw_m9 82 rfl) rfl
theorem q2126 : (Jvm.Cond.methodLink "ExamSlipsModel" (330 : Nat) ({ cls := "ExamSlipsModel", name := "lots", desc := "(IIJ)V" } : Jvm.MethodName)) ∈ lw_all := lw_g (lw_at lw_m9 83 rfl) rfl
theorem q2127 : (Jvm.Cond.privateMethod ({ cls := "ExamSlipsModel", name := "lots", desc := "(IIJ)V" } : Jvm.MethodName)) ∈ lw_tbl := lw_at lw_m9 84 rfl
theorem q2128 : (Jvm.Cond.instanceMethod ({ cls := "ExamSlipsModel", name := "lots", desc := "(IIJ)V" } : Jvm.MethodName)) ∈ lw_all := lw_g (lw_at lw_m9 85 rfl) rfl
theorem q2129 : (Jvm.Cond.code ({ cls := "ExamSlipsModel", name := "lots", desc := "(IIJ)V" } : Jvm.MethodName) prog_29_method_64_code (11 : Nat) (Option.none : Option Jvm.ClassFile.FieldType)) ∈ lw_all := lw_g (lw_at lw_m9 86 rfl) rfl
theorem q2130 : (Jvm.Cond.methodLink "ExamSlipsModel" (315 : Nat) ({ cls := "ExamSlipsModel", name := "answers", desc := "()V" } : Jvm.MethodName)) ∈ lw_all := lw_g (lw_at lw_m9 87 rfl) rfl
theorem q2131 : (Jvm.Cond.privateMethod ({ cls := "ExamSlipsModel", name := "answers", desc := "()V" } : Jvm.MethodName)) ∈ lw_tbl := lw_at lw_m9 88 rfl
theorem q2132 : (Jvm.Cond.instanceMethod ({ cls := "ExamSlipsModel", name := "answers", desc := "()V" } : Jvm.MethodName)) ∈ lw_all := lw_g (lw_at lw_m9 89 rfl) rfl
theorem q2133 : (Jvm.Cond.code ({ cls := "ExamSlipsModel", name := "answers", desc := "()V" } : Jvm.MethodName) prog_29_method_63_code (6 : Nat) (Option.none : Option Jvm.ClassFile.FieldType)) ∈ lw_all := lw_g (lw_at lw_m9 90 rfl) rfl
theorem q2134 : (Jvm.Cond.methodLink "ExamSlipsModel" (350 : Nat) ({ cls := "ExamSlipsModel", name := "passes", desc := "()J" } : Jvm.MethodName)) ∈ lw_all := lw_g (lw_at lw_m9 91 rfl) rfl
theorem q2135 : (Jvm.Cond.privateMethod ({ cls := "ExamSlipsModel", name := "passes", desc := "()J" } : Jvm.MethodName)) ∈ lw_tbl := lw_at lw_m9 92 rfl
theorem q2136 : (Jvm.Cond.instanceMethod ({ cls := "ExamSlipsModel", name := "passes", desc := "()J" } : Jvm.MethodName)) ∈ lw_all := lw_g (lw_at lw_m9 93 rfl) rfl
theorem q2137 : (Jvm.Cond.code ({ cls := "ExamSlipsModel", name := "passes", desc := "()J" } : Jvm.MethodName) prog_29_method_69_code (4 : Nat) (Option.some Jvm.ClassFile.FieldType.long)) ∈ lw_all := lw_g (lw_at lw_m9 94 rfl) rfl
theorem q2138 : (Jvm.Cond.methodLink "ExamSlipsModel" (354 : Nat) ({ cls := "ExamSlipsModel", name := "reduced", desc := "(JJI)J" } : Jvm.MethodName)) ∈ lw_all := lw_g (lw_at lw_m9 95 rfl) rfl
theorem q2139 : (Jvm.Cond.static ({ cls := "ExamSlipsModel", name := "reduced", desc := "(JJI)J" } : Jvm.MethodName)) ∈ lw_all := lw_g (lw_at lw_m9 96 rfl) rfl
theorem q2140 : (Jvm.Cond.code ({ cls := "ExamSlipsModel", name := "reduced", desc := "(JJI)J" } : Jvm.MethodName) prog_29_method_68_code (7 : Nat) (Option.some Jvm.ClassFile.FieldType.long)) ∈ lw_all := lw_g (lw_at lw_m9 97 rfl) rfl
theorem q2141 : (Jvm.Cond.methodLink "ExamSlipsModel" (340 : Nat) ({ cls := "ExamSlipsModel", name := "common", desc := "(JJ)J" } : Jvm.MethodName)) ∈ lw_all := lw_g (lw_at lw_m9 98 rfl) rfl
theorem q2142 : (Jvm.Cond.static ({ cls := "ExamSlipsModel", name := "common", desc := "(JJ)J" } : Jvm.MethodName)) ∈ lw_all := lw_g (lw_at lw_m9 99 rfl) rfl
theorem q2143 : (Jvm.Cond.code ({ cls := "ExamSlipsModel", name := "common", desc := "(JJ)J" } : Jvm.MethodName) prog_29_method_67_code (10 : Nat) (Option.some Jvm.ClassFile.FieldType.long)) ∈ lw_all := lw_g (lw_at lw_m9 100 rfl) rfl
theorem q2145 : (Jvm.Cond.instanceMethod ({ cls := "ExamSlipsModel", name := "right", desc := "(II)J" } : Jvm.MethodName)) ∈ lw_all := lw_g (lw_at lw_m9 102 rfl) rfl
theorem q2146 : (Jvm.Cond.selects "ExamSlipsModel" ({ cls := "ExamSlipsModel", name := "right", desc := "(II)J" } : Jvm.MethodName) ({ cls := "ExamSlipsModel", name := "right", desc := "(II)J" } : Jvm.MethodName)) ∈ lw_all := lw_g (lw_at lw_m9 103 rfl) rfl
theorem q2147 : (Jvm.Cond.code ({ cls := "ExamSlipsModel", name := "right", desc := "(II)J" } : Jvm.MethodName) prog_29_method_71_code (3 : Nat) (Option.some Jvm.ClassFile.FieldType.long)) ∈ lw_all := lw_g (lw_at lw_m9 104 rfl) rfl
theorem q2149 : (Jvm.Cond.instanceMethod ({ cls := "ExamSlipsModel", name := "mean", desc := "(I)J" } : Jvm.MethodName)) ∈ lw_all := lw_g (lw_at lw_m9 106 rfl) rfl
theorem q2150 : (Jvm.Cond.selects "ExamSlipsModel" ({ cls := "ExamSlipsModel", name := "mean", desc := "(I)J" } : Jvm.MethodName) ({ cls := "ExamSlipsModel", name := "mean", desc := "(I)J" } : Jvm.MethodName)) ∈ lw_all := lw_g (lw_at lw_m9 107 rfl) rfl
theorem q2151 : (Jvm.Cond.code ({ cls := "ExamSlipsModel", name := "mean", desc := "(I)J" } : Jvm.MethodName) prog_29_method_72_code (2 : Nat) (Option.some Jvm.ClassFile.FieldType.long)) ∈ lw_all := lw_g (lw_at lw_m9 108 rfl) rfl
theorem q2152 : (Jvm.Cond.constantLong "ExamSlipsModel" (358 : Nat) (2 : Int64)) ∈ lw_all := lw_g (lw_at lw_m9 109 rfl) rfl
theorem q2153 : (Jvm.Cond.constantLong "ExamSlipsModel" (360 : Nat) (3 : Int64)) ∈ lw_all := lw_g (lw_at lw_m9 110 rfl) rfl
theorem q2155 : (Jvm.Cond.instanceMethod ({ cls := "ExamSlipsModel", name := "sure", desc := "(II)J" } : Jvm.MethodName)) ∈ lw_all := lw_g (lw_at lw_m9 112 rfl) rfl
theorem q2156 : (Jvm.Cond.selects "ExamSlipsModel" ({ cls := "ExamSlipsModel", name := "sure", desc := "(II)J" } : Jvm.MethodName) ({ cls := "ExamSlipsModel", name := "sure", desc := "(II)J" } : Jvm.MethodName)) ∈ lw_all := lw_g (lw_at lw_m9 113 rfl) rfl
theorem q2157 : (Jvm.Cond.code ({ cls := "ExamSlipsModel", name := "sure", desc := "(II)J" } : Jvm.MethodName) prog_29_method_74_code (5 : Nat) (Option.some Jvm.ClassFile.FieldType.long)) ∈ lw_all := lw_g (lw_at lw_m9 114 rfl) rfl
theorem q2158 : (Jvm.Cond.methodLink "ExamSlipsModel" (362 : Nat) ({ cls := "ExamSlipsModel", name := "bowl", desc := "()I" } : Jvm.MethodName)) ∈ lw_all := lw_g (lw_at lw_m9 115 rfl) rfl
theorem q2159 : (Jvm.Cond.privateMethod ({ cls := "ExamSlipsModel", name := "bowl", desc := "()I" } : Jvm.MethodName)) ∈ lw_tbl := lw_at lw_m9 116 rfl
theorem q2160 : (Jvm.Cond.instanceMethod ({ cls := "ExamSlipsModel", name := "bowl", desc := "()I" } : Jvm.MethodName)) ∈ lw_all := lw_g (lw_at lw_m9 117 rfl) rfl
theorem q2161 : (Jvm.Cond.code ({ cls := "ExamSlipsModel", name := "bowl", desc := "()I" } : Jvm.MethodName) prog_29_method_12_code (3 : Nat) (Option.some Jvm.ClassFile.FieldType.int)) ∈ lw_all := lw_g (lw_at lw_m9 118 rfl) rfl
theorem q2162 : (Jvm.Cond.methodLink "ExamSlipsModel" (365 : Nat) ({ cls := "ExamSlipsModel", name := "passesWith", desc := "(II)J" } : Jvm.MethodName)) ∈ lw_all := lw_g (lw_at lw_m9 119 rfl) rfl
theorem q2163 : (Jvm.Cond.privateMethod ({ cls := "ExamSlipsModel", name := "passesWith", desc := "(II)J" } : Jvm.MethodName)) ∈ lw_tbl := lw_at lw_m9 120 rfl
theorem q2164 : (Jvm.Cond.instanceMethod ({ cls := "ExamSlipsModel", name := "passesWith", desc := "(II)J" } : Jvm.MethodName)) ∈ lw_all := lw_g (lw_at lw_m9 121 rfl) rfl
theorem q2165 : (Jvm.Cond.code ({ cls := "ExamSlipsModel", name := "passesWith", desc := "(II)J" } : Jvm.MethodName) prog_29_method_73_code (4 : Nat) (Option.some Jvm.ClassFile.FieldType.long)) ∈ lw_all := lw_g (lw_at lw_m9 122 rfl) rfl
theorem q2167 : (Jvm.Cond.instanceMethod ({ cls := "ExamSlipsModel", name := "safe", desc := "()I" } : Jvm.MethodName)) ∈ lw_all := lw_g (lw_at lw_m9 124 rfl) rfl
theorem q2168 : (Jvm.Cond.selects "ExamSlipsModel" ({ cls := "ExamSlipsModel", name := "safe", desc := "()I" } : Jvm.MethodName) ({ cls := "ExamSlipsModel", name := "safe", desc := "()I" } : Jvm.MethodName)) ∈ lw_all := lw_g (lw_at lw_m9 125 rfl) rfl
theorem q2169 : (Jvm.Cond.code ({ cls := "ExamSlipsModel", name := "safe", desc := "()I" } : Jvm.MethodName) prog_29_method_75_code (2 : Nat) (Option.some Jvm.ClassFile.FieldType.int)) ∈ lw_all := lw_g (lw_at lw_m9 126 rfl) rfl
theorem q2171 : (Jvm.Cond.instanceMethod ({ cls := "ExamSlipsModel", name := "worth", desc := "(I)I" } : Jvm.MethodName)) ∈ lw_all := lw_g (lw_at lw_m9 128 rfl) rfl
theorem q2172 : (Jvm.Cond.selects "ExamSlipsModel" ({ cls := "ExamSlipsModel", name := "worth", desc := "(I)I" } : Jvm.MethodName) ({ cls := "ExamSlipsModel", name := "worth", desc := "(I)I" } : Jvm.MethodName)) ∈ lw_all := lw_g (lw_at lw_m9 129 rfl) rfl
theorem q2173 : (Jvm.Cond.code ({ cls := "ExamSlipsModel", name := "worth", desc := "(I)I" } : Jvm.MethodName) prog_29_method_77_code (3 : Nat) (Option.some Jvm.ClassFile.FieldType.int)) ∈ lw_all := lw_g (lw_at lw_m9 130 rfl) rfl
theorem q2174 : (Jvm.Cond.constant "ExamSlipsModel" (370 : Nat) (-10000000 : Int32)) ∈ lw_all := lw_g (lw_at lw_m9 131 rfl) rfl
theorem q2175 : (Jvm.Cond.methodLink "ExamSlipsModel" (371 : Nat) ({ cls := "ExamSlipsModel", name := "millionths", desc := "(JJ)I" } : Jvm.MethodName)) ∈ lw_all := lw_g (lw_at lw_m9 132 rfl) rfl
theorem q2176 : (Jvm.Cond.static ({ cls := "ExamSlipsModel", name := "millionths", desc := "(JJ)I" } : Jvm.MethodName)) ∈ lw_all := lw_g (lw_at lw_m9 133 rfl) rfl
theorem q2177 : (Jvm.Cond.code ({ cls := "ExamSlipsModel", name := "millionths", desc := "(JJ)I" } : Jvm.MethodName) prog_29_method_76_code (9 : Nat) (Option.some Jvm.ClassFile.FieldType.int)) ∈ lw_all := lw_g (lw_at lw_m9 134 rfl) rfl
theorem q2178 : (Jvm.Cond.constantLong "ExamSlipsModel" (368 : Nat) (10 : Int64)) ∈ lw_all := lw_g (lw_at lw_m9 135 rfl) rfl
theorem q2180 : (Jvm.Cond.instanceMethod ({ cls := "ExamSlipsModel", name := "best", desc := "(II)J" } : Jvm.MethodName)) ∈ lw_all := lw_g (lw_at lw_m9 137 rfl) rfl
theorem q2181 : (Jvm.Cond.selects "ExamSlipsModel" ({ cls := "ExamSlipsModel", name := "best", desc := "(II)J" } : Jvm.MethodName) ({ cls := "ExamSlipsModel", name := "best", desc := "(II)J" } : Jvm.MethodName)) ∈ lw_all := lw_g (lw_at lw_m9 138 rfl) rfl
theorem q2182 : (Jvm.Cond.code ({ cls := "ExamSlipsModel", name := "best", desc := "(II)J" } : Jvm.MethodName) prog_29_method_86_code (3 : Nat) (Option.some Jvm.ClassFile.FieldType.long)) ∈ lw_all := lw_g (lw_at lw_m9 139 rfl) rfl
theorem q2183 : (Jvm.Cond.methodLink "ExamSlipsModel" (406 : Nat) ({ cls := "ExamSlipsModel", name := "bests", desc := "(I)V" } : Jvm.MethodName)) ∈ lw_all := lw_g (lw_at lw_m9 140 rfl) rfl
theorem q2184 : (Jvm.Cond.privateMethod ({ cls := "ExamSlipsModel", name := "bests", desc := "(I)V" } : Jvm.MethodName)) ∈ lw_tbl := lw_at lw_m9 141 rfl
theorem q2185 : (Jvm.Cond.instanceMethod ({ cls := "ExamSlipsModel", name := "bests", desc := "(I)V" } : Jvm.MethodName)) ∈ lw_all := lw_g (lw_at lw_m9 142 rfl) rfl
theorem q2186 : (Jvm.Cond.code ({ cls := "ExamSlipsModel", name := "bests", desc := "(I)V" } : Jvm.MethodName) prog_29_method_85_code (4 : Nat) (Option.none : Option Jvm.ClassFile.FieldType)) ∈ lw_all := lw_g (lw_at lw_m9 143 rfl) rfl
theorem q2187 : (Jvm.Cond.methodLink "ExamSlipsModel" (397 : Nat) ({ cls := "ExamSlipsModel", name := "schemes", desc := "()V" } : Jvm.MethodName)) ∈ lw_all := lw_g (lw_at lw_m9 144 rfl) rfl
theorem q2188 : (Jvm.Cond.privateMethod ({ cls := "ExamSlipsModel", name := "schemes", desc := "()V" } : Jvm.MethodName)) ∈ lw_tbl := lw_at lw_m9 145 rfl
theorem q2189 : (Jvm.Cond.instanceMethod ({ cls := "ExamSlipsModel", name := "schemes", desc := "()V" } : Jvm.MethodName)) ∈ lw_all := lw_g (lw_at lw_m9 146 rfl) rfl
theorem q2190 : (Jvm.Cond.code ({ cls := "ExamSlipsModel", name := "schemes", desc := "()V" } : Jvm.MethodName) prog_29_method_82_code (6 : Nat) (Option.none : Option Jvm.ClassFile.FieldType)) ∈ lw_all := lw_g (lw_at lw_m9 147 rfl) rfl
theorem q2191 : (Jvm.Cond.methodLink "ExamSlipsModel" (375 : Nat) ({ cls := "ExamSlipsModel", name := "cell", desc := "(IIII)I" } : Jvm.MethodName)) ∈ lw_all := lw_g (lw_at lw_m9 148 rfl) rfl
theorem q2192 : (Jvm.Cond.static ({ cls := "ExamSlipsModel", name := "cell", desc := "(IIII)I" } : Jvm.MethodName)) ∈ lw_all := lw_g (lw_at lw_m9 149 rfl) rfl
theorem q2193 : (Jvm.Cond.code ({ cls := "ExamSlipsModel", name := "cell", desc := "(IIII)I" } : Jvm.MethodName) prog_29_method_78_code (4 : Nat) (Option.some Jvm.ClassFile.FieldType.int)) ∈ lw_all := lw_g (lw_at lw_m9 150 rfl) rfl
theorem q2194 : (Jvm.Cond.methodLink "ExamSlipsModel" (378 : Nat) ({ cls := "ExamSlipsModel", name := "fewest", desc := "(IIII)I" } : Jvm.MethodName)) ∈ lw_all := lw_g (lw_at lw_m9 151 rfl) rfl
theorem q2195 : (Jvm.Cond.privateMethod ({ cls := "ExamSlipsModel", name := "fewest", desc := "(IIII)I" } : Jvm.MethodName)) ∈ lw_tbl := lw_at lw_m9 152 rfl
theorem q2196 : (Jvm.Cond.instanceMethod ({ cls := "ExamSlipsModel", name := "fewest", desc := "(IIII)I" } : Jvm.MethodName)) ∈ lw_all := lw_g (lw_at lw_m9 153 rfl) rfl
theorem q2197 : (Jvm.Cond.code ({ cls := "ExamSlipsModel", name := "fewest", desc := "(IIII)I" } : Jvm.MethodName) prog_29_method_83_code (8 : Nat) (Option.some Jvm.ClassFile.FieldType.int)) ∈ lw_all := lw_g (lw_at lw_m9 154 rfl) rfl
theorem q2198 : (Jvm.Cond.methodLink "ExamSlipsModel" (384 : Nat) ({ cls := "ExamSlipsModel", name := "helpedBy", desc := "(II)I" } : Jvm.MethodName)) ∈ lw_all := lw_g (lw_at lw_m9 155 rfl) rfl
theorem q2199 : (Jvm.Cond.privateMethod ({ cls := "ExamSlipsModel", name := "helpedBy", desc := "(II)I" } : Jvm.MethodName)) ∈ lw_tbl := lw_at lw_m9 156 rfl
theorem q2200 : (Jvm.Cond.instanceMethod ({ cls := "ExamSlipsModel", name := "helpedBy", desc := "(II)I" } : Jvm.MethodName)) ∈ lw_all := lw_g (lw_at lw_m9 157 rfl) rfl
theorem q2201 : (Jvm.Cond.code ({ cls := "ExamSlipsModel", name := "helpedBy", desc := "(II)I" } : Jvm.MethodName) prog_29_method_79_code (3 : Nat) (Option.some Jvm.ClassFile.FieldType.int)) ∈ lw_all := lw_g (lw_at lw_m9 158 rfl) rfl
theorem q2202 : (Jvm.Cond.methodLink "ExamSlipsModel" (387 : Nat) ({ cls := "ExamSlipsModel", name := "kingsWith", desc := "(II)I" } : Jvm.MethodName)) ∈ lw_all := lw_g (lw_at lw_m9 159 rfl) rfl
theorem q2203 : (Jvm.Cond.privateMethod ({ cls := "ExamSlipsModel", name := "kingsWith", desc := "(II)I" } : Jvm.MethodName)) ∈ lw_tbl := lw_at lw_m9 160 rfl
theorem q2204 : (Jvm.Cond.instanceMethod ({ cls := "ExamSlipsModel", name := "kingsWith", desc := "(II)I" } : Jvm.MethodName)) ∈ lw_all := lw_g (lw_at lw_m9 161 rfl) rfl
theorem q2205 : (Jvm.Cond.code ({ cls := "ExamSlipsModel", name := "kingsWith", desc := "(II)I" } : Jvm.MethodName) prog_29_method_80_code (3 : Nat) (Option.some Jvm.ClassFile.FieldType.int)) ∈ lw_all := lw_g (lw_at lw_m9 162 rfl) rfl
theorem q2206 : (Jvm.Cond.methodLink "ExamSlipsModel" (390 : Nat) ({ cls := "ExamSlipsModel", name := "costOf", desc := "(III)I" } : Jvm.MethodName)) ∈ lw_all := lw_g (lw_at lw_m9 163 rfl) rfl
theorem q2207 : (Jvm.Cond.privateMethod ({ cls := "ExamSlipsModel", name := "costOf", desc := "(III)I" } : Jvm.MethodName)) ∈ lw_tbl := lw_at lw_m9 164 rfl
theorem q2208 : (Jvm.Cond.instanceMethod ({ cls := "ExamSlipsModel", name := "costOf", desc := "(III)I" } : Jvm.MethodName)) ∈ lw_all := lw_g (lw_at lw_m9 165 rfl) rfl
theorem q2209 : (Jvm.Cond.code ({ cls := "ExamSlipsModel", name := "costOf", desc := "(III)I" } : Jvm.MethodName) prog_29_method_81_code (4 : Nat) (Option.some Jvm.ClassFile.FieldType.int)) ∈ lw_all := lw_g (lw_at lw_m9 166 rfl) rfl
theorem q2210 : (Jvm.Cond.methodLink "ExamSlipsModel" (394 : Nat) ({ cls := "ExamSlipsModel", name := "lesser", desc := "(II)I" } : Jvm.MethodName)) ∈ lw_all := lw_g (lw_at lw_m9 167 rfl) rfl
theorem q2211 : (Jvm.Cond.static ({ cls := "ExamSlipsModel", name := "lesser", desc := "(II)I" } : Jvm.MethodName)) ∈ lw_all := lw_g (lw_at lw_m9 168 rfl) rfl
theorem q2212 : (Jvm.Cond.code ({ cls := "ExamSlipsModel", name := "lesser", desc := "(II)I" } : Jvm.MethodName) prog_29_method_84_code (2 : Nat) (Option.some Jvm.ClassFile.FieldType.int)) ∈ lw_all := lw_g (lw_at lw_m9 169 rfl) rfl
theorem q2214 : (Jvm.Cond.instanceMethod ({ cls := "ExamSlipsModel", name := "level", desc := "(II)I" } : Jvm.MethodName)) ∈ lw_all := lw_g (lw_at lw_m9 171 rfl) rfl
theorem q2215 : (Jvm.Cond.selects "ExamSlipsModel" ({ cls := "ExamSlipsModel", name := "level", desc := "(II)I" } : Jvm.MethodName) ({ cls := "ExamSlipsModel", name := "level", desc := "(II)I" } : Jvm.MethodName)) ∈ lw_all := lw_g (lw_at lw_m9 172 rfl) rfl
theorem q2216 : (Jvm.Cond.code ({ cls := "ExamSlipsModel", name := "level", desc := "(II)I" } : Jvm.MethodName) prog_29_method_89_code (3 : Nat) (Option.some Jvm.ClassFile.FieldType.int)) ∈ lw_all := lw_g (lw_at lw_m9 173 rfl) rfl
theorem q2217 : (Jvm.Cond.methodLink "ExamSlipsModel" (413 : Nat) ({ cls := "ExamSlipsModel", name := "firsts", desc := "(I)V" } : Jvm.MethodName)) ∈ lw_all := lw_g (lw_at lw_m9 174 rfl) rfl
theorem q2218 : (Jvm.Cond.privateMethod ({ cls := "ExamSlipsModel", name := "firsts", desc := "(I)V" } : Jvm.MethodName)) ∈ lw_tbl := lw_at lw_m9 175 rfl
theorem q2219 : (Jvm.Cond.instanceMethod ({ cls := "ExamSlipsModel", name := "firsts", desc := "(I)V" } : Jvm.MethodName)) ∈ lw_all := lw_g (lw_at lw_m9 176 rfl) rfl
theorem q2220 : (Jvm.Cond.code ({ cls := "ExamSlipsModel", name := "firsts", desc := "(I)V" } : Jvm.MethodName) prog_29_method_88_code (9 : Nat) (Option.none : Option Jvm.ClassFile.FieldType)) ∈ lw_all := lw_g (lw_at lw_m9 177 rfl) rfl
theorem q2221 : (Jvm.Cond.methodLink "ExamSlipsModel" (409 : Nat) ({ cls := "ExamSlipsModel", name := "canBe", desc := "(IIIII)Z" } : Jvm.MethodName)) ∈ lw_all := lw_g (lw_at lw_m9 178 rfl) rfl
theorem q2222 : (Jvm.Cond.privateMethod ({ cls := "ExamSlipsModel", name := "canBe", desc := "(IIIII)Z" } : Jvm.MethodName)) ∈ lw_tbl := lw_at lw_m9 179 rfl
theorem q2223 : (Jvm.Cond.instanceMethod ({ cls := "ExamSlipsModel", name := "canBe", desc := "(IIIII)Z" } : Jvm.MethodName)) ∈ lw_all := lw_g (lw_at lw_m9 180 rfl) rfl
theorem q2224 : (Jvm.Cond.code ({ cls := "ExamSlipsModel", name := "canBe", desc := "(IIIII)Z" } : Jvm.MethodName) prog_29_method_87_code (9 : Nat) (Option.some Jvm.ClassFile.FieldType.boolean)) ∈ lw_all := lw_g (lw_at lw_m9 181 rfl) rfl
theorem q2226 : (Jvm.Cond.instanceMethod ({ cls := "ExamSlipsModel", name := "enough", desc := "(I)I" } : Jvm.MethodName)) ∈ lw_all := lw_g (lw_at lw_m9 183 rfl) rfl
theorem q2227 : (Jvm.Cond.selects "ExamSlipsModel" ({ cls := "ExamSlipsModel", name := "enough", desc := "(I)I" } : Jvm.MethodName) ({ cls := "ExamSlipsModel", name := "enough", desc := "(I)I" } : Jvm.MethodName)) ∈ lw_all := lw_g (lw_at lw_m9 184 rfl) rfl
theorem q2228 : (Jvm.Cond.code ({ cls := "ExamSlipsModel", name := "enough", desc := "(I)I" } : Jvm.MethodName) prog_29_method_90_code (4 : Nat) (Option.some Jvm.ClassFile.FieldType.int)) ∈ lw_all := lw_g (lw_at lw_m9 185 rfl) rfl
theorem q2230 : (Jvm.Cond.instanceMethod ({ cls := "ExamSlipsModel", name := "lesson", desc := "(II)I" } : Jvm.MethodName)) ∈ lw_all := lw_g (lw_at lw_m9 187 rfl) rfl
theorem q2231 : (Jvm.Cond.selects "ExamSlipsModel" ({ cls := "ExamSlipsModel", name := "lesson", desc := "(II)I" } : Jvm.MethodName) ({ cls := "ExamSlipsModel", name := "lesson", desc := "(II)I" } : Jvm.MethodName)) ∈ lw_all := lw_g (lw_at lw_m9 188 rfl) rfl
theorem q2232 : (Jvm.Cond.code ({ cls := "ExamSlipsModel", name := "lesson", desc := "(II)I" } : Jvm.MethodName) prog_29_method_91_code (4 : Nat) (Option.some Jvm.ClassFile.FieldType.int)) ∈ lw_all := lw_g (lw_at lw_m9 189 rfl) rfl
theorem q2234 : (Jvm.Cond.instanceMethod ({ cls := "ExamSlipsModel", name := "clear", desc := "()I" } : Jvm.MethodName)) ∈ lw_all := lw_g (lw_at lw_m9 191 rfl) rfl
theorem q2235 : (Jvm.Cond.selects "ExamSlipsModel" ({ cls := "ExamSlipsModel", name := "clear", desc := "()I" } : Jvm.MethodName) ({ cls := "ExamSlipsModel", name := "clear", desc := "()I" } : Jvm.MethodName)) ∈ lw_all := lw_g (lw_at lw_m9 192 rfl) rfl
theorem q2236 : (Jvm.Cond.code ({ cls := "ExamSlipsModel", name := "clear", desc := "()I" } : Jvm.MethodName) prog_29_method_92_code (2 : Nat) (Option.some Jvm.ClassFile.FieldType.int)) ∈ lw_all := lw_g (lw_at lw_m9 193 rfl) rfl
theorem q2238 : (Jvm.Cond.instanceMethod ({ cls := "ExamSlipsModel", name := "behind", desc := "(II)I" } : Jvm.MethodName)) ∈ lw_all := lw_g (lw_at lw_m9 195 rfl) rfl
theorem q2239 : (Jvm.Cond.selects "ExamSlipsModel" ({ cls := "ExamSlipsModel", name := "behind", desc := "(II)I" } : Jvm.MethodName) ({ cls := "ExamSlipsModel", name := "behind", desc := "(II)I" } : Jvm.MethodName)) ∈ lw_all := lw_g (lw_at lw_m9 196 rfl) rfl
theorem q2240 : (Jvm.Cond.code ({ cls := "ExamSlipsModel", name := "behind", desc := "(II)I" } : Jvm.MethodName) prog_29_method_96_code (3 : Nat) (Option.some Jvm.ClassFile.FieldType.int)) ∈ lw_all := lw_g (lw_at lw_m9 197 rfl) rfl
theorem q2241 : (Jvm.Cond.methodLink "ExamSlipsModel" (431 : Nat) ({ cls := "ExamSlipsModel", name := "lives", desc := "()V" } : Jvm.MethodName)) ∈ lw_all := lw_g (lw_at lw_m9 198 rfl) rfl
theorem q2242 : (Jvm.Cond.privateMethod ({ cls := "ExamSlipsModel", name := "lives", desc := "()V" } : Jvm.MethodName)) ∈ lw_tbl := lw_at lw_m9 199 rfl
theorem q2243 : (Jvm.Cond.instanceMethod ({ cls := "ExamSlipsModel", name := "lives", desc := "()V" } : Jvm.MethodName)) ∈ lw_all := lw_g (lw_at lw_m9 200 rfl) rfl
theorem q2244 : (Jvm.Cond.code ({ cls := "ExamSlipsModel", name := "lives", desc := "()V" } : Jvm.MethodName) prog_29_method_94_code (3 : Nat) (Option.none : Option Jvm.ClassFile.FieldType)) ∈ lw_all := lw_g (lw_at lw_m9 201 rfl) rfl
theorem q2245 : (Jvm.Cond.methodLink "ExamSlipsModel" (425 : Nat) ({ cls := "ExamSlipsModel", name := "learns", desc := "(I)V" } : Jvm.MethodName)) ∈ lw_all := lw_g (lw_at lw_m9 202 rfl) rfl
theorem q2246 : (Jvm.Cond.privateMethod ({ cls := "ExamSlipsModel", name := "learns", desc := "(I)V" } : Jvm.MethodName)) ∈ lw_tbl := lw_at lw_m9 203 rfl
theorem q2247 : (Jvm.Cond.instanceMethod ({ cls := "ExamSlipsModel", name := "learns", desc := "(I)V" } : Jvm.MethodName)) ∈ lw_all := lw_g (lw_at lw_m9 204 rfl) rfl
theorem q2248 : (Jvm.Cond.code ({ cls := "ExamSlipsModel", name := "learns", desc := "(I)V" } : Jvm.MethodName) prog_29_method_95_code (7 : Nat) (Option.none : Option Jvm.ClassFile.FieldType)) ∈ lw_all := lw_g (lw_at lw_m9 205 rfl) rfl
theorem q2249 : (Jvm.Cond.methodLink "ExamSlipsModel" (428 : Nat) ({ cls := "ExamSlipsModel", name := "isHelped", desc := "(I)Z" } : Jvm.MethodName)) ∈ lw_all := lw_g (lw_at lw_m9 206 rfl) rfl
theorem q2250 : (Jvm.Cond.privateMethod ({ cls := "ExamSlipsModel", name := "isHelped", desc := "(I)Z" } : Jvm.MethodName)) ∈ lw_tbl := lw_at lw_m9 207 rfl
theorem q2251 : (Jvm.Cond.instanceMethod ({ cls := "ExamSlipsModel", name := "isHelped", desc := "(I)Z" } : Jvm.MethodName)) ∈ lw_all := lw_g (lw_at lw_m9 208 rfl) rfl
theorem q2252 : (Jvm.Cond.code ({ cls := "ExamSlipsModel", name := "isHelped", desc := "(I)Z" } : Jvm.MethodName) prog_29_method_93_code (4 : Nat) (Option.some Jvm.ClassFile.FieldType.boolean)) ∈ lw_all := lw_g (lw_at lw_m9 209 rfl) rfl
theorem q2254 : (Jvm.Cond.instanceMethod ({ cls := "ExamSlipsModel", name := "judge", desc := "(I)I" } : Jvm.MethodName)) ∈ lw_all := lw_g (lw_at lw_m9 211 rfl) rfl
theorem q2255 : (Jvm.Cond.selects "ExamSlipsModel" ({ cls := "ExamSlipsModel", name := "judge", desc := "(I)I" } : Jvm.MethodName) ({ cls := "ExamSlipsModel", name := "judge", desc := "(I)I" } : Jvm.MethodName)) ∈ lw_all := lw_g (lw_at lw_m9 212 rfl) rfl
theorem q2256 : (Jvm.Cond.code ({ cls := "ExamSlipsModel", name := "judge", desc := "(I)I" } : Jvm.MethodName) prog_29_method_97_code (2 : Nat) (Option.some Jvm.ClassFile.FieldType.int)) ∈ lw_all := lw_g (lw_at lw_m9 213 rfl) rfl
theorem q2258 : (Jvm.Cond.instanceMethod ({ cls := "ExamSlipsModel", name := "learn", desc := "()I" } : Jvm.MethodName)) ∈ lw_all := lw_g (lw_at lw_m9 215 rfl) rfl
theorem q2259 : (Jvm.Cond.selects "ExamSlipsModel" ({ cls := "ExamSlipsModel", name := "learn", desc := "()I" } : Jvm.MethodName) ({ cls := "ExamSlipsModel", name := "learn", desc := "()I" } : Jvm.MethodName)) ∈ lw_all := lw_g (lw_at lw_m9 216 rfl) rfl
theorem q2260 : (Jvm.Cond.code ({ cls := "ExamSlipsModel", name := "learn", desc := "()I" } : Jvm.MethodName) prog_29_method_98_code (3 : Nat) (Option.some Jvm.ClassFile.FieldType.int)) ∈ lw_all := lw_g (lw_at lw_m9 217 rfl) rfl
theorem q2262 : (Jvm.Cond.instanceMethod ({ cls := "ExamSlipsModel", name := "backward", desc := "(II)I" } : Jvm.MethodName)) ∈ lw_all := lw_g (lw_at lw_m9 219 rfl) rfl
theorem q2263 : (Jvm.Cond.selects "ExamSlipsModel" ({ cls := "ExamSlipsModel", name := "backward", desc := "(II)I" } : Jvm.MethodName) ({ cls := "ExamSlipsModel", name := "backward", desc := "(II)I" } : Jvm.MethodName)) ∈ lw_all := lw_g (lw_at lw_m9 220 rfl) rfl
theorem q2264 : (Jvm.Cond.code ({ cls := "ExamSlipsModel", name := "backward", desc := "(II)I" } : Jvm.MethodName) prog_29_method_101_code (3 : Nat) (Option.some Jvm.ClassFile.FieldType.int)) ∈ lw_all := lw_g (lw_at lw_m9 221 rfl) rfl
theorem q2265 : (Jvm.Cond.methodLink "ExamSlipsModel" (450 : Nat) ({ cls := "ExamSlipsModel", name := "laysBackward", desc := "()V" } : Jvm.MethodName)) ∈ lw_all := lw_g (lw_at lw_m9 222 rfl) rfl
theorem q2266 : (Jvm.Cond.privateMethod ({ cls := "ExamSlipsModel", name := "laysBackward", desc := "()V" } : Jvm.MethodName)) ∈ lw_tbl := lw_at lw_m9 223 rfl
theorem q2267 : (Jvm.Cond.instanceMethod ({ cls := "ExamSlipsModel", name := "laysBackward", desc := "()V" } : Jvm.MethodName)) ∈ lw_all := lw_g (lw_at lw_m9 224 rfl) rfl
theorem q2268 : (Jvm.Cond.code ({ cls := "ExamSlipsModel", name := "laysBackward", desc := "()V" } : Jvm.MethodName) prog_29_method_100_code (5 : Nat) (Option.none : Option Jvm.ClassFile.FieldType)) ∈ lw_all := lw_g (lw_at lw_m9 225 rfl) rfl
theorem q2269 : (Jvm.Cond.methodLink "ExamSlipsModel" (446 : Nat) ({ cls := "ExamSlipsModel", name := "laysLesson", desc := "(III)V" } : Jvm.MethodName)) ∈ lw_all := lw_g (lw_at lw_m9 226 rfl) rfl
theorem q2270 : (Jvm.Cond.privateMethod ({ cls := "ExamSlipsModel", name := "laysLesson", desc := "(III)V" } : Jvm.MethodName)) ∈ lw_tbl := lw_at lw_m9 227 rfl
theorem q2271 : (Jvm.Cond.instanceMethod ({ cls := "ExamSlipsModel", name := "laysLesson", desc := "(III)V" } : Jvm.MethodName)) ∈ lw_all := lw_g (lw_at lw_m9 228 rfl) rfl
theorem q2272 : (Jvm.Cond.code ({ cls := "ExamSlipsModel", name := "laysLesson", desc := "(III)V" } : Jvm.MethodName) prog_29_method_99_code (4 : Nat) (Option.none : Option Jvm.ClassFile.FieldType)) ∈ lw_all := lw_g (lw_at lw_m9 229 rfl) rfl
theorem q2274 : (Jvm.Cond.instanceMethod ({ cls := "ExamSlipsModel", name := "friend", desc := "(II)I" } : Jvm.MethodName)) ∈ lw_all := lw_g (lw_at lw_m9 231 rfl) rfl
theorem q2275 : (Jvm.Cond.selects "ExamSlipsModel" ({ cls := "ExamSlipsModel", name := "friend", desc := "(II)I" } : Jvm.MethodName) ({ cls := "ExamSlipsModel", name := "friend", desc := "(II)I" } : Jvm.MethodName)) ∈ lw_all := lw_g (lw_at lw_m9 232 rfl) rfl
theorem q2276 : (Jvm.Cond.code ({ cls := "ExamSlipsModel", name := "friend", desc := "(II)I" } : Jvm.MethodName) prog_29_method_102_code (3 : Nat) (Option.some Jvm.ClassFile.FieldType.int)) ∈ lw_all := lw_g (lw_at lw_m9 233 rfl) rfl
theorem q2278 : (Jvm.Cond.instanceMethod ({ cls := "ExamSlipsModel", name := "share", desc := "(I)I" } : Jvm.MethodName)) ∈ lw_all := lw_g (lw_at lw_m9 235 rfl) rfl
theorem q2279 : (Jvm.Cond.selects "ExamSlipsModel" ({ cls := "ExamSlipsModel", name := "share", desc := "(I)I" } : Jvm.MethodName) ({ cls := "ExamSlipsModel", name := "share", desc := "(I)I" } : Jvm.MethodName)) ∈ lw_all := lw_g (lw_at lw_m9 236 rfl) rfl
theorem q2280 : (Jvm.Cond.code ({ cls := "ExamSlipsModel", name := "share", desc := "(I)I" } : Jvm.MethodName) prog_29_method_104_code (3 : Nat) (Option.some Jvm.ClassFile.FieldType.int)) ∈ lw_all := lw_g (lw_at lw_m9 237 rfl) rfl
theorem q2281 : (Jvm.Cond.methodLink "ExamSlipsModel" (459 : Nat) ({ cls := "ExamSlipsModel", name := "shares", desc := "(II)V" } : Jvm.MethodName)) ∈ lw_all := lw_g (lw_at lw_m9 238 rfl) rfl
theorem q2282 : (Jvm.Cond.privateMethod ({ cls := "ExamSlipsModel", name := "shares", desc := "(II)V" } : Jvm.MethodName)) ∈ lw_tbl := lw_at lw_m9 239 rfl
theorem q2283 : (Jvm.Cond.instanceMethod ({ cls := "ExamSlipsModel", name := "shares", desc := "(II)V" } : Jvm.MethodName)) ∈ lw_all := lw_g (lw_at lw_m10 0 rfl) rfl
theorem q2284 : (Jvm.Cond.code ({ cls := "ExamSlipsModel", name := "shares", desc := "(II)V" } : Jvm.MethodName) prog_29_method_103_code (4 : Nat) (Option.none : Option Jvm.ClassFile.FieldType)) ∈ lw_all := lw_g (lw_at lw_m10 1 rfl) rfl
theorem q2286 : (Jvm.Cond.instanceMethod ({ cls := "ExamSlipsModel", name := "ill", desc := "(II)I" } : Jvm.MethodName)) ∈ lw_all := lw_g (lw_at lw_m10 3 rfl) rfl
theorem q2287 : (Jvm.Cond.selects "ExamSlipsModel" ({ cls := "ExamSlipsModel", name := "ill", desc := "(II)I" } : Jvm.MethodName) ({ cls := "ExamSlipsModel", name := "ill", desc := "(II)I" } : Jvm.MethodName)) ∈ lw_all := lw_g (lw_at lw_m10 4 rfl) rfl
theorem q2288 : (Jvm.Cond.code ({ cls := "ExamSlipsModel", name := "ill", desc := "(II)I" } : Jvm.MethodName) prog_29_method_105_code (11 : Nat) (Option.some Jvm.ClassFile.FieldType.int)) ∈ lw_all := lw_g (lw_at lw_m10 5 rfl) rfl
theorem q2290 : (Jvm.Cond.instanceMethod ({ cls := "ExamSlipsModel", name := "year", desc := "(I)I" } : Jvm.MethodName)) ∈ lw_all := lw_g (lw_at lw_m10 7 rfl) rfl
theorem q2291 : (Jvm.Cond.selects "ExamSlipsModel" ({ cls := "ExamSlipsModel", name := "year", desc := "(I)I" } : Jvm.MethodName) ({ cls := "ExamSlipsModel", name := "year", desc := "(I)I" } : Jvm.MethodName)) ∈ lw_all := lw_g (lw_at lw_m10 8 rfl) rfl
theorem q2292 : (Jvm.Cond.code ({ cls := "ExamSlipsModel", name := "year", desc := "(I)I" } : Jvm.MethodName) prog_29_method_106_code (2 : Nat) (Option.some Jvm.ClassFile.FieldType.int)) ∈ lw_all := lw_g (lw_at lw_m10 9 rfl) rfl
theorem q2294 : (Jvm.Cond.instanceMethod ({ cls := "ExamSlipsModel", name := "row", desc := "()I" } : Jvm.MethodName)) ∈ lw_all := lw_g (lw_at lw_m10 11 rfl) rfl
theorem q2295 : (Jvm.Cond.selects "ExamSlipsModel" ({ cls := "ExamSlipsModel", name := "row", desc := "()I" } : Jvm.MethodName) ({ cls := "ExamSlipsModel", name := "row", desc := "()I" } : Jvm.MethodName)) ∈ lw_all := lw_g (lw_at lw_m10 12 rfl) rfl
theorem q2296 : (Jvm.Cond.code ({ cls := "ExamSlipsModel", name := "row", desc := "()I" } : Jvm.MethodName) prog_29_method_107_code (6 : Nat) (Option.some Jvm.ClassFile.FieldType.int)) ∈ lw_all := lw_g (lw_at lw_m10 13 rfl) rfl
theorem q2298 : (Jvm.Cond.instanceMethod ({ cls := "ExamSlipsModel", name := "lost", desc := "()I" } : Jvm.MethodName)) ∈ lw_all := lw_g (lw_at lw_m10 15 rfl) rfl
theorem q2299 : (Jvm.Cond.selects "ExamSlipsModel" ({ cls := "ExamSlipsModel", name := "lost", desc := "()I" } : Jvm.MethodName) ({ cls := "ExamSlipsModel", name := "lost", desc := "()I" } : Jvm.MethodName)) ∈ lw_all := lw_g (lw_at lw_m10 16 rfl) rfl
theorem q2300 : (Jvm.Cond.code ({ cls := "ExamSlipsModel", name := "lost", desc := "()I" } : Jvm.MethodName) prog_29_method_108_code (1 : Nat) (Option.some Jvm.ClassFile.FieldType.int)) ∈ lw_all := lw_g (lw_at lw_m10 17 rfl) rfl
theorem q2302 : (Jvm.Cond.instanceMethod ({ cls := "ExamSlipsModel", name := "drawn", desc := "(II)I" } : Jvm.MethodName)) ∈ lw_all := lw_g (lw_at lw_m10 19 rfl) rfl
theorem q2303 : (Jvm.Cond.selects "ExamSlipsModel" ({ cls := "ExamSlipsModel", name := "drawn", desc := "(II)I" } : Jvm.MethodName) ({ cls := "ExamSlipsModel", name := "drawn", desc := "(II)I" } : Jvm.MethodName)) ∈ lw_all := lw_g (lw_at lw_m10 20 rfl) rfl
theorem q2304 : (Jvm.Cond.code ({ cls := "ExamSlipsModel", name := "drawn", desc := "(II)I" } : Jvm.MethodName) prog_29_method_110_code (4 : Nat) (Option.some Jvm.ClassFile.FieldType.int)) ∈ lw_all := lw_g (lw_at lw_m10 21 rfl) rfl
theorem q2305 : (Jvm.Cond.methodLink "ExamSlipsModel" (465 : Nat) ({ cls := "ExamSlipsModel", name := "drawnTimes", desc := "(I)I" } : Jvm.MethodName)) ∈ lw_all := lw_g (lw_at lw_m10 22 rfl) rfl
theorem q2306 : (Jvm.Cond.privateMethod ({ cls := "ExamSlipsModel", name := "drawnTimes", desc := "(I)I" } : Jvm.MethodName)) ∈ lw_tbl := lw_at lw_m10 23 rfl
theorem q2307 : (Jvm.Cond.instanceMethod ({ cls := "ExamSlipsModel", name := "drawnTimes", desc := "(I)I" } : Jvm.MethodName)) ∈ lw_all := lw_g (lw_at lw_m10 24 rfl) rfl
theorem q2308 : (Jvm.Cond.code ({ cls := "ExamSlipsModel", name := "drawnTimes", desc := "(I)I" } : Jvm.MethodName) prog_29_method_109_code (4 : Nat) (Option.some Jvm.ClassFile.FieldType.int)) ∈ lw_all := lw_g (lw_at lw_m10 25 rfl) rfl
theorem q2310 : (Jvm.Cond.instanceMethod ({ cls := "ExamSlipsModel", name := "seldom", desc := "(I)I" } : Jvm.MethodName)) ∈ lw_all := lw_g (lw_at lw_m10 27 rfl) rfl
theorem q2311 : (Jvm.Cond.selects "ExamSlipsModel" ({ cls := "ExamSlipsModel", name := "seldom", desc := "(I)I" } : Jvm.MethodName) ({ cls := "ExamSlipsModel", name := "seldom", desc := "(I)I" } : Jvm.MethodName)) ∈ lw_all := lw_g (lw_at lw_m10 28 rfl) rfl
theorem q2312 : (Jvm.Cond.code ({ cls := "ExamSlipsModel", name := "seldom", desc := "(I)I" } : Jvm.MethodName) prog_29_method_117_code (4 : Nat) (Option.some Jvm.ClassFile.FieldType.int)) ∈ lw_all := lw_g (lw_at lw_m10 29 rfl) rfl
theorem q2313 : (Jvm.Cond.methodLink "ExamSlipsModel" (490 : Nat) ({ cls := "ExamSlipsModel", name := "seldomOf", desc := "(I)I" } : Jvm.MethodName)) ∈ lw_all := lw_g (lw_at lw_m10 30 rfl) rfl
theorem q2314 : (Jvm.Cond.privateMethod ({ cls := "ExamSlipsModel", name := "seldomOf", desc := "(I)I" } : Jvm.MethodName)) ∈ lw_tbl := lw_at lw_m10 31 rfl
theorem q2315 : (Jvm.Cond.instanceMethod ({ cls := "ExamSlipsModel", name := "seldomOf", desc := "(I)I" } : Jvm.MethodName)) ∈ lw_all := lw_g (lw_at lw_m10 32 rfl) rfl
theorem q2316 : (Jvm.Cond.code ({ cls := "ExamSlipsModel", name := "seldomOf", desc := "(I)I" } : Jvm.MethodName) prog_29_method_116_code (8 : Nat) (Option.some Jvm.ClassFile.FieldType.int)) ∈ lw_all := lw_g (lw_at lw_m10 33 rfl) rfl
theorem q2317 : (Jvm.Cond.methodLink "ExamSlipsModel" (470 : Nat) ({ cls := "ExamSlipsModel", name := "be", desc := "([JJ)V" } : Jvm.MethodName)) ∈ lw_all := lw_g (lw_at lw_m10 34 rfl) rfl
theorem q2318 : (Jvm.Cond.static ({ cls := "ExamSlipsModel", name := "be", desc := "([JJ)V" } : Jvm.MethodName)) ∈ lw_all := lw_g (lw_at lw_m10 35 rfl) rfl
theorem q2319 : (Jvm.Cond.code ({ cls := "ExamSlipsModel", name := "be", desc := "([JJ)V" } : Jvm.MethodName) prog_29_method_111_code (4 : Nat) (Option.none : Option Jvm.ClassFile.FieldType)) ∈ lw_all := lw_g (lw_at lw_m10 36 rfl) rfl
theorem q2320 : (Jvm.Cond.methodLink "ExamSlipsModel" (474 : Nat) ({ cls := "ExamSlipsModel", name := "makes", desc := "([JII)V" } : Jvm.MethodName)) ∈ lw_all := lw_g (lw_at lw_m10 37 rfl) rfl
theorem q2321 : (Jvm.Cond.static ({ cls := "ExamSlipsModel", name := "makes", desc := "([JII)V" } : Jvm.MethodName)) ∈ lw_all := lw_g (lw_at lw_m10 38 rfl) rfl
theorem q2322 : (Jvm.Cond.code ({ cls := "ExamSlipsModel", name := "makes", desc := "([JII)V" } : Jvm.MethodName) prog_29_method_112_code (9 : Nat) (Option.none : Option Jvm.ClassFile.FieldType)) ∈ lw_all := lw_g (lw_at lw_m10 39 rfl) rfl
theorem q2323 : (Jvm.Cond.constantLong "ExamSlipsModel" (468 : Nat) (100000000 : Int64)) ∈ lw_all := lw_g (lw_at lw_m10 40 rfl) rfl
theorem q2324 : (Jvm.Cond.methodLink "ExamSlipsModel" (478 : Nat) ({ cls := "ExamSlipsModel", name := "shares1", desc := "([JI)V" } : Jvm.MethodName)) ∈ lw_all := lw_g (lw_at lw_m10 41 rfl) rfl
theorem q2325 : (Jvm.Cond.static ({ cls := "ExamSlipsModel", name := "shares1", desc := "([JI)V" } : Jvm.MethodName)) ∈ lw_all := lw_g (lw_at lw_m10 42 rfl) rfl
theorem q2326 : (Jvm.Cond.code ({ cls := "ExamSlipsModel", name := "shares1", desc := "([JI)V" } : Jvm.MethodName) prog_29_method_114_code (7 : Nat) (Option.none : Option Jvm.ClassFile.FieldType)) ∈ lw_all := lw_g (lw_at lw_m10 43 rfl) rfl
theorem q2327 : (Jvm.Cond.methodLink "ExamSlipsModel" (482 : Nat) ({ cls := "ExamSlipsModel", name := "adds", desc := "([J[J)V" } : Jvm.MethodName)) ∈ lw_all := lw_g (lw_at lw_m10 44 rfl) rfl
theorem q2328 : (Jvm.Cond.static ({ cls := "ExamSlipsModel", name := "adds", desc := "([J[J)V" } : Jvm.MethodName)) ∈ lw_all := lw_g (lw_at lw_m10 45 rfl) rfl
theorem q2329 : (Jvm.Cond.code ({ cls := "ExamSlipsModel", name := "adds", desc := "([J[J)V" } : Jvm.MethodName) prog_29_method_113_code (7 : Nat) (Option.none : Option Jvm.ClassFile.FieldType)) ∈ lw_all := lw_g (lw_at lw_m10 46 rfl) rfl
theorem q2330 : (Jvm.Cond.methodLink "ExamSlipsModel" (486 : Nat) ({ cls := "ExamSlipsModel", name := "order", desc := "([J[J)I" } : Jvm.MethodName)) ∈ lw_all := lw_g (lw_at lw_m10 47 rfl) rfl
theorem q2331 : (Jvm.Cond.static ({ cls := "ExamSlipsModel", name := "order", desc := "([J[J)I" } : Jvm.MethodName)) ∈ lw_all := lw_g (lw_at lw_m10 48 rfl) rfl
theorem q2332 : (Jvm.Cond.code ({ cls := "ExamSlipsModel", name := "order", desc := "([J[J)I" } : Jvm.MethodName) prog_29_method_115_code (3 : Nat) (Option.some Jvm.ClassFile.FieldType.int)) ∈ lw_all := lw_g (lw_at lw_m10 49 rfl) rfl
theorem q2334 : (Jvm.Cond.instanceMethod ({ cls := "ExamSlipsModel", name := "exam", desc := "(I)I" } : Jvm.MethodName)) ∈ lw_all := lw_g (lw_at lw_m10 51 rfl) rfl
theorem q2335 : (Jvm.Cond.selects "ExamSlipsModel" ({ cls := "ExamSlipsModel", name := "exam", desc := "(I)I" } : Jvm.MethodName) ({ cls := "ExamSlipsModel", name := "exam", desc := "(I)I" } : Jvm.MethodName)) ∈ lw_all := lw_g (lw_at lw_m10 52 rfl) rfl
theorem q2336 : (Jvm.Cond.code ({ cls := "ExamSlipsModel", name := "exam", desc := "(I)I" } : Jvm.MethodName) prog_29_method_122_code (3 : Nat) (Option.some Jvm.ClassFile.FieldType.int)) ∈ lw_all := lw_g (lw_at lw_m10 53 rfl) rfl
theorem q2337 : (Jvm.Cond.methodLink "ExamSlipsModel" (520 : Nat) ({ cls := "ExamSlipsModel", name := "goes", desc := "()I" } : Jvm.MethodName)) ∈ lw_all := lw_g (lw_at lw_m10 54 rfl) rfl
theorem q2338 : (Jvm.Cond.privateMethod ({ cls := "ExamSlipsModel", name := "goes", desc := "()I" } : Jvm.MethodName)) ∈ lw_tbl := lw_at lw_m10 55 rfl
theorem q2339 : (Jvm.Cond.instanceMethod ({ cls := "ExamSlipsModel", name := "goes", desc := "()I" } : Jvm.MethodName)) ∈ lw_all := lw_g (lw_at lw_m10 56 rfl) rfl
theorem q2340 : (Jvm.Cond.code ({ cls := "ExamSlipsModel", name := "goes", desc := "()I" } : Jvm.MethodName) prog_29_method_121_code (10 : Nat) (Option.some Jvm.ClassFile.FieldType.int)) ∈ lw_all := lw_g (lw_at lw_m10 57 rfl) rfl
theorem q2341 : (Jvm.Cond.methodLink "ExamSlipsModel" (502 : Nat) ({ cls := "ExamSlipsModel", name := "ones", desc := "(I)I" } : Jvm.MethodName)) ∈ lw_all := lw_g (lw_at lw_m10 58 rfl) rfl
theorem q2342 : (Jvm.Cond.static ({ cls := "ExamSlipsModel", name := "ones", desc := "(I)I" } : Jvm.MethodName)) ∈ lw_all := lw_g (lw_at lw_m10 59 rfl) rfl
theorem q2343 : (Jvm.Cond.code ({ cls := "ExamSlipsModel", name := "ones", desc := "(I)I" } : Jvm.MethodName) prog_29_method_120_code (3 : Nat) (Option.some Jvm.ClassFile.FieldType.int)) ∈ lw_all := lw_g (lw_at lw_m10 60 rfl) rfl
theorem q2344 : (Jvm.Cond.methodLink "ExamSlipsModel" (508 : Nat) ({ cls := "ExamSlipsModel", name := "draws", desc := "(I)I" } : Jvm.MethodName)) ∈ lw_all := lw_g (lw_at lw_m10 61 rfl) rfl
theorem q2345 : (Jvm.Cond.privateMethod ({ cls := "ExamSlipsModel", name := "draws", desc := "(I)I" } : Jvm.MethodName)) ∈ lw_tbl := lw_at lw_m10 62 rfl
theorem q2346 : (Jvm.Cond.instanceMethod ({ cls := "ExamSlipsModel", name := "draws", desc := "(I)I" } : Jvm.MethodName)) ∈ lw_all := lw_g (lw_at lw_m10 63 rfl) rfl
theorem q2347 : (Jvm.Cond.code ({ cls := "ExamSlipsModel", name := "draws", desc := "(I)I" } : Jvm.MethodName) prog_29_method_118_code (2 : Nat) (Option.some Jvm.ClassFile.FieldType.int)) ∈ lw_all := lw_g (lw_at lw_m10 64 rfl) rfl
theorem q2348 : (Jvm.Cond.constantLong "ExamSlipsModel" (493 : Nat) (1103 : Int64)) ∈ lw_all := lw_g (lw_at lw_m10 65 rfl) rfl
theorem q2349 : (Jvm.Cond.constantLong "ExamSlipsModel" (498 : Nat) (12345 : Int64)) ∈ lw_all := lw_g (lw_at lw_m10 66 rfl) rfl
theorem q2350 : (Jvm.Cond.constantLong "ExamSlipsModel" (500 : Nat) (1000003 : Int64)) ∈ lw_all := lw_g (lw_at lw_m10 67 rfl) rfl
theorem q2351 : (Jvm.Cond.methodLink "ExamSlipsModel" (511 : Nat) ({ cls := "ExamSlipsModel", name := "nth", desc := "(II)I" } : Jvm.MethodName)) ∈ lw_all := lw_g (lw_at lw_m10 68 rfl) rfl
theorem q2352 : (Jvm.Cond.static ({ cls := "ExamSlipsModel", name := "nth", desc := "(II)I" } : Jvm.MethodName)) ∈ lw_all := lw_g (lw_at lw_m10 69 rfl) rfl
theorem q2353 : (Jvm.Cond.code ({ cls := "ExamSlipsModel", name := "nth", desc := "(II)I" } : Jvm.MethodName) prog_29_method_119_code (4 : Nat) (Option.some Jvm.ClassFile.FieldType.int)) ∈ lw_all := lw_g (lw_at lw_m10 70 rfl) rfl
theorem q2355 : (Jvm.Cond.instanceMethod ({ cls := "ExamSlipsModel", name := "table", desc := "(I)I" } : Jvm.MethodName)) ∈ lw_all := lw_g (lw_at lw_m10 72 rfl) rfl
theorem q2356 : (Jvm.Cond.selects "ExamSlipsModel" ({ cls := "ExamSlipsModel", name := "table", desc := "(I)I" } : Jvm.MethodName) ({ cls := "ExamSlipsModel", name := "table", desc := "(I)I" } : Jvm.MethodName)) ∈ lw_all := lw_g (lw_at lw_m10 73 rfl) rfl
theorem q2357 : (Jvm.Cond.code ({ cls := "ExamSlipsModel", name := "table", desc := "(I)I" } : Jvm.MethodName) prog_29_method_123_code (2 : Nat) (Option.some Jvm.ClassFile.FieldType.int)) ∈ lw_all := lw_g (lw_at lw_m10 74 rfl) rfl
theorem q2359 : (Jvm.Cond.instanceMethod ({ cls := "ExamSlipsModel", name := "exams", desc := "(II)I" } : Jvm.MethodName)) ∈ lw_all := lw_g (lw_at lw_m10 76 rfl) rfl
theorem q2360 : (Jvm.Cond.selects "ExamSlipsModel" ({ cls := "ExamSlipsModel", name := "exams", desc := "(II)I" } : Jvm.MethodName) ({ cls := "ExamSlipsModel", name := "exams", desc := "(II)I" } : Jvm.MethodName)) ∈ lw_all := lw_g (lw_at lw_m10 77 rfl) rfl
theorem q2361 : (Jvm.Cond.code ({ cls := "ExamSlipsModel", name := "exams", desc := "(II)I" } : Jvm.MethodName) prog_29_method_124_code (5 : Nat) (Option.some Jvm.ClassFile.FieldType.int)) ∈ lw_all := lw_g (lw_at lw_m10 78 rfl) rfl
theorem q2363 : (Jvm.Cond.instanceMethod ({ cls := "ExamSlipsModel", name := "count", desc := "(I)I" } : Jvm.MethodName)) ∈ lw_all := lw_g (lw_at lw_m10 80 rfl) rfl
theorem q2364 : (Jvm.Cond.selects "ExamSlipsModel" ({ cls := "ExamSlipsModel", name := "count", desc := "(I)I" } : Jvm.MethodName) ({ cls := "ExamSlipsModel", name := "count", desc := "(I)I" } : Jvm.MethodName)) ∈ lw_all := lw_g (lw_at lw_m10 81 rfl) rfl
theorem q2365 : (Jvm.Cond.code ({ cls := "ExamSlipsModel", name := "count", desc := "(I)I" } : Jvm.MethodName) prog_29_method_125_code (4 : Nat) (Option.some Jvm.ClassFile.FieldType.int)) ∈ lw_all := lw_g (lw_at lw_m10 82 rfl) rfl
theorem q2367 : (Jvm.Cond.instanceMethod ({ cls := "ExamSlipsModel", name := "status", desc := "()I" } : Jvm.MethodName)) ∈ lw_all := lw_g (lw_at lw_m10 84 rfl) rfl
theorem q2368 : (Jvm.Cond.selects "ExamSlipsModel" ({ cls := "ExamSlipsModel", name := "status", desc := "()I" } : Jvm.MethodName) ({ cls := "ExamSlipsModel", name := "status", desc := "()I" } : Jvm.MethodName)) ∈ lw_all := lw_g (lw_at lw_m10 85 rfl) rfl
theorem q2369 : (Jvm.Cond.code ({ cls := "ExamSlipsModel", name := "status", desc := "()I" } : Jvm.MethodName) prog_29_method_126_code (1 : Nat) (Option.some Jvm.ClassFile.FieldType.int)) ∈ lw_all := lw_g (lw_at lw_m10 86 rfl) rfl
theorem q2382 : (Jvm.Cond.castable "ExamSlipsModel" "java/lang/Object") ∈ lw_tbl := lw_at lw_m10 99 rfl
theorem in_X4 : ∀ w ∈ wsX40, w ∈ lw_all := lw_in wsX40 [1735, 1737, 1739, 1741, 1743, 1745, 1747, 1749, 1751, 1753, 1755, 1757, 1759, 1761, 1763, 1765, 1767, 1769, 1771, 1773, 1775, 1777, 1779, 1781, 1783, 1785, 1787, 1789, 1791, 1793, 1795, 1797, 1799, 1801, 1803, 1805, 1807, 1809, 1811, 1813, 1815, 1817, 1819, 1821, 1823, 1825, 1827, 1829, 1831, 1833, 1835, 1837, 1839, 1841, 1843, 1845, 1847, 1849, 1851, 1853, 1855, 1857, 1859, 1861, 1863, 1865, 1867, 1869, 1871, 1873] (by decide +kernel) (by decide +kernel)

