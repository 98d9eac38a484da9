set_option maxRecDepth 100000
abbrev cX4_bounded : ByteArray := prog_29_method_45_code
def yX4_bounded : MethodName := ⟨RX4, "bounded", "(JZ)J"⟩
def dkwX4_bounded_1 : List UInt8 := [181, 1, 0, 42, 180, 1, 0, 153, 0, 7, 9, 167, 0, 4, 31, 173]
abbrev dktX4_bounded_1 : List UInt8 := dkwX4_bounded_1 ++ []
def dkwX4_bounded_0 : List UInt8 := [29, 153, 0, 24, 31, 20, 0, 252, 148, 157, 0, 11, 31, 20, 0, 254, 148, 156, 0, 8, 42, 4]
abbrev dktX4_bounded_0 : List UInt8 := dkwX4_bounded_0 ++ dktX4_bounded_1
theorem dksX4_bounded_0 : cX4_bounded.data.toList.drop 0 = dktX4_bounded_0 := by decide +kernel
theorem dksX4_bounded_1 : cX4_bounded.data.toList.drop 22 = dktX4_bounded_1 := dk_seg dksX4_bounded_0 22 rfl rfl
theorem dX4_bounded_0 : decode cX4_bounded 0 = .ok (.iload_n 3, 1) := dk_29 (dk_at dksX4_bounded_0 0 rfl rfl)
theorem dX4_bounded_1 : decode cX4_bounded 1 = .ok (.ifCond .eq 24, 3) := dk_153 0 24 (dk_at dksX4_bounded_0 1 rfl rfl)
theorem dX4_bounded_4 : decode cX4_bounded 4 = .ok (.lload_n 1, 1) := dk_31 (dk_at dksX4_bounded_0 4 rfl rfl)
theorem dX4_bounded_5 : decode cX4_bounded 5 = .ok (.ldc2_w 252, 3) := dk_20 0 252 (dk_at dksX4_bounded_0 5 rfl rfl)
theorem dX4_bounded_8 : decode cX4_bounded 8 = .ok (.lcmp, 1) := dk_148 (dk_at dksX4_bounded_0 8 rfl rfl)
theorem dX4_bounded_9 : decode cX4_bounded 9 = .ok (.ifCond .gt 11, 3) := dk_157 0 11 (dk_at dksX4_bounded_0 9 rfl rfl)
theorem dX4_bounded_12 : decode cX4_bounded 12 = .ok (.lload_n 1, 1) := dk_31 (dk_at dksX4_bounded_0 12 rfl rfl)
theorem dX4_bounded_13 : decode cX4_bounded 13 = .ok (.ldc2_w 254, 3) := dk_20 0 254 (dk_at dksX4_bounded_0 13 rfl rfl)
theorem dX4_bounded_16 : decode cX4_bounded 16 = .ok (.lcmp, 1) := dk_148 (dk_at dksX4_bounded_0 16 rfl rfl)
theorem dX4_bounded_17 : decode cX4_bounded 17 = .ok (.ifCond .ge 8, 3) := dk_156 0 8 (dk_at dksX4_bounded_0 17 rfl rfl)
theorem dX4_bounded_20 : decode cX4_bounded 20 = .ok (.aload_n 0, 1) := dk_42 (dk_at dksX4_bounded_0 20 rfl rfl)
theorem dX4_bounded_21 : decode cX4_bounded 21 = .ok (.iconst 1, 1) := dk_4 (dk_at dksX4_bounded_0 21 rfl rfl)
theorem dX4_bounded_22 : decode cX4_bounded 22 = .ok (.putfield 256, 3) := dk_181 1 0 (dk_at dksX4_bounded_1 0 rfl rfl)
theorem dX4_bounded_25 : decode cX4_bounded 25 = .ok (.aload_n 0, 1) := dk_42 (dk_at dksX4_bounded_1 3 rfl rfl)
theorem dX4_bounded_26 : decode cX4_bounded 26 = .ok (.getfield 256, 3) := dk_180 1 0 (dk_at dksX4_bounded_1 4 rfl rfl)
theorem dX4_bounded_29 : decode cX4_bounded 29 = .ok (.ifCond .eq 7, 3) := dk_153 0 7 (dk_at dksX4_bounded_1 7 rfl rfl)
theorem dX4_bounded_32 : decode cX4_bounded 32 = .ok (.lconst 0, 1) := dk_9 (dk_at dksX4_bounded_1 10 rfl rfl)
theorem dX4_bounded_33 : decode cX4_bounded 33 = .ok (.goto 4, 3) := dk_167 0 4 (dk_at dksX4_bounded_1 11 rfl rfl)
theorem dX4_bounded_36 : decode cX4_bounded 36 = .ok (.lload_n 1, 1) := dk_31 (dk_at dksX4_bounded_1 14 rfl rfl)
theorem dX4_bounded_37 : decode cX4_bounded 37 = .ok (.lreturn, 1) := dk_173 (dk_at dksX4_bounded_1 15 rfl rfl)
abbrev cX4_testOf : ByteArray := prog_29_method_49_code
def yX4_testOf : MethodName := ⟨RX4, "testOf", "(Z)Z"⟩
def dkwX4_testOf_2 : List UInt8 := [167, 255, 216, 28, 172]
abbrev dktX4_testOf_2 : List UInt8 := dkwX4_testOf_2 ++ []
def dkwX4_testOf_1 : List UInt8 := [167, 0, 4, 3, 182, 1, 21, 62, 28, 154, 0, 7, 29, 153, 0, 7, 4, 167, 0, 4, 3, 61]
abbrev dktX4_testOf_1 : List UInt8 := dkwX4_testOf_1 ++ dktX4_testOf_2
def dkwX4_testOf_0 : List UInt8 := [42, 27, 182, 1, 21, 61, 42, 8, 182, 1, 15, 153, 0, 38, 42, 27, 153, 0, 11, 28, 154, 0, 7, 4]
abbrev dktX4_testOf_0 : List UInt8 := dkwX4_testOf_0 ++ dktX4_testOf_1
theorem dksX4_testOf_0 : cX4_testOf.data.toList.drop 0 = dktX4_testOf_0 := by decide +kernel
theorem dksX4_testOf_1 : cX4_testOf.data.toList.drop 24 = dktX4_testOf_1 := dk_seg dksX4_testOf_0 24 rfl rfl
theorem dksX4_testOf_2 : cX4_testOf.data.toList.drop 46 = dktX4_testOf_2 := dk_seg dksX4_testOf_1 22 rfl rfl
theorem dX4_testOf_0 : decode cX4_testOf 0 = .ok (.aload_n 0, 1) := dk_42 (dk_at dksX4_testOf_0 0 rfl rfl)
theorem dX4_testOf_1 : decode cX4_testOf 1 = .ok (.iload_n 1, 1) := dk_27 (dk_at dksX4_testOf_0 1 rfl rfl)
theorem dX4_testOf_2 : decode cX4_testOf 2 = .ok (.invokevirtual 277, 3) := dk_182 1 21 (dk_at dksX4_testOf_0 2 rfl rfl)
theorem dX4_testOf_5 : decode cX4_testOf 5 = .ok (.istore_n 2, 1) := dk_61 (dk_at dksX4_testOf_0 5 rfl rfl)
theorem dX4_testOf_6 : decode cX4_testOf 6 = .ok (.aload_n 0, 1) := dk_42 (dk_at dksX4_testOf_0 6 rfl rfl)
theorem dX4_testOf_7 : decode cX4_testOf 7 = .ok (.iconst 5, 1) := dk_8 (dk_at dksX4_testOf_0 7 rfl rfl)
theorem dX4_testOf_8 : decode cX4_testOf 8 = .ok (.invokevirtual 271, 3) := dk_182 1 15 (dk_at dksX4_testOf_0 8 rfl rfl)
theorem dX4_testOf_11 : decode cX4_testOf 11 = .ok (.ifCond .eq 38, 3) := dk_153 0 38 (dk_at dksX4_testOf_0 11 rfl rfl)
theorem dX4_testOf_14 : decode cX4_testOf 14 = .ok (.aload_n 0, 1) := dk_42 (dk_at dksX4_testOf_0 14 rfl rfl)
theorem dX4_testOf_15 : decode cX4_testOf 15 = .ok (.iload_n 1, 1) := dk_27 (dk_at dksX4_testOf_0 15 rfl rfl)
theorem dX4_testOf_16 : decode cX4_testOf 16 = .ok (.ifCond .eq 11, 3) := dk_153 0 11 (dk_at dksX4_testOf_0 16 rfl rfl)
theorem dX4_testOf_19 : decode cX4_testOf 19 = .ok (.iload_n 2, 1) := dk_28 (dk_at dksX4_testOf_0 19 rfl rfl)
theorem dX4_testOf_20 : decode cX4_testOf 20 = .ok (.ifCond .ne 7, 3) := dk_154 0 7 (dk_at dksX4_testOf_0 20 rfl rfl)
theorem dX4_testOf_23 : decode cX4_testOf 23 = .ok (.iconst 1, 1) := dk_4 (dk_at dksX4_testOf_0 23 rfl rfl)
theorem dX4_testOf_24 : decode cX4_testOf 24 = .ok (.goto 4, 3) := dk_167 0 4 (dk_at dksX4_testOf_1 0 rfl rfl)
theorem dX4_testOf_27 : decode cX4_testOf 27 = .ok (.iconst 0, 1) := dk_3 (dk_at dksX4_testOf_1 3 rfl rfl)
theorem dX4_testOf_28 : decode cX4_testOf 28 = .ok (.invokevirtual 277, 3) := dk_182 1 21 (dk_at dksX4_testOf_1 4 rfl rfl)
theorem dX4_testOf_31 : decode cX4_testOf 31 = .ok (.istore_n 3, 1) := dk_62 (dk_at dksX4_testOf_1 7 rfl rfl)
theorem dX4_testOf_32 : decode cX4_testOf 32 = .ok (.iload_n 2, 1) := dk_28 (dk_at dksX4_testOf_1 8 rfl rfl)
theorem dX4_testOf_33 : decode cX4_testOf 33 = .ok (.ifCond .ne 7, 3) := dk_154 0 7 (dk_at dksX4_testOf_1 9 rfl rfl)
theorem dX4_testOf_36 : decode cX4_testOf 36 = .ok (.iload_n 3, 1) := dk_29 (dk_at dksX4_testOf_1 12 rfl rfl)
theorem dX4_testOf_37 : decode cX4_testOf 37 = .ok (.ifCond .eq 7, 3) := dk_153 0 7 (dk_at dksX4_testOf_1 13 rfl rfl)
theorem dX4_testOf_40 : decode cX4_testOf 40 = .ok (.iconst 1, 1) := dk_4 (dk_at dksX4_testOf_1 16 rfl rfl)
theorem dX4_testOf_41 : decode cX4_testOf 41 = .ok (.goto 4, 3) := dk_167 0 4 (dk_at dksX4_testOf_1 17 rfl rfl)
theorem dX4_testOf_44 : decode cX4_testOf 44 = .ok (.iconst 0, 1) := dk_3 (dk_at dksX4_testOf_1 20 rfl rfl)
theorem dX4_testOf_45 : decode cX4_testOf 45 = .ok (.istore_n 2, 1) := dk_61 (dk_at dksX4_testOf_1 21 rfl rfl)
theorem dX4_testOf_46 : decode cX4_testOf 46 = .ok (.goto (-40), 3) := dk_167 255 216 (dk_at dksX4_testOf_2 0 rfl rfl)
theorem dX4_testOf_49 : decode cX4_testOf 49 = .ok (.iload_n 2, 1) := dk_28 (dk_at dksX4_testOf_2 3 rfl rfl)
theorem dX4_testOf_50 : decode cX4_testOf 50 = .ok (.ireturn, 1) := dk_172 (dk_at dksX4_testOf_2 4 rfl rfl)
abbrev cX4_bothOf : ByteArray := prog_29_method_50_code
def yX4_bothOf : MethodName := ⟨RX4, "bothOf", "(Z)Z"⟩
def dkwX4_bothOf_2 : List UInt8 := [167, 255, 215, 28, 172]
abbrev dktX4_bothOf_2 : List UInt8 := dkwX4_bothOf_2 ++ []
def dkwX4_bothOf_1 : List UInt8 := [4, 167, 0, 4, 3, 182, 1, 25, 62, 28, 153, 0, 11, 29, 153, 0, 7, 4, 167, 0, 4, 3, 61]
abbrev dktX4_bothOf_1 : List UInt8 := dkwX4_bothOf_1 ++ dktX4_bothOf_2
def dkwX4_bothOf_0 : List UInt8 := [42, 27, 182, 1, 25, 61, 42, 16, 6, 182, 1, 15, 153, 0, 38, 42, 27, 153, 0, 11, 28, 153, 0, 7]
abbrev dktX4_bothOf_0 : List UInt8 := dkwX4_bothOf_0 ++ dktX4_bothOf_1
theorem dksX4_bothOf_0 : cX4_bothOf.data.toList.drop 0 = dktX4_bothOf_0 := by decide +kernel
theorem dksX4_bothOf_1 : cX4_bothOf.data.toList.drop 24 = dktX4_bothOf_1 := dk_seg dksX4_bothOf_0 24 rfl rfl
theorem dksX4_bothOf_2 : cX4_bothOf.data.toList.drop 47 = dktX4_bothOf_2 := dk_seg dksX4_bothOf_1 23 rfl rfl
theorem dX4_bothOf_0 : decode cX4_bothOf 0 = .ok (.aload_n 0, 1) := dk_42 (dk_at dksX4_bothOf_0 0 rfl rfl)
theorem dX4_bothOf_1 : decode cX4_bothOf 1 = .ok (.iload_n 1, 1) := dk_27 (dk_at dksX4_bothOf_0 1 rfl rfl)
theorem dX4_bothOf_2 : decode cX4_bothOf 2 = .ok (.invokevirtual 281, 3) := dk_182 1 25 (dk_at dksX4_bothOf_0 2 rfl rfl)
theorem dX4_bothOf_5 : decode cX4_bothOf 5 = .ok (.istore_n 2, 1) := dk_61 (dk_at dksX4_bothOf_0 5 rfl rfl)
theorem dX4_bothOf_6 : decode cX4_bothOf 6 = .ok (.aload_n 0, 1) := dk_42 (dk_at dksX4_bothOf_0 6 rfl rfl)
theorem dX4_bothOf_7 : decode cX4_bothOf 7 = .ok (.bipush 6, 2) := dk_16 6 (dk_at dksX4_bothOf_0 7 rfl rfl)
theorem dX4_bothOf_9 : decode cX4_bothOf 9 = .ok (.invokevirtual 271, 3) := dk_182 1 15 (dk_at dksX4_bothOf_0 9 rfl rfl)
theorem dX4_bothOf_12 : decode cX4_bothOf 12 = .ok (.ifCond .eq 38, 3) := dk_153 0 38 (dk_at dksX4_bothOf_0 12 rfl rfl)
theorem dX4_bothOf_15 : decode cX4_bothOf 15 = .ok (.aload_n 0, 1) := dk_42 (dk_at dksX4_bothOf_0 15 rfl rfl)
theorem dX4_bothOf_16 : decode cX4_bothOf 16 = .ok (.iload_n 1, 1) := dk_27 (dk_at dksX4_bothOf_0 16 rfl rfl)
theorem dX4_bothOf_17 : decode cX4_bothOf 17 = .ok (.ifCond .eq 11, 3) := dk_153 0 11 (dk_at dksX4_bothOf_0 17 rfl rfl)
theorem dX4_bothOf_20 : decode cX4_bothOf 20 = .ok (.iload_n 2, 1) := dk_28 (dk_at dksX4_bothOf_0 20 rfl rfl)
theorem dX4_bothOf_21 : decode cX4_bothOf 21 = .ok (.ifCond .eq 7, 3) := dk_153 0 7 (dk_at dksX4_bothOf_0 21 rfl rfl)
theorem dX4_bothOf_24 : decode cX4_bothOf 24 = .ok (.iconst 1, 1) := dk_4 (dk_at dksX4_bothOf_1 0 rfl rfl)
theorem dX4_bothOf_25 : decode cX4_bothOf 25 = .ok (.goto 4, 3) := dk_167 0 4 (dk_at dksX4_bothOf_1 1 rfl rfl)
theorem dX4_bothOf_28 : decode cX4_bothOf 28 = .ok (.iconst 0, 1) := dk_3 (dk_at dksX4_bothOf_1 4 rfl rfl)
theorem dX4_bothOf_29 : decode cX4_bothOf 29 = .ok (.invokevirtual 281, 3) := dk_182 1 25 (dk_at dksX4_bothOf_1 5 rfl rfl)
theorem dX4_bothOf_32 : decode cX4_bothOf 32 = .ok (.istore_n 3, 1) := dk_62 (dk_at dksX4_bothOf_1 8 rfl rfl)
theorem dX4_bothOf_33 : decode cX4_bothOf 33 = .ok (.iload_n 2, 1) := dk_28 (dk_at dksX4_bothOf_1 9 rfl rfl)
theorem dX4_bothOf_34 : decode cX4_bothOf 34 = .ok (.ifCond .eq 11, 3) := dk_153 0 11 (dk_at dksX4_bothOf_1 10 rfl rfl)
theorem dX4_bothOf_37 : decode cX4_bothOf 37 = .ok (.iload_n 3, 1) := dk_29 (dk_at dksX4_bothOf_1 13 rfl rfl)
theorem dX4_bothOf_38 : decode cX4_bothOf 38 = .ok (.ifCond .eq 7, 3) := dk_153 0 7 (dk_at dksX4_bothOf_1 14 rfl rfl)
theorem dX4_bothOf_41 : decode cX4_bothOf 41 = .ok (.iconst 1, 1) := dk_4 (dk_at dksX4_bothOf_1 17 rfl rfl)
theorem dX4_bothOf_42 : decode cX4_bothOf 42 = .ok (.goto 4, 3) := dk_167 0 4 (dk_at dksX4_bothOf_1 18 rfl rfl)
theorem dX4_bothOf_45 : decode cX4_bothOf 45 = .ok (.iconst 0, 1) := dk_3 (dk_at dksX4_bothOf_1 21 rfl rfl)
theorem dX4_bothOf_46 : decode cX4_bothOf 46 = .ok (.istore_n 2, 1) := dk_61 (dk_at dksX4_bothOf_1 22 rfl rfl)
theorem dX4_bothOf_47 : decode cX4_bothOf 47 = .ok (.goto (-41), 3) := dk_167 255 215 (dk_at dksX4_bothOf_2 0 rfl rfl)
theorem dX4_bothOf_50 : decode cX4_bothOf 50 = .ok (.iload_n 2, 1) := dk_28 (dk_at dksX4_bothOf_2 3 rfl rfl)
theorem dX4_bothOf_51 : decode cX4_bothOf 51 = .ok (.ireturn, 1) := dk_172 (dk_at dksX4_bothOf_2 4 rfl rfl)
abbrev cX4_plainOf : ByteArray := prog_29_method_51_code
def yX4_plainOf : MethodName := ⟨RX4, "plainOf", "(Z)Z"⟩
def dkwX4_plainOf_1 : List UInt8 := [42, 27, 182, 1, 28, 28, 159, 0, 7, 4, 167, 0, 4, 3, 172]
abbrev dktX4_plainOf_1 : List UInt8 := dkwX4_plainOf_1 ++ []
def dkwX4_plainOf_0 : List UInt8 := [3, 61, 42, 16, 7, 182, 1, 15, 153, 0, 16, 28, 154, 0, 7, 4, 167, 0, 4, 3, 61, 167, 255, 237]
abbrev dktX4_plainOf_0 : List UInt8 := dkwX4_plainOf_0 ++ dktX4_plainOf_1
theorem dksX4_plainOf_0 : cX4_plainOf.data.toList.drop 0 = dktX4_plainOf_0 := by decide +kernel
theorem dksX4_plainOf_1 : cX4_plainOf.data.toList.drop 24 = dktX4_plainOf_1 := dk_seg dksX4_plainOf_0 24 rfl rfl
theorem dX4_plainOf_0 : decode cX4_plainOf 0 = .ok (.iconst 0, 1) := dk_3 (dk_at dksX4_plainOf_0 0 rfl rfl)
theorem dX4_plainOf_1 : decode cX4_plainOf 1 = .ok (.istore_n 2, 1) := dk_61 (dk_at dksX4_plainOf_0 1 rfl rfl)
theorem dX4_plainOf_2 : decode cX4_plainOf 2 = .ok (.aload_n 0, 1) := dk_42 (dk_at dksX4_plainOf_0 2 rfl rfl)
theorem dX4_plainOf_3 : decode cX4_plainOf 3 = .ok (.bipush 7, 2) := dk_16 7 (dk_at dksX4_plainOf_0 3 rfl rfl)
theorem dX4_plainOf_5 : decode cX4_plainOf 5 = .ok (.invokevirtual 271, 3) := dk_182 1 15 (dk_at dksX4_plainOf_0 5 rfl rfl)
theorem dX4_plainOf_8 : decode cX4_plainOf 8 = .ok (.ifCond .eq 16, 3) := dk_153 0 16 (dk_at dksX4_plainOf_0 8 rfl rfl)
theorem dX4_plainOf_11 : decode cX4_plainOf 11 = .ok (.iload_n 2, 1) := dk_28 (dk_at dksX4_plainOf_0 11 rfl rfl)
theorem dX4_plainOf_12 : decode cX4_plainOf 12 = .ok (.ifCond .ne 7, 3) := dk_154 0 7 (dk_at dksX4_plainOf_0 12 rfl rfl)
theorem dX4_plainOf_15 : decode cX4_plainOf 15 = .ok (.iconst 1, 1) := dk_4 (dk_at dksX4_plainOf_0 15 rfl rfl)
theorem dX4_plainOf_16 : decode cX4_plainOf 16 = .ok (.goto 4, 3) := dk_167 0 4 (dk_at dksX4_plainOf_0 16 rfl rfl)
theorem dX4_plainOf_19 : decode cX4_plainOf 19 = .ok (.iconst 0, 1) := dk_3 (dk_at dksX4_plainOf_0 19 rfl rfl)
theorem dX4_plainOf_20 : decode cX4_plainOf 20 = .ok (.istore_n 2, 1) := dk_61 (dk_at dksX4_plainOf_0 20 rfl rfl)
theorem dX4_plainOf_21 : decode cX4_plainOf 21 = .ok (.goto (-19), 3) := dk_167 255 237 (dk_at dksX4_plainOf_0 21 rfl rfl)
theorem dX4_plainOf_24 : decode cX4_plainOf 24 = .ok (.aload_n 0, 1) := dk_42 (dk_at dksX4_plainOf_1 0 rfl rfl)
theorem dX4_plainOf_25 : decode cX4_plainOf 25 = .ok (.iload_n 1, 1) := dk_27 (dk_at dksX4_plainOf_1 1 rfl rfl)
theorem dX4_plainOf_26 : decode cX4_plainOf 26 = .ok (.invokevirtual 284, 3) := dk_182 1 28 (dk_at dksX4_plainOf_1 2 rfl rfl)
theorem dX4_plainOf_29 : decode cX4_plainOf 29 = .ok (.iload_n 2, 1) := dk_28 (dk_at dksX4_plainOf_1 5 rfl rfl)
theorem dX4_plainOf_30 : decode cX4_plainOf 30 = .ok (.if_icmp .eq 7, 3) := dk_159 0 7 (dk_at dksX4_plainOf_1 6 rfl rfl)
theorem dX4_plainOf_33 : decode cX4_plainOf 33 = .ok (.iconst 1, 1) := dk_4 (dk_at dksX4_plainOf_1 9 rfl rfl)
theorem dX4_plainOf_34 : decode cX4_plainOf 34 = .ok (.goto 4, 3) := dk_167 0 4 (dk_at dksX4_plainOf_1 10 rfl rfl)
theorem dX4_plainOf_37 : decode cX4_plainOf 37 = .ok (.iconst 0, 1) := dk_3 (dk_at dksX4_plainOf_1 13 rfl rfl)
theorem dX4_plainOf_38 : decode cX4_plainOf 38 = .ok (.ireturn, 1) := dk_172 (dk_at dksX4_plainOf_1 14 rfl rfl)
abbrev cX4_positiveOf : ByteArray := prog_29_method_52_code
def yX4_positiveOf : MethodName := ⟨RX4, "positiveOf", "(Z)Z"⟩
def dkwX4_positiveOf_5 : List UInt8 := [154, 0, 7, 4, 167, 0, 4, 3, 172]
abbrev dktX4_positiveOf_5 : List UInt8 := dkwX4_positiveOf_5 ++ []
def dkwX4_positiveOf_4 : List UInt8 := [21, 4, 16, 62, 184, 0, 221, 160, 0, 13, 32, 22, 5, 148, 158, 0, 17, 167, 0, 10, 32, 22, 5, 148]
abbrev dktX4_positiveOf_4 : List UInt8 := dkwX4_positiveOf_4 ++ dktX4_positiveOf_5
def dkwX4_positiveOf_3 : List UInt8 := [154, 0, 54, 21, 4, 16, 60, 184, 0, 221, 160, 0, 13, 32, 22, 5, 148, 156, 0, 37, 167, 0, 30]
abbrev dktX4_positiveOf_3 : List UInt8 := dkwX4_positiveOf_3 ++ dktX4_positiveOf_4
def dkwX4_positiveOf_2 : List UInt8 := [180, 0, 246, 4, 96, 181, 0, 246, 42, 27, 182, 1, 18, 55, 5, 27, 153, 0, 61, 42, 180, 1, 0]
abbrev dktX4_positiveOf_2 : List UInt8 := dkwX4_positiveOf_2 ++ dktX4_positiveOf_3
def dkwX4_positiveOf_1 : List UInt8 := [96, 181, 0, 246, 28, 172, 42, 27, 182, 1, 18, 65, 42, 42, 180, 0, 246, 182, 0, 249, 54, 4, 42, 89]
abbrev dktX4_positiveOf_1 : List UInt8 := dkwX4_positiveOf_1 ++ dktX4_positiveOf_2
def dkwX4_positiveOf_0 : List UInt8 := [42, 16, 40, 184, 0, 221, 182, 1, 15, 153, 0, 21, 42, 27, 182, 1, 31, 61, 42, 89, 180, 0, 246, 4]
abbrev dktX4_positiveOf_0 : List UInt8 := dkwX4_positiveOf_0 ++ dktX4_positiveOf_1
theorem dksX4_positiveOf_0 : cX4_positiveOf.data.toList.drop 0 = dktX4_positiveOf_0 := by decide +kernel
theorem dksX4_positiveOf_1 : cX4_positiveOf.data.toList.drop 24 = dktX4_positiveOf_1 := dk_seg dksX4_positiveOf_0 24 rfl rfl
theorem dksX4_positiveOf_2 : cX4_positiveOf.data.toList.drop 48 = dktX4_positiveOf_2 := dk_seg dksX4_positiveOf_1 24 rfl rfl
theorem dksX4_positiveOf_3 : cX4_positiveOf.data.toList.drop 71 = dktX4_positiveOf_3 := dk_seg dksX4_positiveOf_2 23 rfl rfl
theorem dksX4_positiveOf_4 : cX4_positiveOf.data.toList.drop 94 = dktX4_positiveOf_4 := dk_seg dksX4_positiveOf_3 23 rfl rfl
theorem dksX4_positiveOf_5 : cX4_positiveOf.data.toList.drop 118 = dktX4_positiveOf_5 := dk_seg dksX4_positiveOf_4 24 rfl rfl
theorem dX4_positiveOf_0 : decode cX4_positiveOf 0 = .ok (.aload_n 0, 1) := dk_42 (dk_at dksX4_positiveOf_0 0 rfl rfl)
theorem dX4_positiveOf_1 : decode cX4_positiveOf 1 = .ok (.bipush 40, 2) := dk_16 40 (dk_at dksX4_positiveOf_0 1 rfl rfl)
theorem dX4_positiveOf_3 : decode cX4_positiveOf 3 = .ok (.invokestatic 221, 3) := dk_184 0 221 (dk_at dksX4_positiveOf_0 3 rfl rfl)
theorem dX4_positiveOf_6 : decode cX4_positiveOf 6 = .ok (.invokevirtual 271, 3) := dk_182 1 15 (dk_at dksX4_positiveOf_0 6 rfl rfl)
theorem dX4_positiveOf_9 : decode cX4_positiveOf 9 = .ok (.ifCond .eq 21, 3) := dk_153 0 21 (dk_at dksX4_positiveOf_0 9 rfl rfl)
theorem dX4_positiveOf_12 : decode cX4_positiveOf 12 = .ok (.aload_n 0, 1) := dk_42 (dk_at dksX4_positiveOf_0 12 rfl rfl)
theorem dX4_positiveOf_13 : decode cX4_positiveOf 13 = .ok (.iload_n 1, 1) := dk_27 (dk_at dksX4_positiveOf_0 13 rfl rfl)
theorem dX4_positiveOf_14 : decode cX4_positiveOf 14 = .ok (.invokevirtual 287, 3) := dk_182 1 31 (dk_at dksX4_positiveOf_0 14 rfl rfl)
theorem dX4_positiveOf_17 : decode cX4_positiveOf 17 = .ok (.istore_n 2, 1) := dk_61 (dk_at dksX4_positiveOf_0 17 rfl rfl)
theorem dX4_positiveOf_18 : decode cX4_positiveOf 18 = .ok (.aload_n 0, 1) := dk_42 (dk_at dksX4_positiveOf_0 18 rfl rfl)
theorem dX4_positiveOf_19 : decode cX4_positiveOf 19 = .ok (.dup, 1) := dk_89 (dk_at dksX4_positiveOf_0 19 rfl rfl)
theorem dX4_positiveOf_20 : decode cX4_positiveOf 20 = .ok (.getfield 246, 3) := dk_180 0 246 (dk_at dksX4_positiveOf_0 20 rfl rfl)
theorem dX4_positiveOf_23 : decode cX4_positiveOf 23 = .ok (.iconst 1, 1) := dk_4 (dk_at dksX4_positiveOf_0 23 rfl rfl)
theorem dX4_positiveOf_24 : decode cX4_positiveOf 24 = .ok (.iadd, 1) := dk_96 (dk_at dksX4_positiveOf_1 0 rfl rfl)
theorem dX4_positiveOf_25 : decode cX4_positiveOf 25 = .ok (.putfield 246, 3) := dk_181 0 246 (dk_at dksX4_positiveOf_1 1 rfl rfl)
theorem dX4_positiveOf_28 : decode cX4_positiveOf 28 = .ok (.iload_n 2, 1) := dk_28 (dk_at dksX4_positiveOf_1 4 rfl rfl)
theorem dX4_positiveOf_29 : decode cX4_positiveOf 29 = .ok (.ireturn, 1) := dk_172 (dk_at dksX4_positiveOf_1 5 rfl rfl)
theorem dX4_positiveOf_30 : decode cX4_positiveOf 30 = .ok (.aload_n 0, 1) := dk_42 (dk_at dksX4_positiveOf_1 6 rfl rfl)
theorem dX4_positiveOf_31 : decode cX4_positiveOf 31 = .ok (.iload_n 1, 1) := dk_27 (dk_at dksX4_positiveOf_1 7 rfl rfl)
theorem dX4_positiveOf_32 : decode cX4_positiveOf 32 = .ok (.invokevirtual 274, 3) := dk_182 1 18 (dk_at dksX4_positiveOf_1 8 rfl rfl)
theorem dX4_positiveOf_35 : decode cX4_positiveOf 35 = .ok (.lstore_n 2, 1) := dk_65 (dk_at dksX4_positiveOf_1 11 rfl rfl)
theorem dX4_positiveOf_36 : decode cX4_positiveOf 36 = .ok (.aload_n 0, 1) := dk_42 (dk_at dksX4_positiveOf_1 12 rfl rfl)
theorem dX4_positiveOf_37 : decode cX4_positiveOf 37 = .ok (.aload_n 0, 1) := dk_42 (dk_at dksX4_positiveOf_1 13 rfl rfl)
theorem dX4_positiveOf_38 : decode cX4_positiveOf 38 = .ok (.getfield 246, 3) := dk_180 0 246 (dk_at dksX4_positiveOf_1 14 rfl rfl)
theorem dX4_positiveOf_41 : decode cX4_positiveOf 41 = .ok (.invokevirtual 249, 3) := dk_182 0 249 (dk_at dksX4_positiveOf_1 17 rfl rfl)
theorem dX4_positiveOf_44 : decode cX4_positiveOf 44 = .ok (.istore 4, 2) := dk_54 4 (dk_at dksX4_positiveOf_1 20 rfl rfl)
theorem dX4_positiveOf_46 : decode cX4_positiveOf 46 = .ok (.aload_n 0, 1) := dk_42 (dk_at dksX4_positiveOf_1 22 rfl rfl)
theorem dX4_positiveOf_47 : decode cX4_positiveOf 47 = .ok (.dup, 1) := dk_89 (dk_at dksX4_positiveOf_1 23 rfl rfl)
theorem dX4_positiveOf_48 : decode cX4_positiveOf 48 = .ok (.getfield 246, 3) := dk_180 0 246 (dk_at dksX4_positiveOf_2 0 rfl rfl)
theorem dX4_positiveOf_51 : decode cX4_positiveOf 51 = .ok (.iconst 1, 1) := dk_4 (dk_at dksX4_positiveOf_2 3 rfl rfl)
theorem dX4_positiveOf_52 : decode cX4_positiveOf 52 = .ok (.iadd, 1) := dk_96 (dk_at dksX4_positiveOf_2 4 rfl rfl)
theorem dX4_positiveOf_53 : decode cX4_positiveOf 53 = .ok (.putfield 246, 3) := dk_181 0 246 (dk_at dksX4_positiveOf_2 5 rfl rfl)
theorem dX4_positiveOf_56 : decode cX4_positiveOf 56 = .ok (.aload_n 0, 1) := dk_42 (dk_at dksX4_positiveOf_2 8 rfl rfl)
theorem dX4_positiveOf_57 : decode cX4_positiveOf 57 = .ok (.iload_n 1, 1) := dk_27 (dk_at dksX4_positiveOf_2 9 rfl rfl)
theorem dX4_positiveOf_58 : decode cX4_positiveOf 58 = .ok (.invokevirtual 274, 3) := dk_182 1 18 (dk_at dksX4_positiveOf_2 10 rfl rfl)
theorem dX4_positiveOf_61 : decode cX4_positiveOf 61 = .ok (.lstore 5, 2) := dk_55 5 (dk_at dksX4_positiveOf_2 13 rfl rfl)
theorem dX4_positiveOf_63 : decode cX4_positiveOf 63 = .ok (.iload_n 1, 1) := dk_27 (dk_at dksX4_positiveOf_2 15 rfl rfl)
theorem dX4_positiveOf_64 : decode cX4_positiveOf 64 = .ok (.ifCond .eq 61, 3) := dk_153 0 61 (dk_at dksX4_positiveOf_2 16 rfl rfl)
theorem dX4_positiveOf_67 : decode cX4_positiveOf 67 = .ok (.aload_n 0, 1) := dk_42 (dk_at dksX4_positiveOf_2 19 rfl rfl)
theorem dX4_positiveOf_68 : decode cX4_positiveOf 68 = .ok (.getfield 256, 3) := dk_180 1 0 (dk_at dksX4_positiveOf_2 20 rfl rfl)
theorem dX4_positiveOf_71 : decode cX4_positiveOf 71 = .ok (.ifCond .ne 54, 3) := dk_154 0 54 (dk_at dksX4_positiveOf_3 0 rfl rfl)
theorem dX4_positiveOf_74 : decode cX4_positiveOf 74 = .ok (.iload 4, 2) := dk_21 4 (dk_at dksX4_positiveOf_3 3 rfl rfl)
theorem dX4_positiveOf_76 : decode cX4_positiveOf 76 = .ok (.bipush 60, 2) := dk_16 60 (dk_at dksX4_positiveOf_3 5 rfl rfl)
theorem dX4_positiveOf_78 : decode cX4_positiveOf 78 = .ok (.invokestatic 221, 3) := dk_184 0 221 (dk_at dksX4_positiveOf_3 7 rfl rfl)
theorem dX4_positiveOf_81 : decode cX4_positiveOf 81 = .ok (.if_icmp .ne 13, 3) := dk_160 0 13 (dk_at dksX4_positiveOf_3 10 rfl rfl)
theorem dX4_positiveOf_84 : decode cX4_positiveOf 84 = .ok (.lload_n 2, 1) := dk_32 (dk_at dksX4_positiveOf_3 13 rfl rfl)
theorem dX4_positiveOf_85 : decode cX4_positiveOf 85 = .ok (.lload 5, 2) := dk_22 5 (dk_at dksX4_positiveOf_3 14 rfl rfl)
theorem dX4_positiveOf_87 : decode cX4_positiveOf 87 = .ok (.lcmp, 1) := dk_148 (dk_at dksX4_positiveOf_3 16 rfl rfl)
theorem dX4_positiveOf_88 : decode cX4_positiveOf 88 = .ok (.ifCond .ge 37, 3) := dk_156 0 37 (dk_at dksX4_positiveOf_3 17 rfl rfl)
theorem dX4_positiveOf_91 : decode cX4_positiveOf 91 = .ok (.goto 30, 3) := dk_167 0 30 (dk_at dksX4_positiveOf_3 20 rfl rfl)
theorem dX4_positiveOf_94 : decode cX4_positiveOf 94 = .ok (.iload 4, 2) := dk_21 4 (dk_at dksX4_positiveOf_4 0 rfl rfl)
theorem dX4_positiveOf_96 : decode cX4_positiveOf 96 = .ok (.bipush 62, 2) := dk_16 62 (dk_at dksX4_positiveOf_4 2 rfl rfl)
theorem dX4_positiveOf_98 : decode cX4_positiveOf 98 = .ok (.invokestatic 221, 3) := dk_184 0 221 (dk_at dksX4_positiveOf_4 4 rfl rfl)
theorem dX4_positiveOf_101 : decode cX4_positiveOf 101 = .ok (.if_icmp .ne 13, 3) := dk_160 0 13 (dk_at dksX4_positiveOf_4 7 rfl rfl)
theorem dX4_positiveOf_104 : decode cX4_positiveOf 104 = .ok (.lload_n 2, 1) := dk_32 (dk_at dksX4_positiveOf_4 10 rfl rfl)
theorem dX4_positiveOf_105 : decode cX4_positiveOf 105 = .ok (.lload 5, 2) := dk_22 5 (dk_at dksX4_positiveOf_4 11 rfl rfl)
theorem dX4_positiveOf_107 : decode cX4_positiveOf 107 = .ok (.lcmp, 1) := dk_148 (dk_at dksX4_positiveOf_4 13 rfl rfl)
theorem dX4_positiveOf_108 : decode cX4_positiveOf 108 = .ok (.ifCond .le 17, 3) := dk_158 0 17 (dk_at dksX4_positiveOf_4 14 rfl rfl)
theorem dX4_positiveOf_111 : decode cX4_positiveOf 111 = .ok (.goto 10, 3) := dk_167 0 10 (dk_at dksX4_positiveOf_4 17 rfl rfl)
theorem dX4_positiveOf_114 : decode cX4_positiveOf 114 = .ok (.lload_n 2, 1) := dk_32 (dk_at dksX4_positiveOf_4 20 rfl rfl)
theorem dX4_positiveOf_115 : decode cX4_positiveOf 115 = .ok (.lload 5, 2) := dk_22 5 (dk_at dksX4_positiveOf_4 21 rfl rfl)
theorem dX4_positiveOf_117 : decode cX4_positiveOf 117 = .ok (.lcmp, 1) := dk_148 (dk_at dksX4_positiveOf_4 23 rfl rfl)
theorem dX4_positiveOf_118 : decode cX4_positiveOf 118 = .ok (.ifCond .ne 7, 3) := dk_154 0 7 (dk_at dksX4_positiveOf_5 0 rfl rfl)
theorem dX4_positiveOf_121 : decode cX4_positiveOf 121 = .ok (.iconst 1, 1) := dk_4 (dk_at dksX4_positiveOf_5 3 rfl rfl)
theorem dX4_positiveOf_122 : decode cX4_positiveOf 122 = .ok (.goto 4, 3) := dk_167 0 4 (dk_at dksX4_positiveOf_5 4 rfl rfl)
theorem dX4_positiveOf_125 : decode cX4_positiveOf 125 = .ok (.iconst 0, 1) := dk_3 (dk_at dksX4_positiveOf_5 7 rfl rfl)
theorem dX4_positiveOf_126 : decode cX4_positiveOf 126 = .ok (.ireturn, 1) := dk_172 (dk_at dksX4_positiveOf_5 8 rfl rfl)
abbrev cX4_keeps : ByteArray := prog_29_method_58_code
def yX4_keeps : MethodName := ⟨RX4, "keeps", "(II)I"⟩
def dkwX4_keeps_1 : List UInt8 := [167, 0, 4, 2, 172]
abbrev dktX4_keeps_1 : List UInt8 := dkwX4_keeps_1 ++ []
def dkwX4_keeps_0 : List UInt8 := [42, 27, 182, 0, 158, 153, 0, 21, 28, 4, 5, 184, 0, 135, 153, 0, 12, 42, 27, 28, 182, 1, 46]
abbrev dktX4_keeps_0 : List UInt8 := dkwX4_keeps_0 ++ dktX4_keeps_1
theorem dksX4_keeps_0 : cX4_keeps.data.toList.drop 0 = dktX4_keeps_0 := by decide +kernel
theorem dksX4_keeps_1 : cX4_keeps.data.toList.drop 23 = dktX4_keeps_1 := dk_seg dksX4_keeps_0 23 rfl rfl
theorem dX4_keeps_0 : decode cX4_keeps 0 = .ok (.aload_n 0, 1) := dk_42 (dk_at dksX4_keeps_0 0 rfl rfl)
theorem dX4_keeps_1 : decode cX4_keeps 1 = .ok (.iload_n 1, 1) := dk_27 (dk_at dksX4_keeps_0 1 rfl rfl)
theorem dX4_keeps_2 : decode cX4_keeps 2 = .ok (.invokevirtual 158, 3) := dk_182 0 158 (dk_at dksX4_keeps_0 2 rfl rfl)
theorem dX4_keeps_5 : decode cX4_keeps 5 = .ok (.ifCond .eq 21, 3) := dk_153 0 21 (dk_at dksX4_keeps_0 5 rfl rfl)
theorem dX4_keeps_8 : decode cX4_keeps 8 = .ok (.iload_n 2, 1) := dk_28 (dk_at dksX4_keeps_0 8 rfl rfl)
theorem dX4_keeps_9 : decode cX4_keeps 9 = .ok (.iconst 1, 1) := dk_4 (dk_at dksX4_keeps_0 9 rfl rfl)
theorem dX4_keeps_10 : decode cX4_keeps 10 = .ok (.iconst 2, 1) := dk_5 (dk_at dksX4_keeps_0 10 rfl rfl)
theorem dX4_keeps_11 : decode cX4_keeps 11 = .ok (.invokestatic 135, 3) := dk_184 0 135 (dk_at dksX4_keeps_0 11 rfl rfl)
theorem dX4_keeps_14 : decode cX4_keeps 14 = .ok (.ifCond .eq 12, 3) := dk_153 0 12 (dk_at dksX4_keeps_0 14 rfl rfl)
theorem dX4_keeps_17 : decode cX4_keeps 17 = .ok (.aload_n 0, 1) := dk_42 (dk_at dksX4_keeps_0 17 rfl rfl)
theorem dX4_keeps_18 : decode cX4_keeps 18 = .ok (.iload_n 1, 1) := dk_27 (dk_at dksX4_keeps_0 18 rfl rfl)
theorem dX4_keeps_19 : decode cX4_keeps 19 = .ok (.iload_n 2, 1) := dk_28 (dk_at dksX4_keeps_0 19 rfl rfl)
theorem dX4_keeps_20 : decode cX4_keeps 20 = .ok (.invokevirtual 302, 3) := dk_182 1 46 (dk_at dksX4_keeps_0 20 rfl rfl)
theorem dX4_keeps_23 : decode cX4_keeps 23 = .ok (.goto 4, 3) := dk_167 0 4 (dk_at dksX4_keeps_1 0 rfl rfl)
theorem dX4_keeps_26 : decode cX4_keeps 26 = .ok (.iconst (-1), 1) := dk_2 (dk_at dksX4_keeps_1 3 rfl rfl)
theorem dX4_keeps_27 : decode cX4_keeps 27 = .ok (.ireturn, 1) := dk_172 (dk_at dksX4_keeps_1 4 rfl rfl)
abbrev cX4_keepsOf : ByteArray := prog_29_method_57_code
def yX4_keepsOf : MethodName := ⟨RX4, "keepsOf", "(II)I"⟩
def dkwX4_keepsOf_0 : List UInt8 := [42, 27, 28, 3, 3, 182, 1, 34, 42, 5, 4, 16, 30, 16, 10, 182, 1, 38, 172]
abbrev dktX4_keepsOf_0 : List UInt8 := dkwX4_keepsOf_0 ++ []
theorem dksX4_keepsOf_0 : cX4_keepsOf.data.toList.drop 0 = dktX4_keepsOf_0 := by decide +kernel
theorem dX4_keepsOf_0 : decode cX4_keepsOf 0 = .ok (.aload_n 0, 1) := dk_42 (dk_at dksX4_keepsOf_0 0 rfl rfl)
theorem dX4_keepsOf_1 : decode cX4_keepsOf 1 = .ok (.iload_n 1, 1) := dk_27 (dk_at dksX4_keepsOf_0 1 rfl rfl)
theorem dX4_keepsOf_2 : decode cX4_keepsOf 2 = .ok (.iload_n 2, 1) := dk_28 (dk_at dksX4_keepsOf_0 2 rfl rfl)
theorem dX4_keepsOf_3 : decode cX4_keepsOf 3 = .ok (.iconst 0, 1) := dk_3 (dk_at dksX4_keepsOf_0 3 rfl rfl)
theorem dX4_keepsOf_4 : decode cX4_keepsOf 4 = .ok (.iconst 0, 1) := dk_3 (dk_at dksX4_keepsOf_0 4 rfl rfl)
theorem dX4_keepsOf_5 : decode cX4_keepsOf 5 = .ok (.invokevirtual 290, 3) := dk_182 1 34 (dk_at dksX4_keepsOf_0 5 rfl rfl)
theorem dX4_keepsOf_8 : decode cX4_keepsOf 8 = .ok (.aload_n 0, 1) := dk_42 (dk_at dksX4_keepsOf_0 8 rfl rfl)
theorem dX4_keepsOf_9 : decode cX4_keepsOf 9 = .ok (.iconst 2, 1) := dk_5 (dk_at dksX4_keepsOf_0 9 rfl rfl)
theorem dX4_keepsOf_10 : decode cX4_keepsOf 10 = .ok (.iconst 1, 1) := dk_4 (dk_at dksX4_keepsOf_0 10 rfl rfl)
theorem dX4_keepsOf_11 : decode cX4_keepsOf 11 = .ok (.bipush 30, 2) := dk_16 30 (dk_at dksX4_keepsOf_0 11 rfl rfl)
theorem dX4_keepsOf_13 : decode cX4_keepsOf 13 = .ok (.bipush 10, 2) := dk_16 10 (dk_at dksX4_keepsOf_0 13 rfl rfl)
theorem dX4_keepsOf_15 : decode cX4_keepsOf 15 = .ok (.invokevirtual 294, 3) := dk_182 1 38 (dk_at dksX4_keepsOf_0 15 rfl rfl)
theorem dX4_keepsOf_18 : decode cX4_keepsOf 18 = .ok (.ireturn, 1) := dk_172 (dk_at dksX4_keepsOf_0 18 rfl rfl)
abbrev cX4_chance : ByteArray := prog_29_method_60_code
def yX4_chance : MethodName := ⟨RX4, "chance", "(I)I"⟩
def dkwX4_chance_0 : List UInt8 := [27, 3, 5, 184, 0, 135, 153, 0, 11, 42, 27, 182, 1, 49, 167, 0, 4, 2, 172]
abbrev dktX4_chance_0 : List UInt8 := dkwX4_chance_0 ++ []
theorem dksX4_chance_0 : cX4_chance.data.toList.drop 0 = dktX4_chance_0 := by decide +kernel
theorem dX4_chance_0 : decode cX4_chance 0 = .ok (.iload_n 1, 1) := dk_27 (dk_at dksX4_chance_0 0 rfl rfl)
theorem dX4_chance_1 : decode cX4_chance 1 = .ok (.iconst 0, 1) := dk_3 (dk_at dksX4_chance_0 1 rfl rfl)
theorem dX4_chance_2 : decode cX4_chance 2 = .ok (.iconst 2, 1) := dk_5 (dk_at dksX4_chance_0 2 rfl rfl)
theorem dX4_chance_3 : decode cX4_chance 3 = .ok (.invokestatic 135, 3) := dk_184 0 135 (dk_at dksX4_chance_0 3 rfl rfl)
theorem dX4_chance_6 : decode cX4_chance 6 = .ok (.ifCond .eq 11, 3) := dk_153 0 11 (dk_at dksX4_chance_0 6 rfl rfl)
theorem dX4_chance_9 : decode cX4_chance 9 = .ok (.aload_n 0, 1) := dk_42 (dk_at dksX4_chance_0 9 rfl rfl)
theorem dX4_chance_10 : decode cX4_chance 10 = .ok (.iload_n 1, 1) := dk_27 (dk_at dksX4_chance_0 10 rfl rfl)
theorem dX4_chance_11 : decode cX4_chance 11 = .ok (.invokevirtual 305, 3) := dk_182 1 49 (dk_at dksX4_chance_0 11 rfl rfl)
theorem dX4_chance_14 : decode cX4_chance 14 = .ok (.goto 4, 3) := dk_167 0 4 (dk_at dksX4_chance_0 14 rfl rfl)
theorem dX4_chance_17 : decode cX4_chance 17 = .ok (.iconst (-1), 1) := dk_2 (dk_at dksX4_chance_0 17 rfl rfl)
theorem dX4_chance_18 : decode cX4_chance 18 = .ok (.ireturn, 1) := dk_172 (dk_at dksX4_chance_0 18 rfl rfl)
abbrev cX4_chanceOf : ByteArray := prog_29_method_59_code
def yX4_chanceOf : MethodName := ⟨RX4, "chanceOf", "(I)I"⟩
def dkwX4_chanceOf_1 : List UInt8 := [180, 0, 52, 5, 27, 79, 42, 6, 3, 16, 100, 16, 50, 27, 104, 182, 1, 38, 172]
abbrev dktX4_chanceOf_1 : List UInt8 := dkwX4_chanceOf_1 ++ []
def dkwX4_chanceOf_0 : List UInt8 := [3, 61, 28, 16, 7, 162, 0, 16, 42, 180, 0, 52, 28, 3, 79, 132, 2, 1, 167, 255, 240, 42]
abbrev dktX4_chanceOf_0 : List UInt8 := dkwX4_chanceOf_0 ++ dktX4_chanceOf_1
theorem dksX4_chanceOf_0 : cX4_chanceOf.data.toList.drop 0 = dktX4_chanceOf_0 := by decide +kernel
theorem dksX4_chanceOf_1 : cX4_chanceOf.data.toList.drop 22 = dktX4_chanceOf_1 := dk_seg dksX4_chanceOf_0 22 rfl rfl
theorem dX4_chanceOf_0 : decode cX4_chanceOf 0 = .ok (.iconst 0, 1) := dk_3 (dk_at dksX4_chanceOf_0 0 rfl rfl)
theorem dX4_chanceOf_1 : decode cX4_chanceOf 1 = .ok (.istore_n 2, 1) := dk_61 (dk_at dksX4_chanceOf_0 1 rfl rfl)
theorem dX4_chanceOf_2 : decode cX4_chanceOf 2 = .ok (.iload_n 2, 1) := dk_28 (dk_at dksX4_chanceOf_0 2 rfl rfl)
theorem dX4_chanceOf_3 : decode cX4_chanceOf 3 = .ok (.bipush 7, 2) := dk_16 7 (dk_at dksX4_chanceOf_0 3 rfl rfl)
theorem dX4_chanceOf_5 : decode cX4_chanceOf 5 = .ok (.if_icmp .ge 16, 3) := dk_162 0 16 (dk_at dksX4_chanceOf_0 5 rfl rfl)
theorem dX4_chanceOf_8 : decode cX4_chanceOf 8 = .ok (.aload_n 0, 1) := dk_42 (dk_at dksX4_chanceOf_0 8 rfl rfl)
theorem dX4_chanceOf_9 : decode cX4_chanceOf 9 = .ok (.getfield 52, 3) := dk_180 0 52 (dk_at dksX4_chanceOf_0 9 rfl rfl)
theorem dX4_chanceOf_12 : decode cX4_chanceOf 12 = .ok (.iload_n 2, 1) := dk_28 (dk_at dksX4_chanceOf_0 12 rfl rfl)
theorem dX4_chanceOf_13 : decode cX4_chanceOf 13 = .ok (.iconst 0, 1) := dk_3 (dk_at dksX4_chanceOf_0 13 rfl rfl)
theorem dX4_chanceOf_14 : decode cX4_chanceOf 14 = .ok (.iastore, 1) := dk_79 (dk_at dksX4_chanceOf_0 14 rfl rfl)
theorem dX4_chanceOf_15 : decode cX4_chanceOf 15 = .ok (.iinc 2 1, 3) := dk_132 2 1 (dk_at dksX4_chanceOf_0 15 rfl rfl)
theorem dX4_chanceOf_18 : decode cX4_chanceOf 18 = .ok (.goto (-16), 3) := dk_167 255 240 (dk_at dksX4_chanceOf_0 18 rfl rfl)
theorem dX4_chanceOf_21 : decode cX4_chanceOf 21 = .ok (.aload_n 0, 1) := dk_42 (dk_at dksX4_chanceOf_0 21 rfl rfl)
theorem dX4_chanceOf_22 : decode cX4_chanceOf 22 = .ok (.getfield 52, 3) := dk_180 0 52 (dk_at dksX4_chanceOf_1 0 rfl rfl)
theorem dX4_chanceOf_25 : decode cX4_chanceOf 25 = .ok (.iconst 2, 1) := dk_5 (dk_at dksX4_chanceOf_1 3 rfl rfl)
theorem dX4_chanceOf_26 : decode cX4_chanceOf 26 = .ok (.iload_n 1, 1) := dk_27 (dk_at dksX4_chanceOf_1 4 rfl rfl)
theorem dX4_chanceOf_27 : decode cX4_chanceOf 27 = .ok (.iastore, 1) := dk_79 (dk_at dksX4_chanceOf_1 5 rfl rfl)
theorem dX4_chanceOf_28 : decode cX4_chanceOf 28 = .ok (.aload_n 0, 1) := dk_42 (dk_at dksX4_chanceOf_1 6 rfl rfl)
theorem dX4_chanceOf_29 : decode cX4_chanceOf 29 = .ok (.iconst 3, 1) := dk_6 (dk_at dksX4_chanceOf_1 7 rfl rfl)
theorem dX4_chanceOf_30 : decode cX4_chanceOf 30 = .ok (.iconst 0, 1) := dk_3 (dk_at dksX4_chanceOf_1 8 rfl rfl)
theorem dX4_chanceOf_31 : decode cX4_chanceOf 31 = .ok (.bipush 100, 2) := dk_16 100 (dk_at dksX4_chanceOf_1 9 rfl rfl)
theorem dX4_chanceOf_33 : decode cX4_chanceOf 33 = .ok (.bipush 50, 2) := dk_16 50 (dk_at dksX4_chanceOf_1 11 rfl rfl)
theorem dX4_chanceOf_35 : decode cX4_chanceOf 35 = .ok (.iload_n 1, 1) := dk_27 (dk_at dksX4_chanceOf_1 13 rfl rfl)
theorem dX4_chanceOf_36 : decode cX4_chanceOf 36 = .ok (.imul, 1) := dk_104 (dk_at dksX4_chanceOf_1 14 rfl rfl)
theorem dX4_chanceOf_37 : decode cX4_chanceOf 37 = .ok (.invokevirtual 294, 3) := dk_182 1 38 (dk_at dksX4_chanceOf_1 15 rfl rfl)
theorem dX4_chanceOf_40 : decode cX4_chanceOf 40 = .ok (.ireturn, 1) := dk_172 (dk_at dksX4_chanceOf_1 18 rfl rfl)
abbrev cX4_pass : ByteArray := prog_29_method_70_code
def yX4_pass : MethodName := ⟨RX4, "pass", "(I)J"⟩
def dkwX4_pass_1 : List UInt8 := [180, 1, 68, 27, 184, 1, 98, 173]
abbrev dktX4_pass_1 : List UInt8 := dkwX4_pass_1 ++ []
def dkwX4_pass_0 : List UInt8 := [27, 3, 4, 184, 0, 135, 154, 0, 7, 20, 1, 88, 173, 42, 2, 3, 182, 1, 90, 42, 182, 1, 94, 42]
abbrev dktX4_pass_0 : List UInt8 := dkwX4_pass_0 ++ dktX4_pass_1
theorem dksX4_pass_0 : cX4_pass.data.toList.drop 0 = dktX4_pass_0 := by decide +kernel
theorem dksX4_pass_1 : cX4_pass.data.toList.drop 24 = dktX4_pass_1 := dk_seg dksX4_pass_0 24 rfl rfl
theorem dX4_pass_0 : decode cX4_pass 0 = .ok (.iload_n 1, 1) := dk_27 (dk_at dksX4_pass_0 0 rfl rfl)
theorem dX4_pass_1 : decode cX4_pass 1 = .ok (.iconst 0, 1) := dk_3 (dk_at dksX4_pass_0 1 rfl rfl)
theorem dX4_pass_2 : decode cX4_pass 2 = .ok (.iconst 1, 1) := dk_4 (dk_at dksX4_pass_0 2 rfl rfl)
theorem dX4_pass_3 : decode cX4_pass 3 = .ok (.invokestatic 135, 3) := dk_184 0 135 (dk_at dksX4_pass_0 3 rfl rfl)
theorem dX4_pass_6 : decode cX4_pass 6 = .ok (.ifCond .ne 7, 3) := dk_154 0 7 (dk_at dksX4_pass_0 6 rfl rfl)
theorem dX4_pass_9 : decode cX4_pass 9 = .ok (.ldc2_w 344, 3) := dk_20 1 88 (dk_at dksX4_pass_0 9 rfl rfl)
theorem dX4_pass_12 : decode cX4_pass 12 = .ok (.lreturn, 1) := dk_173 (dk_at dksX4_pass_0 12 rfl rfl)
theorem dX4_pass_13 : decode cX4_pass 13 = .ok (.aload_n 0, 1) := dk_42 (dk_at dksX4_pass_0 13 rfl rfl)
theorem dX4_pass_14 : decode cX4_pass 14 = .ok (.iconst (-1), 1) := dk_2 (dk_at dksX4_pass_0 14 rfl rfl)
theorem dX4_pass_15 : decode cX4_pass 15 = .ok (.iconst 0, 1) := dk_3 (dk_at dksX4_pass_0 15 rfl rfl)
theorem dX4_pass_16 : decode cX4_pass 16 = .ok (.invokevirtual 346, 3) := dk_182 1 90 (dk_at dksX4_pass_0 16 rfl rfl)
theorem dX4_pass_19 : decode cX4_pass 19 = .ok (.aload_n 0, 1) := dk_42 (dk_at dksX4_pass_0 19 rfl rfl)
theorem dX4_pass_20 : decode cX4_pass 20 = .ok (.invokevirtual 350, 3) := dk_182 1 94 (dk_at dksX4_pass_0 20 rfl rfl)
theorem dX4_pass_23 : decode cX4_pass 23 = .ok (.aload_n 0, 1) := dk_42 (dk_at dksX4_pass_0 23 rfl rfl)
theorem dX4_pass_24 : decode cX4_pass 24 = .ok (.getfield 324, 3) := dk_180 1 68 (dk_at dksX4_pass_1 0 rfl rfl)
theorem dX4_pass_27 : decode cX4_pass 27 = .ok (.iload_n 1, 1) := dk_27 (dk_at dksX4_pass_1 3 rfl rfl)
theorem dX4_pass_28 : decode cX4_pass 28 = .ok (.invokestatic 354, 3) := dk_184 1 98 (dk_at dksX4_pass_1 4 rfl rfl)
theorem dX4_pass_31 : decode cX4_pass 31 = .ok (.lreturn, 1) := dk_173 (dk_at dksX4_pass_1 7 rfl rfl)
abbrev cX4_known : ByteArray := prog_29_method_66_code
def yX4_known : MethodName := ⟨RX4, "known", "(II)V"⟩
def dkwX4_known_4 : List UInt8 := [96, 79, 132, 3, 1, 167, 255, 190, 42, 42, 6, 182, 1, 62, 182, 1, 81, 177]
abbrev dktX4_known_4 : List UInt8 := dkwX4_known_4 ++ []
def dkwX4_known_3 : List UInt8 := [180, 0, 58, 21, 4, 92, 46, 4, 96, 79, 42, 180, 0, 61, 21, 4, 92, 46, 42, 29, 6, 182, 0, 150]
abbrev dktX4_known_3 : List UInt8 := dkwX4_known_3 ++ dktX4_known_4
def dkwX4_known_2 : List UInt8 := [154, 0, 6, 167, 0, 47, 29, 27, 160, 0, 7, 28, 167, 0, 9, 42, 29, 5, 182, 0, 150, 54, 4, 42]
abbrev dktX4_known_2 : List UInt8 := dkwX4_known_2 ++ dktX4_known_3
def dkwX4_known_1 : List UInt8 := [79, 132, 3, 1, 167, 255, 234, 3, 62, 29, 42, 182, 0, 146, 162, 0, 64, 42, 29, 182, 0, 154]
abbrev dktX4_known_1 : List UInt8 := dkwX4_known_1 ++ dktX4_known_2
def dkwX4_known_0 : List UInt8 := [42, 182, 1, 78, 3, 62, 29, 6, 162, 0, 23, 42, 180, 0, 58, 29, 3, 79, 42, 180, 0, 61, 29, 3]
abbrev dktX4_known_0 : List UInt8 := dkwX4_known_0 ++ dktX4_known_1
theorem dksX4_known_0 : cX4_known.data.toList.drop 0 = dktX4_known_0 := by decide +kernel
theorem dksX4_known_1 : cX4_known.data.toList.drop 24 = dktX4_known_1 := dk_seg dksX4_known_0 24 rfl rfl
theorem dksX4_known_2 : cX4_known.data.toList.drop 46 = dktX4_known_2 := dk_seg dksX4_known_1 22 rfl rfl
theorem dksX4_known_3 : cX4_known.data.toList.drop 70 = dktX4_known_3 := dk_seg dksX4_known_2 24 rfl rfl
theorem dksX4_known_4 : cX4_known.data.toList.drop 94 = dktX4_known_4 := dk_seg dksX4_known_3 24 rfl rfl
theorem dX4_known_0 : decode cX4_known 0 = .ok (.aload_n 0, 1) := dk_42 (dk_at dksX4_known_0 0 rfl rfl)
theorem dX4_known_1 : decode cX4_known 1 = .ok (.invokevirtual 334, 3) := dk_182 1 78 (dk_at dksX4_known_0 1 rfl rfl)
theorem dX4_known_4 : decode cX4_known 4 = .ok (.iconst 0, 1) := dk_3 (dk_at dksX4_known_0 4 rfl rfl)
theorem dX4_known_5 : decode cX4_known 5 = .ok (.istore_n 3, 1) := dk_62 (dk_at dksX4_known_0 5 rfl rfl)
theorem dX4_known_6 : decode cX4_known 6 = .ok (.iload_n 3, 1) := dk_29 (dk_at dksX4_known_0 6 rfl rfl)
theorem dX4_known_7 : decode cX4_known 7 = .ok (.iconst 3, 1) := dk_6 (dk_at dksX4_known_0 7 rfl rfl)
theorem dX4_known_8 : decode cX4_known 8 = .ok (.if_icmp .ge 23, 3) := dk_162 0 23 (dk_at dksX4_known_0 8 rfl rfl)
theorem dX4_known_11 : decode cX4_known 11 = .ok (.aload_n 0, 1) := dk_42 (dk_at dksX4_known_0 11 rfl rfl)
theorem dX4_known_12 : decode cX4_known 12 = .ok (.getfield 58, 3) := dk_180 0 58 (dk_at dksX4_known_0 12 rfl rfl)
theorem dX4_known_15 : decode cX4_known 15 = .ok (.iload_n 3, 1) := dk_29 (dk_at dksX4_known_0 15 rfl rfl)
theorem dX4_known_16 : decode cX4_known 16 = .ok (.iconst 0, 1) := dk_3 (dk_at dksX4_known_0 16 rfl rfl)
theorem dX4_known_17 : decode cX4_known 17 = .ok (.iastore, 1) := dk_79 (dk_at dksX4_known_0 17 rfl rfl)
theorem dX4_known_18 : decode cX4_known 18 = .ok (.aload_n 0, 1) := dk_42 (dk_at dksX4_known_0 18 rfl rfl)
theorem dX4_known_19 : decode cX4_known 19 = .ok (.getfield 61, 3) := dk_180 0 61 (dk_at dksX4_known_0 19 rfl rfl)
theorem dX4_known_22 : decode cX4_known 22 = .ok (.iload_n 3, 1) := dk_29 (dk_at dksX4_known_0 22 rfl rfl)
theorem dX4_known_23 : decode cX4_known 23 = .ok (.iconst 0, 1) := dk_3 (dk_at dksX4_known_0 23 rfl rfl)
theorem dX4_known_24 : decode cX4_known 24 = .ok (.iastore, 1) := dk_79 (dk_at dksX4_known_1 0 rfl rfl)
theorem dX4_known_25 : decode cX4_known 25 = .ok (.iinc 3 1, 3) := dk_132 3 1 (dk_at dksX4_known_1 1 rfl rfl)
theorem dX4_known_28 : decode cX4_known 28 = .ok (.goto (-22), 3) := dk_167 255 234 (dk_at dksX4_known_1 4 rfl rfl)
theorem dX4_known_31 : decode cX4_known 31 = .ok (.iconst 0, 1) := dk_3 (dk_at dksX4_known_1 7 rfl rfl)
theorem dX4_known_32 : decode cX4_known 32 = .ok (.istore_n 3, 1) := dk_62 (dk_at dksX4_known_1 8 rfl rfl)
theorem dX4_known_33 : decode cX4_known 33 = .ok (.iload_n 3, 1) := dk_29 (dk_at dksX4_known_1 9 rfl rfl)
theorem dX4_known_34 : decode cX4_known 34 = .ok (.aload_n 0, 1) := dk_42 (dk_at dksX4_known_1 10 rfl rfl)
theorem dX4_known_35 : decode cX4_known 35 = .ok (.invokevirtual 146, 3) := dk_182 0 146 (dk_at dksX4_known_1 11 rfl rfl)
theorem dX4_known_38 : decode cX4_known 38 = .ok (.if_icmp .ge 64, 3) := dk_162 0 64 (dk_at dksX4_known_1 14 rfl rfl)
theorem dX4_known_41 : decode cX4_known 41 = .ok (.aload_n 0, 1) := dk_42 (dk_at dksX4_known_1 17 rfl rfl)
theorem dX4_known_42 : decode cX4_known 42 = .ok (.iload_n 3, 1) := dk_29 (dk_at dksX4_known_1 18 rfl rfl)
theorem dX4_known_43 : decode cX4_known 43 = .ok (.invokevirtual 154, 3) := dk_182 0 154 (dk_at dksX4_known_1 19 rfl rfl)
theorem dX4_known_46 : decode cX4_known 46 = .ok (.ifCond .ne 6, 3) := dk_154 0 6 (dk_at dksX4_known_2 0 rfl rfl)
theorem dX4_known_49 : decode cX4_known 49 = .ok (.goto 47, 3) := dk_167 0 47 (dk_at dksX4_known_2 3 rfl rfl)
theorem dX4_known_52 : decode cX4_known 52 = .ok (.iload_n 3, 1) := dk_29 (dk_at dksX4_known_2 6 rfl rfl)
theorem dX4_known_53 : decode cX4_known 53 = .ok (.iload_n 1, 1) := dk_27 (dk_at dksX4_known_2 7 rfl rfl)
theorem dX4_known_54 : decode cX4_known 54 = .ok (.if_icmp .ne 7, 3) := dk_160 0 7 (dk_at dksX4_known_2 8 rfl rfl)
theorem dX4_known_57 : decode cX4_known 57 = .ok (.iload_n 2, 1) := dk_28 (dk_at dksX4_known_2 11 rfl rfl)
theorem dX4_known_58 : decode cX4_known 58 = .ok (.goto 9, 3) := dk_167 0 9 (dk_at dksX4_known_2 12 rfl rfl)
theorem dX4_known_61 : decode cX4_known 61 = .ok (.aload_n 0, 1) := dk_42 (dk_at dksX4_known_2 15 rfl rfl)
theorem dX4_known_62 : decode cX4_known 62 = .ok (.iload_n 3, 1) := dk_29 (dk_at dksX4_known_2 16 rfl rfl)
theorem dX4_known_63 : decode cX4_known 63 = .ok (.iconst 2, 1) := dk_5 (dk_at dksX4_known_2 17 rfl rfl)
theorem dX4_known_64 : decode cX4_known 64 = .ok (.invokevirtual 150, 3) := dk_182 0 150 (dk_at dksX4_known_2 18 rfl rfl)
theorem dX4_known_67 : decode cX4_known 67 = .ok (.istore 4, 2) := dk_54 4 (dk_at dksX4_known_2 21 rfl rfl)
theorem dX4_known_69 : decode cX4_known 69 = .ok (.aload_n 0, 1) := dk_42 (dk_at dksX4_known_2 23 rfl rfl)
theorem dX4_known_70 : decode cX4_known 70 = .ok (.getfield 58, 3) := dk_180 0 58 (dk_at dksX4_known_3 0 rfl rfl)
theorem dX4_known_73 : decode cX4_known 73 = .ok (.iload 4, 2) := dk_21 4 (dk_at dksX4_known_3 3 rfl rfl)
theorem dX4_known_75 : decode cX4_known 75 = .ok (.dup2, 1) := dk_92 (dk_at dksX4_known_3 5 rfl rfl)
theorem dX4_known_76 : decode cX4_known 76 = .ok (.iaload, 1) := dk_46 (dk_at dksX4_known_3 6 rfl rfl)
theorem dX4_known_77 : decode cX4_known 77 = .ok (.iconst 1, 1) := dk_4 (dk_at dksX4_known_3 7 rfl rfl)
theorem dX4_known_78 : decode cX4_known 78 = .ok (.iadd, 1) := dk_96 (dk_at dksX4_known_3 8 rfl rfl)
theorem dX4_known_79 : decode cX4_known 79 = .ok (.iastore, 1) := dk_79 (dk_at dksX4_known_3 9 rfl rfl)
theorem dX4_known_80 : decode cX4_known 80 = .ok (.aload_n 0, 1) := dk_42 (dk_at dksX4_known_3 10 rfl rfl)
theorem dX4_known_81 : decode cX4_known 81 = .ok (.getfield 61, 3) := dk_180 0 61 (dk_at dksX4_known_3 11 rfl rfl)
theorem dX4_known_84 : decode cX4_known 84 = .ok (.iload 4, 2) := dk_21 4 (dk_at dksX4_known_3 14 rfl rfl)
theorem dX4_known_86 : decode cX4_known 86 = .ok (.dup2, 1) := dk_92 (dk_at dksX4_known_3 16 rfl rfl)
theorem dX4_known_87 : decode cX4_known 87 = .ok (.iaload, 1) := dk_46 (dk_at dksX4_known_3 17 rfl rfl)
theorem dX4_known_88 : decode cX4_known 88 = .ok (.aload_n 0, 1) := dk_42 (dk_at dksX4_known_3 18 rfl rfl)
theorem dX4_known_89 : decode cX4_known 89 = .ok (.iload_n 3, 1) := dk_29 (dk_at dksX4_known_3 19 rfl rfl)
theorem dX4_known_90 : decode cX4_known 90 = .ok (.iconst 3, 1) := dk_6 (dk_at dksX4_known_3 20 rfl rfl)
theorem dX4_known_91 : decode cX4_known 91 = .ok (.invokevirtual 150, 3) := dk_182 0 150 (dk_at dksX4_known_3 21 rfl rfl)
theorem dX4_known_94 : decode cX4_known 94 = .ok (.iadd, 1) := dk_96 (dk_at dksX4_known_4 0 rfl rfl)
theorem dX4_known_95 : decode cX4_known 95 = .ok (.iastore, 1) := dk_79 (dk_at dksX4_known_4 1 rfl rfl)
theorem dX4_known_96 : decode cX4_known 96 = .ok (.iinc 3 1, 3) := dk_132 3 1 (dk_at dksX4_known_4 2 rfl rfl)
theorem dX4_known_99 : decode cX4_known 99 = .ok (.goto (-66), 3) := dk_167 255 190 (dk_at dksX4_known_4 5 rfl rfl)
theorem dX4_known_102 : decode cX4_known 102 = .ok (.aload_n 0, 1) := dk_42 (dk_at dksX4_known_4 8 rfl rfl)
theorem dX4_known_103 : decode cX4_known 103 = .ok (.aload_n 0, 1) := dk_42 (dk_at dksX4_known_4 9 rfl rfl)
theorem dX4_known_104 : decode cX4_known 104 = .ok (.iconst 3, 1) := dk_6 (dk_at dksX4_known_4 10 rfl rfl)
theorem dX4_known_105 : decode cX4_known 105 = .ok (.invokevirtual 318, 3) := dk_182 1 62 (dk_at dksX4_known_4 11 rfl rfl)
theorem dX4_known_108 : decode cX4_known 108 = .ok (.invokevirtual 337, 3) := dk_182 1 81 (dk_at dksX4_known_4 14 rfl rfl)
theorem dX4_known_111 : decode cX4_known 111 = .ok (.return_, 1) := dk_177 (dk_at dksX4_known_4 17 rfl rfl)
abbrev cX4_laysChances : ByteArray := prog_29_method_62_code
def yX4_laysChances : MethodName := ⟨RX4, "laysChances", "()V"⟩
def dkwX4_laysChances_1 : List UInt8 := [177]
abbrev dktX4_laysChances_1 : List UInt8 := dkwX4_laysChances_1 ++ []
def dkwX4_laysChances_0 : List UInt8 := [3, 60, 27, 6, 162, 0, 20, 42, 180, 0, 55, 27, 42, 27, 182, 1, 49, 79, 132, 1, 1, 167, 255, 237]
abbrev dktX4_laysChances_0 : List UInt8 := dkwX4_laysChances_0 ++ dktX4_laysChances_1
theorem dksX4_laysChances_0 : cX4_laysChances.data.toList.drop 0 = dktX4_laysChances_0 := by decide +kernel
theorem dksX4_laysChances_1 : cX4_laysChances.data.toList.drop 24 = dktX4_laysChances_1 := dk_seg dksX4_laysChances_0 24 rfl rfl
theorem dX4_laysChances_0 : decode cX4_laysChances 0 = .ok (.iconst 0, 1) := dk_3 (dk_at dksX4_laysChances_0 0 rfl rfl)
theorem dX4_laysChances_1 : decode cX4_laysChances 1 = .ok (.istore_n 1, 1) := dk_60 (dk_at dksX4_laysChances_0 1 rfl rfl)
theorem dX4_laysChances_2 : decode cX4_laysChances 2 = .ok (.iload_n 1, 1) := dk_27 (dk_at dksX4_laysChances_0 2 rfl rfl)
theorem dX4_laysChances_3 : decode cX4_laysChances 3 = .ok (.iconst 3, 1) := dk_6 (dk_at dksX4_laysChances_0 3 rfl rfl)
theorem dX4_laysChances_4 : decode cX4_laysChances 4 = .ok (.if_icmp .ge 20, 3) := dk_162 0 20 (dk_at dksX4_laysChances_0 4 rfl rfl)
theorem dX4_laysChances_7 : decode cX4_laysChances 7 = .ok (.aload_n 0, 1) := dk_42 (dk_at dksX4_laysChances_0 7 rfl rfl)
theorem dX4_laysChances_8 : decode cX4_laysChances 8 = .ok (.getfield 55, 3) := dk_180 0 55 (dk_at dksX4_laysChances_0 8 rfl rfl)
theorem dX4_laysChances_11 : decode cX4_laysChances 11 = .ok (.iload_n 1, 1) := dk_27 (dk_at dksX4_laysChances_0 11 rfl rfl)
theorem dX4_laysChances_12 : decode cX4_laysChances 12 = .ok (.aload_n 0, 1) := dk_42 (dk_at dksX4_laysChances_0 12 rfl rfl)
theorem dX4_laysChances_13 : decode cX4_laysChances 13 = .ok (.iload_n 1, 1) := dk_27 (dk_at dksX4_laysChances_0 13 rfl rfl)
theorem dX4_laysChances_14 : decode cX4_laysChances 14 = .ok (.invokevirtual 305, 3) := dk_182 1 49 (dk_at dksX4_laysChances_0 14 rfl rfl)
theorem dX4_laysChances_17 : decode cX4_laysChances 17 = .ok (.iastore, 1) := dk_79 (dk_at dksX4_laysChances_0 17 rfl rfl)
theorem dX4_laysChances_18 : decode cX4_laysChances 18 = .ok (.iinc 1 1, 3) := dk_132 1 1 (dk_at dksX4_laysChances_0 18 rfl rfl)
theorem dX4_laysChances_21 : decode cX4_laysChances 21 = .ok (.goto (-19), 3) := dk_167 255 237 (dk_at dksX4_laysChances_0 21 rfl rfl)
theorem dX4_laysChances_24 : decode cX4_laysChances 24 = .ok (.return_, 1) := dk_177 (dk_at dksX4_laysChances_1 0 rfl rfl)
abbrev cX4_isBowl : ByteArray := prog_29_method_11_code
def yX4_isBowl : MethodName := ⟨RX4, "isBowl", "(I)Z"⟩
def dkwX4_isBowl_0 : List UInt8 := [42, 27, 7, 182, 0, 150, 154, 0, 7, 4, 167, 0, 4, 3, 172]
abbrev dktX4_isBowl_0 : List UInt8 := dkwX4_isBowl_0 ++ []
theorem dksX4_isBowl_0 : cX4_isBowl.data.toList.drop 0 = dktX4_isBowl_0 := by decide +kernel
theorem dX4_isBowl_0 : decode cX4_isBowl 0 = .ok (.aload_n 0, 1) := dk_42 (dk_at dksX4_isBowl_0 0 rfl rfl)
theorem dX4_isBowl_1 : decode cX4_isBowl 1 = .ok (.iload_n 1, 1) := dk_27 (dk_at dksX4_isBowl_0 1 rfl rfl)
theorem dX4_isBowl_2 : decode cX4_isBowl 2 = .ok (.iconst 4, 1) := dk_7 (dk_at dksX4_isBowl_0 2 rfl rfl)
theorem dX4_isBowl_3 : decode cX4_isBowl 3 = .ok (.invokevirtual 150, 3) := dk_182 0 150 (dk_at dksX4_isBowl_0 3 rfl rfl)
theorem dX4_isBowl_6 : decode cX4_isBowl 6 = .ok (.ifCond .ne 7, 3) := dk_154 0 7 (dk_at dksX4_isBowl_0 6 rfl rfl)
theorem dX4_isBowl_9 : decode cX4_isBowl 9 = .ok (.iconst 1, 1) := dk_4 (dk_at dksX4_isBowl_0 9 rfl rfl)
theorem dX4_isBowl_10 : decode cX4_isBowl 10 = .ok (.goto 4, 3) := dk_167 0 4 (dk_at dksX4_isBowl_0 10 rfl rfl)
theorem dX4_isBowl_13 : decode cX4_isBowl 13 = .ok (.iconst 0, 1) := dk_3 (dk_at dksX4_isBowl_0 13 rfl rfl)
theorem dX4_isBowl_14 : decode cX4_isBowl 14 = .ok (.ireturn, 1) := dk_172 (dk_at dksX4_isBowl_0 14 rfl rfl)
abbrev cX4_term : ByteArray := prog_29_method_7_code
def yX4_term : MethodName := ⟨RX4, "term", "(I)I"⟩
def dkwX4_term_0 : List UInt8 := [42, 180, 0, 20, 16, 100, 27, 96, 46, 172]
abbrev dktX4_term_0 : List UInt8 := dkwX4_term_0 ++ []
theorem dksX4_term_0 : cX4_term.data.toList.drop 0 = dktX4_term_0 := by decide +kernel
theorem dX4_term_0 : decode cX4_term 0 = .ok (.aload_n 0, 1) := dk_42 (dk_at dksX4_term_0 0 rfl rfl)
theorem dX4_term_1 : decode cX4_term 1 = .ok (.getfield 20, 3) := dk_180 0 20 (dk_at dksX4_term_0 1 rfl rfl)
theorem dX4_term_4 : decode cX4_term 4 = .ok (.bipush 100, 2) := dk_16 100 (dk_at dksX4_term_0 4 rfl rfl)
theorem dX4_term_6 : decode cX4_term 6 = .ok (.iload_n 1, 1) := dk_27 (dk_at dksX4_term_0 6 rfl rfl)
theorem dX4_term_7 : decode cX4_term 7 = .ok (.iadd, 1) := dk_96 (dk_at dksX4_term_0 7 rfl rfl)
theorem dX4_term_8 : decode cX4_term 8 = .ok (.iaload, 1) := dk_46 (dk_at dksX4_term_0 8 rfl rfl)
theorem dX4_term_9 : decode cX4_term 9 = .ok (.ireturn, 1) := dk_172 (dk_at dksX4_term_0 9 rfl rfl)
abbrev cX4_odds : ByteArray := prog_29_method_65_code
def yX4_odds : MethodName := ⟨RX4, "odds", "(I)V"⟩
def dkwX4_odds_13 : List UInt8 := [182, 1, 74, 42, 180, 0, 58, 21, 5, 92, 46, 4, 96, 79, 132, 5, 1, 167, 255, 186, 177]
abbrev dktX4_odds_13 : List UInt8 := dkwX4_odds_13 ++ []
def dkwX4_odds_12 : List UInt8 := [42, 180, 1, 65, 4, 100, 21, 5, 27, 133, 42, 180, 0, 61, 21, 5, 46, 133, 105, 28, 133, 105]
abbrev dktX4_odds_12 : List UInt8 := dkwX4_odds_12 ++ dktX4_odds_13
def dkwX4_odds_11 : List UInt8 := [180, 0, 61, 21, 5, 46, 154, 0, 6, 167, 0, 51, 42, 180, 0, 58, 21, 5, 92, 46, 4, 100, 79, 42]
abbrev dktX4_odds_11 : List UInt8 := dkwX4_odds_11 ++ dktX4_odds_12
def dkwX4_odds_10 : List UInt8 := [29, 133, 105, 42, 180, 1, 65, 133, 105, 182, 1, 74, 3, 54, 5, 21, 5, 6, 162, 0, 70, 42]
abbrev dktX4_odds_10 : List UInt8 := dkwX4_odds_10 ++ dktX4_odds_11
def dkwX4_odds_9 : List UInt8 := [105, 29, 133, 105, 42, 180, 1, 65, 133, 105, 181, 1, 68, 42, 42, 180, 1, 65, 2, 16, 100, 27, 100, 133]
abbrev dktX4_odds_9 : List UInt8 := dkwX4_odds_9 ++ dktX4_odds_10
def dkwX4_odds_8 : List UInt8 := [21, 4, 154, 0, 14, 42, 42, 180, 1, 65, 2, 10, 182, 1, 74, 177, 42, 42, 180, 1, 68, 20, 1, 72]
abbrev dktX4_odds_8 : List UInt8 := dkwX4_odds_8 ++ dktX4_odds_9
def dkwX4_odds_7 : List UInt8 := [158, 0, 20, 29, 158, 0, 16, 42, 3, 182, 1, 62, 28, 162, 0, 7, 4, 167, 0, 4, 3, 54, 4]
abbrev dktX4_odds_7 : List UInt8 := dkwX4_odds_7 ++ dktX4_odds_8
def dkwX4_odds_6 : List UInt8 := [162, 0, 21, 42, 42, 180, 1, 68, 20, 1, 72, 105, 181, 1, 68, 132, 4, 1, 167, 255, 232, 27]
abbrev dktX4_odds_6 : List UInt8 := dkwX4_odds_6 ++ dktX4_odds_7
def dkwX4_odds_5 : List UInt8 := [167, 255, 239, 42, 28, 42, 180, 1, 65, 184, 1, 55, 181, 1, 68, 3, 54, 4, 21, 4, 42, 180, 1, 52]
abbrev dktX4_odds_5 : List UInt8 := dkwX4_odds_5 ++ dktX4_odds_6
def dkwX4_odds_4 : List UInt8 := [181, 1, 52, 3, 54, 4, 21, 4, 7, 162, 0, 17, 42, 180, 0, 71, 21, 4, 9, 80, 132, 4, 1]
abbrev dktX4_odds_4 : List UInt8 := dkwX4_odds_4 ++ dktX4_odds_5
def dkwX4_odds_3 : List UInt8 := [182, 1, 62, 42, 180, 1, 65, 162, 0, 11, 42, 4, 182, 1, 62, 167, 0, 7, 42, 180, 1, 65]
abbrev dktX4_odds_3 : List UInt8 := dkwX4_odds_3 ++ dktX4_odds_4
def dkwX4_odds_2 : List UInt8 := [182, 1, 62, 28, 162, 0, 11, 42, 3, 182, 1, 62, 167, 0, 4, 28, 181, 1, 65, 42, 42, 4]
abbrev dktX4_odds_2 : List UInt8 := dkwX4_odds_2 ++ dktX4_odds_3
def dkwX4_odds_1 : List UInt8 := [180, 0, 61, 3, 46, 42, 180, 0, 61, 4, 46, 96, 42, 180, 0, 61, 5, 46, 96, 62, 42, 42, 3]
abbrev dktX4_odds_1 : List UInt8 := dkwX4_odds_1 ++ dktX4_odds_2
def dkwX4_odds_0 : List UInt8 := [42, 180, 0, 58, 3, 46, 42, 180, 0, 58, 4, 46, 96, 42, 180, 0, 58, 5, 46, 96, 61, 42]
abbrev dktX4_odds_0 : List UInt8 := dkwX4_odds_0 ++ dktX4_odds_1
theorem dksX4_odds_0 : cX4_odds.data.toList.drop 0 = dktX4_odds_0 := by decide +kernel
theorem dksX4_odds_1 : cX4_odds.data.toList.drop 22 = dktX4_odds_1 := dk_seg dksX4_odds_0 22 rfl rfl
theorem dksX4_odds_2 : cX4_odds.data.toList.drop 45 = dktX4_odds_2 := dk_seg dksX4_odds_1 23 rfl rfl
theorem dksX4_odds_3 : cX4_odds.data.toList.drop 67 = dktX4_odds_3 := dk_seg dksX4_odds_2 22 rfl rfl
theorem dksX4_odds_4 : cX4_odds.data.toList.drop 89 = dktX4_odds_4 := dk_seg dksX4_odds_3 22 rfl rfl
theorem dksX4_odds_5 : cX4_odds.data.toList.drop 112 = dktX4_odds_5 := dk_seg dksX4_odds_4 23 rfl rfl
theorem dksX4_odds_6 : cX4_odds.data.toList.drop 136 = dktX4_odds_6 := dk_seg dksX4_odds_5 24 rfl rfl
theorem dksX4_odds_7 : cX4_odds.data.toList.drop 158 = dktX4_odds_7 := dk_seg dksX4_odds_6 22 rfl rfl
theorem dksX4_odds_8 : cX4_odds.data.toList.drop 181 = dktX4_odds_8 := dk_seg dksX4_odds_7 23 rfl rfl
theorem dksX4_odds_9 : cX4_odds.data.toList.drop 205 = dktX4_odds_9 := dk_seg dksX4_odds_8 24 rfl rfl
theorem dksX4_odds_10 : cX4_odds.data.toList.drop 229 = dktX4_odds_10 := dk_seg dksX4_odds_9 24 rfl rfl
theorem dksX4_odds_11 : cX4_odds.data.toList.drop 251 = dktX4_odds_11 := dk_seg dksX4_odds_10 22 rfl rfl
theorem dksX4_odds_12 : cX4_odds.data.toList.drop 275 = dktX4_odds_12 := dk_seg dksX4_odds_11 24 rfl rfl
theorem dksX4_odds_13 : cX4_odds.data.toList.drop 297 = dktX4_odds_13 := dk_seg dksX4_odds_12 22 rfl rfl
theorem dX4_odds_0 : decode cX4_odds 0 = .ok (.aload_n 0, 1) := dk_42 (dk_at dksX4_odds_0 0 rfl rfl)
theorem dX4_odds_1 : decode cX4_odds 1 = .ok (.getfield 58, 3) := dk_180 0 58 (dk_at dksX4_odds_0 1 rfl rfl)
theorem dX4_odds_4 : decode cX4_odds 4 = .ok (.iconst 0, 1) := dk_3 (dk_at dksX4_odds_0 4 rfl rfl)
theorem dX4_odds_5 : decode cX4_odds 5 = .ok (.iaload, 1) := dk_46 (dk_at dksX4_odds_0 5 rfl rfl)
theorem dX4_odds_6 : decode cX4_odds 6 = .ok (.aload_n 0, 1) := dk_42 (dk_at dksX4_odds_0 6 rfl rfl)
theorem dX4_odds_7 : decode cX4_odds 7 = .ok (.getfield 58, 3) := dk_180 0 58 (dk_at dksX4_odds_0 7 rfl rfl)
theorem dX4_odds_10 : decode cX4_odds 10 = .ok (.iconst 1, 1) := dk_4 (dk_at dksX4_odds_0 10 rfl rfl)
theorem dX4_odds_11 : decode cX4_odds 11 = .ok (.iaload, 1) := dk_46 (dk_at dksX4_odds_0 11 rfl rfl)
theorem dX4_odds_12 : decode cX4_odds 12 = .ok (.iadd, 1) := dk_96 (dk_at dksX4_odds_0 12 rfl rfl)
theorem dX4_odds_13 : decode cX4_odds 13 = .ok (.aload_n 0, 1) := dk_42 (dk_at dksX4_odds_0 13 rfl rfl)
theorem dX4_odds_14 : decode cX4_odds 14 = .ok (.getfield 58, 3) := dk_180 0 58 (dk_at dksX4_odds_0 14 rfl rfl)
theorem dX4_odds_17 : decode cX4_odds 17 = .ok (.iconst 2, 1) := dk_5 (dk_at dksX4_odds_0 17 rfl rfl)
theorem dX4_odds_18 : decode cX4_odds 18 = .ok (.iaload, 1) := dk_46 (dk_at dksX4_odds_0 18 rfl rfl)
theorem dX4_odds_19 : decode cX4_odds 19 = .ok (.iadd, 1) := dk_96 (dk_at dksX4_odds_0 19 rfl rfl)
theorem dX4_odds_20 : decode cX4_odds 20 = .ok (.istore_n 2, 1) := dk_61 (dk_at dksX4_odds_0 20 rfl rfl)
theorem dX4_odds_21 : decode cX4_odds 21 = .ok (.aload_n 0, 1) := dk_42 (dk_at dksX4_odds_0 21 rfl rfl)
theorem dX4_odds_22 : decode cX4_odds 22 = .ok (.getfield 61, 3) := dk_180 0 61 (dk_at dksX4_odds_1 0 rfl rfl)
theorem dX4_odds_25 : decode cX4_odds 25 = .ok (.iconst 0, 1) := dk_3 (dk_at dksX4_odds_1 3 rfl rfl)
theorem dX4_odds_26 : decode cX4_odds 26 = .ok (.iaload, 1) := dk_46 (dk_at dksX4_odds_1 4 rfl rfl)
theorem dX4_odds_27 : decode cX4_odds 27 = .ok (.aload_n 0, 1) := dk_42 (dk_at dksX4_odds_1 5 rfl rfl)
theorem dX4_odds_28 : decode cX4_odds 28 = .ok (.getfield 61, 3) := dk_180 0 61 (dk_at dksX4_odds_1 6 rfl rfl)
theorem dX4_odds_31 : decode cX4_odds 31 = .ok (.iconst 1, 1) := dk_4 (dk_at dksX4_odds_1 9 rfl rfl)
theorem dX4_odds_32 : decode cX4_odds 32 = .ok (.iaload, 1) := dk_46 (dk_at dksX4_odds_1 10 rfl rfl)
theorem dX4_odds_33 : decode cX4_odds 33 = .ok (.iadd, 1) := dk_96 (dk_at dksX4_odds_1 11 rfl rfl)
theorem dX4_odds_34 : decode cX4_odds 34 = .ok (.aload_n 0, 1) := dk_42 (dk_at dksX4_odds_1 12 rfl rfl)
theorem dX4_odds_35 : decode cX4_odds 35 = .ok (.getfield 61, 3) := dk_180 0 61 (dk_at dksX4_odds_1 13 rfl rfl)
theorem dX4_odds_38 : decode cX4_odds 38 = .ok (.iconst 2, 1) := dk_5 (dk_at dksX4_odds_1 16 rfl rfl)
theorem dX4_odds_39 : decode cX4_odds 39 = .ok (.iaload, 1) := dk_46 (dk_at dksX4_odds_1 17 rfl rfl)
theorem dX4_odds_40 : decode cX4_odds 40 = .ok (.iadd, 1) := dk_96 (dk_at dksX4_odds_1 18 rfl rfl)
theorem dX4_odds_41 : decode cX4_odds 41 = .ok (.istore_n 3, 1) := dk_62 (dk_at dksX4_odds_1 19 rfl rfl)
theorem dX4_odds_42 : decode cX4_odds 42 = .ok (.aload_n 0, 1) := dk_42 (dk_at dksX4_odds_1 20 rfl rfl)
theorem dX4_odds_43 : decode cX4_odds 43 = .ok (.aload_n 0, 1) := dk_42 (dk_at dksX4_odds_1 21 rfl rfl)
theorem dX4_odds_44 : decode cX4_odds 44 = .ok (.iconst 0, 1) := dk_3 (dk_at dksX4_odds_1 22 rfl rfl)
theorem dX4_odds_45 : decode cX4_odds 45 = .ok (.invokevirtual 318, 3) := dk_182 1 62 (dk_at dksX4_odds_2 0 rfl rfl)
theorem dX4_odds_48 : decode cX4_odds 48 = .ok (.iload_n 2, 1) := dk_28 (dk_at dksX4_odds_2 3 rfl rfl)
theorem dX4_odds_49 : decode cX4_odds 49 = .ok (.if_icmp .ge 11, 3) := dk_162 0 11 (dk_at dksX4_odds_2 4 rfl rfl)
theorem dX4_odds_52 : decode cX4_odds 52 = .ok (.aload_n 0, 1) := dk_42 (dk_at dksX4_odds_2 7 rfl rfl)
theorem dX4_odds_53 : decode cX4_odds 53 = .ok (.iconst 0, 1) := dk_3 (dk_at dksX4_odds_2 8 rfl rfl)
theorem dX4_odds_54 : decode cX4_odds 54 = .ok (.invokevirtual 318, 3) := dk_182 1 62 (dk_at dksX4_odds_2 9 rfl rfl)
theorem dX4_odds_57 : decode cX4_odds 57 = .ok (.goto 4, 3) := dk_167 0 4 (dk_at dksX4_odds_2 12 rfl rfl)
theorem dX4_odds_60 : decode cX4_odds 60 = .ok (.iload_n 2, 1) := dk_28 (dk_at dksX4_odds_2 15 rfl rfl)
theorem dX4_odds_61 : decode cX4_odds 61 = .ok (.putfield 321, 3) := dk_181 1 65 (dk_at dksX4_odds_2 16 rfl rfl)
theorem dX4_odds_64 : decode cX4_odds 64 = .ok (.aload_n 0, 1) := dk_42 (dk_at dksX4_odds_2 19 rfl rfl)
theorem dX4_odds_65 : decode cX4_odds 65 = .ok (.aload_n 0, 1) := dk_42 (dk_at dksX4_odds_2 20 rfl rfl)
theorem dX4_odds_66 : decode cX4_odds 66 = .ok (.iconst 1, 1) := dk_4 (dk_at dksX4_odds_2 21 rfl rfl)
theorem dX4_odds_67 : decode cX4_odds 67 = .ok (.invokevirtual 318, 3) := dk_182 1 62 (dk_at dksX4_odds_3 0 rfl rfl)
theorem dX4_odds_70 : decode cX4_odds 70 = .ok (.aload_n 0, 1) := dk_42 (dk_at dksX4_odds_3 3 rfl rfl)
theorem dX4_odds_71 : decode cX4_odds 71 = .ok (.getfield 321, 3) := dk_180 1 65 (dk_at dksX4_odds_3 4 rfl rfl)
theorem dX4_odds_74 : decode cX4_odds 74 = .ok (.if_icmp .ge 11, 3) := dk_162 0 11 (dk_at dksX4_odds_3 7 rfl rfl)
theorem dX4_odds_77 : decode cX4_odds 77 = .ok (.aload_n 0, 1) := dk_42 (dk_at dksX4_odds_3 10 rfl rfl)
theorem dX4_odds_78 : decode cX4_odds 78 = .ok (.iconst 1, 1) := dk_4 (dk_at dksX4_odds_3 11 rfl rfl)
theorem dX4_odds_79 : decode cX4_odds 79 = .ok (.invokevirtual 318, 3) := dk_182 1 62 (dk_at dksX4_odds_3 12 rfl rfl)
theorem dX4_odds_82 : decode cX4_odds 82 = .ok (.goto 7, 3) := dk_167 0 7 (dk_at dksX4_odds_3 15 rfl rfl)
theorem dX4_odds_85 : decode cX4_odds 85 = .ok (.aload_n 0, 1) := dk_42 (dk_at dksX4_odds_3 18 rfl rfl)
theorem dX4_odds_86 : decode cX4_odds 86 = .ok (.getfield 321, 3) := dk_180 1 65 (dk_at dksX4_odds_3 19 rfl rfl)
theorem dX4_odds_89 : decode cX4_odds 89 = .ok (.putfield 308, 3) := dk_181 1 52 (dk_at dksX4_odds_4 0 rfl rfl)
theorem dX4_odds_92 : decode cX4_odds 92 = .ok (.iconst 0, 1) := dk_3 (dk_at dksX4_odds_4 3 rfl rfl)
theorem dX4_odds_93 : decode cX4_odds 93 = .ok (.istore 4, 2) := dk_54 4 (dk_at dksX4_odds_4 4 rfl rfl)
theorem dX4_odds_95 : decode cX4_odds 95 = .ok (.iload 4, 2) := dk_21 4 (dk_at dksX4_odds_4 6 rfl rfl)
theorem dX4_odds_97 : decode cX4_odds 97 = .ok (.iconst 4, 1) := dk_7 (dk_at dksX4_odds_4 8 rfl rfl)
theorem dX4_odds_98 : decode cX4_odds 98 = .ok (.if_icmp .ge 17, 3) := dk_162 0 17 (dk_at dksX4_odds_4 9 rfl rfl)
theorem dX4_odds_101 : decode cX4_odds 101 = .ok (.aload_n 0, 1) := dk_42 (dk_at dksX4_odds_4 12 rfl rfl)
theorem dX4_odds_102 : decode cX4_odds 102 = .ok (.getfield 71, 3) := dk_180 0 71 (dk_at dksX4_odds_4 13 rfl rfl)
theorem dX4_odds_105 : decode cX4_odds 105 = .ok (.iload 4, 2) := dk_21 4 (dk_at dksX4_odds_4 16 rfl rfl)
theorem dX4_odds_107 : decode cX4_odds 107 = .ok (.lconst 0, 1) := dk_9 (dk_at dksX4_odds_4 18 rfl rfl)
theorem dX4_odds_108 : decode cX4_odds 108 = .ok (.lastore, 1) := dk_80 (dk_at dksX4_odds_4 19 rfl rfl)
theorem dX4_odds_109 : decode cX4_odds 109 = .ok (.iinc 4 1, 3) := dk_132 4 1 (dk_at dksX4_odds_4 20 rfl rfl)
theorem dX4_odds_112 : decode cX4_odds 112 = .ok (.goto (-17), 3) := dk_167 255 239 (dk_at dksX4_odds_5 0 rfl rfl)
theorem dX4_odds_115 : decode cX4_odds 115 = .ok (.aload_n 0, 1) := dk_42 (dk_at dksX4_odds_5 3 rfl rfl)
theorem dX4_odds_116 : decode cX4_odds 116 = .ok (.iload_n 2, 1) := dk_28 (dk_at dksX4_odds_5 4 rfl rfl)
theorem dX4_odds_117 : decode cX4_odds 117 = .ok (.aload_n 0, 1) := dk_42 (dk_at dksX4_odds_5 5 rfl rfl)
theorem dX4_odds_118 : decode cX4_odds 118 = .ok (.getfield 321, 3) := dk_180 1 65 (dk_at dksX4_odds_5 6 rfl rfl)
theorem dX4_odds_121 : decode cX4_odds 121 = .ok (.invokestatic 311, 3) := dk_184 1 55 (dk_at dksX4_odds_5 9 rfl rfl)
theorem dX4_odds_124 : decode cX4_odds 124 = .ok (.putfield 324, 3) := dk_181 1 68 (dk_at dksX4_odds_5 12 rfl rfl)
theorem dX4_odds_127 : decode cX4_odds 127 = .ok (.iconst 0, 1) := dk_3 (dk_at dksX4_odds_5 15 rfl rfl)
theorem dX4_odds_128 : decode cX4_odds 128 = .ok (.istore 4, 2) := dk_54 4 (dk_at dksX4_odds_5 16 rfl rfl)
theorem dX4_odds_130 : decode cX4_odds 130 = .ok (.iload 4, 2) := dk_21 4 (dk_at dksX4_odds_5 18 rfl rfl)
theorem dX4_odds_132 : decode cX4_odds 132 = .ok (.aload_n 0, 1) := dk_42 (dk_at dksX4_odds_5 20 rfl rfl)
theorem dX4_odds_133 : decode cX4_odds 133 = .ok (.getfield 308, 3) := dk_180 1 52 (dk_at dksX4_odds_5 21 rfl rfl)
theorem dX4_odds_136 : decode cX4_odds 136 = .ok (.if_icmp .ge 21, 3) := dk_162 0 21 (dk_at dksX4_odds_6 0 rfl rfl)
theorem dX4_odds_139 : decode cX4_odds 139 = .ok (.aload_n 0, 1) := dk_42 (dk_at dksX4_odds_6 3 rfl rfl)
theorem dX4_odds_140 : decode cX4_odds 140 = .ok (.aload_n 0, 1) := dk_42 (dk_at dksX4_odds_6 4 rfl rfl)
theorem dX4_odds_141 : decode cX4_odds 141 = .ok (.getfield 324, 3) := dk_180 1 68 (dk_at dksX4_odds_6 5 rfl rfl)
theorem dX4_odds_144 : decode cX4_odds 144 = .ok (.ldc2_w 328, 3) := dk_20 1 72 (dk_at dksX4_odds_6 8 rfl rfl)
theorem dX4_odds_147 : decode cX4_odds 147 = .ok (.lmul, 1) := dk_105 (dk_at dksX4_odds_6 11 rfl rfl)
theorem dX4_odds_148 : decode cX4_odds 148 = .ok (.putfield 324, 3) := dk_181 1 68 (dk_at dksX4_odds_6 12 rfl rfl)
theorem dX4_odds_151 : decode cX4_odds 151 = .ok (.iinc 4 1, 3) := dk_132 4 1 (dk_at dksX4_odds_6 15 rfl rfl)
theorem dX4_odds_154 : decode cX4_odds 154 = .ok (.goto (-24), 3) := dk_167 255 232 (dk_at dksX4_odds_6 18 rfl rfl)
theorem dX4_odds_157 : decode cX4_odds 157 = .ok (.iload_n 1, 1) := dk_27 (dk_at dksX4_odds_6 21 rfl rfl)
theorem dX4_odds_158 : decode cX4_odds 158 = .ok (.ifCond .le 20, 3) := dk_158 0 20 (dk_at dksX4_odds_7 0 rfl rfl)
theorem dX4_odds_161 : decode cX4_odds 161 = .ok (.iload_n 3, 1) := dk_29 (dk_at dksX4_odds_7 3 rfl rfl)
theorem dX4_odds_162 : decode cX4_odds 162 = .ok (.ifCond .le 16, 3) := dk_158 0 16 (dk_at dksX4_odds_7 4 rfl rfl)
theorem dX4_odds_165 : decode cX4_odds 165 = .ok (.aload_n 0, 1) := dk_42 (dk_at dksX4_odds_7 7 rfl rfl)
theorem dX4_odds_166 : decode cX4_odds 166 = .ok (.iconst 0, 1) := dk_3 (dk_at dksX4_odds_7 8 rfl rfl)
theorem dX4_odds_167 : decode cX4_odds 167 = .ok (.invokevirtual 318, 3) := dk_182 1 62 (dk_at dksX4_odds_7 9 rfl rfl)
theorem dX4_odds_170 : decode cX4_odds 170 = .ok (.iload_n 2, 1) := dk_28 (dk_at dksX4_odds_7 12 rfl rfl)
theorem dX4_odds_171 : decode cX4_odds 171 = .ok (.if_icmp .ge 7, 3) := dk_162 0 7 (dk_at dksX4_odds_7 13 rfl rfl)
theorem dX4_odds_174 : decode cX4_odds 174 = .ok (.iconst 1, 1) := dk_4 (dk_at dksX4_odds_7 16 rfl rfl)
theorem dX4_odds_175 : decode cX4_odds 175 = .ok (.goto 4, 3) := dk_167 0 4 (dk_at dksX4_odds_7 17 rfl rfl)
theorem dX4_odds_178 : decode cX4_odds 178 = .ok (.iconst 0, 1) := dk_3 (dk_at dksX4_odds_7 20 rfl rfl)
theorem dX4_odds_179 : decode cX4_odds 179 = .ok (.istore 4, 2) := dk_54 4 (dk_at dksX4_odds_7 21 rfl rfl)
theorem dX4_odds_181 : decode cX4_odds 181 = .ok (.iload 4, 2) := dk_21 4 (dk_at dksX4_odds_8 0 rfl rfl)
theorem dX4_odds_183 : decode cX4_odds 183 = .ok (.ifCond .ne 14, 3) := dk_154 0 14 (dk_at dksX4_odds_8 2 rfl rfl)
theorem dX4_odds_186 : decode cX4_odds 186 = .ok (.aload_n 0, 1) := dk_42 (dk_at dksX4_odds_8 5 rfl rfl)
theorem dX4_odds_187 : decode cX4_odds 187 = .ok (.aload_n 0, 1) := dk_42 (dk_at dksX4_odds_8 6 rfl rfl)
theorem dX4_odds_188 : decode cX4_odds 188 = .ok (.getfield 321, 3) := dk_180 1 65 (dk_at dksX4_odds_8 7 rfl rfl)
theorem dX4_odds_191 : decode cX4_odds 191 = .ok (.iconst (-1), 1) := dk_2 (dk_at dksX4_odds_8 10 rfl rfl)
theorem dX4_odds_192 : decode cX4_odds 192 = .ok (.lconst 1, 1) := dk_10 (dk_at dksX4_odds_8 11 rfl rfl)
theorem dX4_odds_193 : decode cX4_odds 193 = .ok (.invokevirtual 330, 3) := dk_182 1 74 (dk_at dksX4_odds_8 12 rfl rfl)
theorem dX4_odds_196 : decode cX4_odds 196 = .ok (.return_, 1) := dk_177 (dk_at dksX4_odds_8 15 rfl rfl)
theorem dX4_odds_197 : decode cX4_odds 197 = .ok (.aload_n 0, 1) := dk_42 (dk_at dksX4_odds_8 16 rfl rfl)
theorem dX4_odds_198 : decode cX4_odds 198 = .ok (.aload_n 0, 1) := dk_42 (dk_at dksX4_odds_8 17 rfl rfl)
theorem dX4_odds_199 : decode cX4_odds 199 = .ok (.getfield 324, 3) := dk_180 1 68 (dk_at dksX4_odds_8 18 rfl rfl)
theorem dX4_odds_202 : decode cX4_odds 202 = .ok (.ldc2_w 328, 3) := dk_20 1 72 (dk_at dksX4_odds_8 21 rfl rfl)
theorem dX4_odds_205 : decode cX4_odds 205 = .ok (.lmul, 1) := dk_105 (dk_at dksX4_odds_9 0 rfl rfl)
theorem dX4_odds_206 : decode cX4_odds 206 = .ok (.iload_n 3, 1) := dk_29 (dk_at dksX4_odds_9 1 rfl rfl)
theorem dX4_odds_207 : decode cX4_odds 207 = .ok (.i2l, 1) := dk_133 (dk_at dksX4_odds_9 2 rfl rfl)
theorem dX4_odds_208 : decode cX4_odds 208 = .ok (.lmul, 1) := dk_105 (dk_at dksX4_odds_9 3 rfl rfl)
theorem dX4_odds_209 : decode cX4_odds 209 = .ok (.aload_n 0, 1) := dk_42 (dk_at dksX4_odds_9 4 rfl rfl)
theorem dX4_odds_210 : decode cX4_odds 210 = .ok (.getfield 321, 3) := dk_180 1 65 (dk_at dksX4_odds_9 5 rfl rfl)
theorem dX4_odds_213 : decode cX4_odds 213 = .ok (.i2l, 1) := dk_133 (dk_at dksX4_odds_9 8 rfl rfl)
theorem dX4_odds_214 : decode cX4_odds 214 = .ok (.lmul, 1) := dk_105 (dk_at dksX4_odds_9 9 rfl rfl)
theorem dX4_odds_215 : decode cX4_odds 215 = .ok (.putfield 324, 3) := dk_181 1 68 (dk_at dksX4_odds_9 10 rfl rfl)
theorem dX4_odds_218 : decode cX4_odds 218 = .ok (.aload_n 0, 1) := dk_42 (dk_at dksX4_odds_9 13 rfl rfl)
theorem dX4_odds_219 : decode cX4_odds 219 = .ok (.aload_n 0, 1) := dk_42 (dk_at dksX4_odds_9 14 rfl rfl)
theorem dX4_odds_220 : decode cX4_odds 220 = .ok (.getfield 321, 3) := dk_180 1 65 (dk_at dksX4_odds_9 15 rfl rfl)
theorem dX4_odds_223 : decode cX4_odds 223 = .ok (.iconst (-1), 1) := dk_2 (dk_at dksX4_odds_9 18 rfl rfl)
theorem dX4_odds_224 : decode cX4_odds 224 = .ok (.bipush 100, 2) := dk_16 100 (dk_at dksX4_odds_9 19 rfl rfl)
theorem dX4_odds_226 : decode cX4_odds 226 = .ok (.iload_n 1, 1) := dk_27 (dk_at dksX4_odds_9 21 rfl rfl)
theorem dX4_odds_227 : decode cX4_odds 227 = .ok (.isub, 1) := dk_100 (dk_at dksX4_odds_9 22 rfl rfl)
theorem dX4_odds_228 : decode cX4_odds 228 = .ok (.i2l, 1) := dk_133 (dk_at dksX4_odds_9 23 rfl rfl)
theorem dX4_odds_229 : decode cX4_odds 229 = .ok (.iload_n 3, 1) := dk_29 (dk_at dksX4_odds_10 0 rfl rfl)
theorem dX4_odds_230 : decode cX4_odds 230 = .ok (.i2l, 1) := dk_133 (dk_at dksX4_odds_10 1 rfl rfl)
theorem dX4_odds_231 : decode cX4_odds 231 = .ok (.lmul, 1) := dk_105 (dk_at dksX4_odds_10 2 rfl rfl)
theorem dX4_odds_232 : decode cX4_odds 232 = .ok (.aload_n 0, 1) := dk_42 (dk_at dksX4_odds_10 3 rfl rfl)
theorem dX4_odds_233 : decode cX4_odds 233 = .ok (.getfield 321, 3) := dk_180 1 65 (dk_at dksX4_odds_10 4 rfl rfl)
theorem dX4_odds_236 : decode cX4_odds 236 = .ok (.i2l, 1) := dk_133 (dk_at dksX4_odds_10 7 rfl rfl)
theorem dX4_odds_237 : decode cX4_odds 237 = .ok (.lmul, 1) := dk_105 (dk_at dksX4_odds_10 8 rfl rfl)
theorem dX4_odds_238 : decode cX4_odds 238 = .ok (.invokevirtual 330, 3) := dk_182 1 74 (dk_at dksX4_odds_10 9 rfl rfl)
theorem dX4_odds_241 : decode cX4_odds 241 = .ok (.iconst 0, 1) := dk_3 (dk_at dksX4_odds_10 12 rfl rfl)
theorem dX4_odds_242 : decode cX4_odds 242 = .ok (.istore 5, 2) := dk_54 5 (dk_at dksX4_odds_10 13 rfl rfl)
theorem dX4_odds_244 : decode cX4_odds 244 = .ok (.iload 5, 2) := dk_21 5 (dk_at dksX4_odds_10 15 rfl rfl)
theorem dX4_odds_246 : decode cX4_odds 246 = .ok (.iconst 3, 1) := dk_6 (dk_at dksX4_odds_10 17 rfl rfl)
theorem dX4_odds_247 : decode cX4_odds 247 = .ok (.if_icmp .ge 70, 3) := dk_162 0 70 (dk_at dksX4_odds_10 18 rfl rfl)
theorem dX4_odds_250 : decode cX4_odds 250 = .ok (.aload_n 0, 1) := dk_42 (dk_at dksX4_odds_10 21 rfl rfl)
theorem dX4_odds_251 : decode cX4_odds 251 = .ok (.getfield 61, 3) := dk_180 0 61 (dk_at dksX4_odds_11 0 rfl rfl)
theorem dX4_odds_254 : decode cX4_odds 254 = .ok (.iload 5, 2) := dk_21 5 (dk_at dksX4_odds_11 3 rfl rfl)
theorem dX4_odds_256 : decode cX4_odds 256 = .ok (.iaload, 1) := dk_46 (dk_at dksX4_odds_11 5 rfl rfl)
theorem dX4_odds_257 : decode cX4_odds 257 = .ok (.ifCond .ne 6, 3) := dk_154 0 6 (dk_at dksX4_odds_11 6 rfl rfl)
theorem dX4_odds_260 : decode cX4_odds 260 = .ok (.goto 51, 3) := dk_167 0 51 (dk_at dksX4_odds_11 9 rfl rfl)
theorem dX4_odds_263 : decode cX4_odds 263 = .ok (.aload_n 0, 1) := dk_42 (dk_at dksX4_odds_11 12 rfl rfl)
theorem dX4_odds_264 : decode cX4_odds 264 = .ok (.getfield 58, 3) := dk_180 0 58 (dk_at dksX4_odds_11 13 rfl rfl)
theorem dX4_odds_267 : decode cX4_odds 267 = .ok (.iload 5, 2) := dk_21 5 (dk_at dksX4_odds_11 16 rfl rfl)
theorem dX4_odds_269 : decode cX4_odds 269 = .ok (.dup2, 1) := dk_92 (dk_at dksX4_odds_11 18 rfl rfl)
theorem dX4_odds_270 : decode cX4_odds 270 = .ok (.iaload, 1) := dk_46 (dk_at dksX4_odds_11 19 rfl rfl)
theorem dX4_odds_271 : decode cX4_odds 271 = .ok (.iconst 1, 1) := dk_4 (dk_at dksX4_odds_11 20 rfl rfl)
theorem dX4_odds_272 : decode cX4_odds 272 = .ok (.isub, 1) := dk_100 (dk_at dksX4_odds_11 21 rfl rfl)
theorem dX4_odds_273 : decode cX4_odds 273 = .ok (.iastore, 1) := dk_79 (dk_at dksX4_odds_11 22 rfl rfl)
theorem dX4_odds_274 : decode cX4_odds 274 = .ok (.aload_n 0, 1) := dk_42 (dk_at dksX4_odds_11 23 rfl rfl)
theorem dX4_odds_275 : decode cX4_odds 275 = .ok (.aload_n 0, 1) := dk_42 (dk_at dksX4_odds_12 0 rfl rfl)
theorem dX4_odds_276 : decode cX4_odds 276 = .ok (.getfield 321, 3) := dk_180 1 65 (dk_at dksX4_odds_12 1 rfl rfl)
theorem dX4_odds_279 : decode cX4_odds 279 = .ok (.iconst 1, 1) := dk_4 (dk_at dksX4_odds_12 4 rfl rfl)
theorem dX4_odds_280 : decode cX4_odds 280 = .ok (.isub, 1) := dk_100 (dk_at dksX4_odds_12 5 rfl rfl)
theorem dX4_odds_281 : decode cX4_odds 281 = .ok (.iload 5, 2) := dk_21 5 (dk_at dksX4_odds_12 6 rfl rfl)
theorem dX4_odds_283 : decode cX4_odds 283 = .ok (.iload_n 1, 1) := dk_27 (dk_at dksX4_odds_12 8 rfl rfl)
theorem dX4_odds_284 : decode cX4_odds 284 = .ok (.i2l, 1) := dk_133 (dk_at dksX4_odds_12 9 rfl rfl)
theorem dX4_odds_285 : decode cX4_odds 285 = .ok (.aload_n 0, 1) := dk_42 (dk_at dksX4_odds_12 10 rfl rfl)
theorem dX4_odds_286 : decode cX4_odds 286 = .ok (.getfield 61, 3) := dk_180 0 61 (dk_at dksX4_odds_12 11 rfl rfl)
theorem dX4_odds_289 : decode cX4_odds 289 = .ok (.iload 5, 2) := dk_21 5 (dk_at dksX4_odds_12 14 rfl rfl)
theorem dX4_odds_291 : decode cX4_odds 291 = .ok (.iaload, 1) := dk_46 (dk_at dksX4_odds_12 16 rfl rfl)
theorem dX4_odds_292 : decode cX4_odds 292 = .ok (.i2l, 1) := dk_133 (dk_at dksX4_odds_12 17 rfl rfl)
theorem dX4_odds_293 : decode cX4_odds 293 = .ok (.lmul, 1) := dk_105 (dk_at dksX4_odds_12 18 rfl rfl)
theorem dX4_odds_294 : decode cX4_odds 294 = .ok (.iload_n 2, 1) := dk_28 (dk_at dksX4_odds_12 19 rfl rfl)
theorem dX4_odds_295 : decode cX4_odds 295 = .ok (.i2l, 1) := dk_133 (dk_at dksX4_odds_12 20 rfl rfl)
theorem dX4_odds_296 : decode cX4_odds 296 = .ok (.lmul, 1) := dk_105 (dk_at dksX4_odds_12 21 rfl rfl)
theorem dX4_odds_297 : decode cX4_odds 297 = .ok (.invokevirtual 330, 3) := dk_182 1 74 (dk_at dksX4_odds_13 0 rfl rfl)
theorem dX4_odds_300 : decode cX4_odds 300 = .ok (.aload_n 0, 1) := dk_42 (dk_at dksX4_odds_13 3 rfl rfl)
theorem dX4_odds_301 : decode cX4_odds 301 = .ok (.getfield 58, 3) := dk_180 0 58 (dk_at dksX4_odds_13 4 rfl rfl)
theorem dX4_odds_304 : decode cX4_odds 304 = .ok (.iload 5, 2) := dk_21 5 (dk_at dksX4_odds_13 7 rfl rfl)
theorem dX4_odds_306 : decode cX4_odds 306 = .ok (.dup2, 1) := dk_92 (dk_at dksX4_odds_13 9 rfl rfl)
theorem dX4_odds_307 : decode cX4_odds 307 = .ok (.iaload, 1) := dk_46 (dk_at dksX4_odds_13 10 rfl rfl)
theorem dX4_odds_308 : decode cX4_odds 308 = .ok (.iconst 1, 1) := dk_4 (dk_at dksX4_odds_13 11 rfl rfl)
theorem dX4_odds_309 : decode cX4_odds 309 = .ok (.iadd, 1) := dk_96 (dk_at dksX4_odds_13 12 rfl rfl)
theorem dX4_odds_310 : decode cX4_odds 310 = .ok (.iastore, 1) := dk_79 (dk_at dksX4_odds_13 13 rfl rfl)
theorem dX4_odds_311 : decode cX4_odds 311 = .ok (.iinc 5 1, 3) := dk_132 5 1 (dk_at dksX4_odds_13 14 rfl rfl)
theorem dX4_odds_314 : decode cX4_odds 314 = .ok (.goto (-70), 3) := dk_167 255 186 (dk_at dksX4_odds_13 17 rfl rfl)
theorem dX4_odds_317 : decode cX4_odds 317 = .ok (.return_, 1) := dk_177 (dk_at dksX4_odds_13 20 rfl rfl)
abbrev cX4_choose : ByteArray := prog_29_method_61_code
def yX4_choose : MethodName := ⟨RX4, "choose", "(II)J"⟩
def dkwX4_choose_1 : List UInt8 := [27, 100, 21, 4, 96, 133, 105, 21, 4, 133, 109, 65, 132, 4, 1, 167, 255, 233, 32, 173]
abbrev dktX4_choose_1 : List UInt8 := dkwX4_choose_1 ++ []
def dkwX4_choose_0 : List UInt8 := [27, 155, 0, 8, 27, 26, 164, 0, 5, 9, 173, 10, 65, 4, 54, 4, 21, 4, 27, 163, 0, 23, 32, 26]
abbrev dktX4_choose_0 : List UInt8 := dkwX4_choose_0 ++ dktX4_choose_1
theorem dksX4_choose_0 : cX4_choose.data.toList.drop 0 = dktX4_choose_0 := by decide +kernel
theorem dksX4_choose_1 : cX4_choose.data.toList.drop 24 = dktX4_choose_1 := dk_seg dksX4_choose_0 24 rfl rfl
theorem dX4_choose_0 : decode cX4_choose 0 = .ok (.iload_n 1, 1) := dk_27 (dk_at dksX4_choose_0 0 rfl rfl)
theorem dX4_choose_1 : decode cX4_choose 1 = .ok (.ifCond .lt 8, 3) := dk_155 0 8 (dk_at dksX4_choose_0 1 rfl rfl)
theorem dX4_choose_4 : decode cX4_choose 4 = .ok (.iload_n 1, 1) := dk_27 (dk_at dksX4_choose_0 4 rfl rfl)
theorem dX4_choose_5 : decode cX4_choose 5 = .ok (.iload_n 0, 1) := dk_26 (dk_at dksX4_choose_0 5 rfl rfl)
theorem dX4_choose_6 : decode cX4_choose 6 = .ok (.if_icmp .le 5, 3) := dk_164 0 5 (dk_at dksX4_choose_0 6 rfl rfl)
theorem dX4_choose_9 : decode cX4_choose 9 = .ok (.lconst 0, 1) := dk_9 (dk_at dksX4_choose_0 9 rfl rfl)
theorem dX4_choose_10 : decode cX4_choose 10 = .ok (.lreturn, 1) := dk_173 (dk_at dksX4_choose_0 10 rfl rfl)
theorem dX4_choose_11 : decode cX4_choose 11 = .ok (.lconst 1, 1) := dk_10 (dk_at dksX4_choose_0 11 rfl rfl)
theorem dX4_choose_12 : decode cX4_choose 12 = .ok (.lstore_n 2, 1) := dk_65 (dk_at dksX4_choose_0 12 rfl rfl)
theorem dX4_choose_13 : decode cX4_choose 13 = .ok (.iconst 1, 1) := dk_4 (dk_at dksX4_choose_0 13 rfl rfl)
theorem dX4_choose_14 : decode cX4_choose 14 = .ok (.istore 4, 2) := dk_54 4 (dk_at dksX4_choose_0 14 rfl rfl)
theorem dX4_choose_16 : decode cX4_choose 16 = .ok (.iload 4, 2) := dk_21 4 (dk_at dksX4_choose_0 16 rfl rfl)
theorem dX4_choose_18 : decode cX4_choose 18 = .ok (.iload_n 1, 1) := dk_27 (dk_at dksX4_choose_0 18 rfl rfl)
theorem dX4_choose_19 : decode cX4_choose 19 = .ok (.if_icmp .gt 23, 3) := dk_163 0 23 (dk_at dksX4_choose_0 19 rfl rfl)
theorem dX4_choose_22 : decode cX4_choose 22 = .ok (.lload_n 2, 1) := dk_32 (dk_at dksX4_choose_0 22 rfl rfl)
theorem dX4_choose_23 : decode cX4_choose 23 = .ok (.iload_n 0, 1) := dk_26 (dk_at dksX4_choose_0 23 rfl rfl)
theorem dX4_choose_24 : decode cX4_choose 24 = .ok (.iload_n 1, 1) := dk_27 (dk_at dksX4_choose_1 0 rfl rfl)
theorem dX4_choose_25 : decode cX4_choose 25 = .ok (.isub, 1) := dk_100 (dk_at dksX4_choose_1 1 rfl rfl)
theorem dX4_choose_26 : decode cX4_choose 26 = .ok (.iload 4, 2) := dk_21 4 (dk_at dksX4_choose_1 2 rfl rfl)
theorem dX4_choose_28 : decode cX4_choose 28 = .ok (.iadd, 1) := dk_96 (dk_at dksX4_choose_1 4 rfl rfl)
theorem dX4_choose_29 : decode cX4_choose 29 = .ok (.i2l, 1) := dk_133 (dk_at dksX4_choose_1 5 rfl rfl)
theorem dX4_choose_30 : decode cX4_choose 30 = .ok (.lmul, 1) := dk_105 (dk_at dksX4_choose_1 6 rfl rfl)
theorem dX4_choose_31 : decode cX4_choose 31 = .ok (.iload 4, 2) := dk_21 4 (dk_at dksX4_choose_1 7 rfl rfl)
theorem dX4_choose_33 : decode cX4_choose 33 = .ok (.i2l, 1) := dk_133 (dk_at dksX4_choose_1 9 rfl rfl)
theorem dX4_choose_34 : decode cX4_choose 34 = .ok (.ldiv, 1) := dk_109 (dk_at dksX4_choose_1 10 rfl rfl)
theorem dX4_choose_35 : decode cX4_choose 35 = .ok (.lstore_n 2, 1) := dk_65 (dk_at dksX4_choose_1 11 rfl rfl)
theorem dX4_choose_36 : decode cX4_choose 36 = .ok (.iinc 4 1, 3) := dk_132 4 1 (dk_at dksX4_choose_1 12 rfl rfl)
theorem dX4_choose_39 : decode cX4_choose 39 = .ok (.goto (-23), 3) := dk_167 255 233 (dk_at dksX4_choose_1 15 rfl rfl)
theorem dX4_choose_42 : decode cX4_choose 42 = .ok (.lload_n 2, 1) := dk_32 (dk_at dksX4_choose_1 18 rfl rfl)
theorem dX4_choose_43 : decode cX4_choose 43 = .ok (.lreturn, 1) := dk_173 (dk_at dksX4_choose_1 19 rfl rfl)
abbrev cX4_lots : ByteArray := prog_29_method_64_code
def yX4_lots : MethodName := ⟨RX4, "lots", "(IIJ)V"⟩
def dkwX4_lots_7 : List UInt8 := [132, 5, 1, 167, 255, 93, 177]
abbrev dktX4_lots_7 : List UInt8 := dkwX4_lots_7 ++ []
def dkwX4_lots_6 : List UInt8 := [42, 180, 0, 67, 21, 10, 47, 105, 97, 80, 132, 10, 1, 167, 255, 225, 132, 6, 1, 167, 255, 108]
abbrev dktX4_lots_6 : List UInt8 := dkwX4_lots_6 ++ dktX4_lots_7
def dkwX4_lots_5 : List UInt8 := [182, 1, 59, 3, 54, 10, 21, 10, 7, 162, 0, 31, 42, 180, 0, 71, 21, 10, 92, 47, 33, 22, 8, 105]
abbrev dktX4_lots_5 : List UInt8 := dkwX4_lots_5 ++ dktX4_lots_6
def dkwX4_lots_4 : List UInt8 := [180, 0, 64, 5, 21, 7, 79, 28, 2, 159, 0, 13, 42, 180, 0, 64, 28, 92, 46, 4, 96, 79, 42]
abbrev dktX4_lots_4 : List UInt8 := dkwX4_lots_4 ++ dktX4_lots_5
def dkwX4_lots_3 : List UInt8 := [154, 0, 6, 167, 0, 83, 42, 180, 0, 64, 3, 21, 5, 79, 42, 180, 0, 64, 4, 21, 6, 79, 42]
abbrev dktX4_lots_3 : List UInt8 := dkwX4_lots_3 ++ dktX4_lots_4
def dkwX4_lots_2 : List UInt8 := [21, 6, 184, 1, 55, 105, 42, 180, 0, 58, 5, 46, 21, 7, 184, 1, 55, 105, 55, 8, 22, 8, 9, 148]
abbrev dktX4_lots_2 : List UInt8 := dkwX4_lots_2 ++ dktX4_lots_3
def dkwX4_lots_1 : List UInt8 := [100, 21, 6, 100, 54, 7, 42, 180, 0, 58, 3, 46, 21, 5, 184, 1, 55, 42, 180, 0, 58, 4, 46]
abbrev dktX4_lots_1 : List UInt8 := dkwX4_lots_1 ++ dktX4_lots_2
def dkwX4_lots_0 : List UInt8 := [3, 54, 5, 21, 5, 27, 163, 0, 163, 3, 54, 6, 21, 5, 21, 6, 96, 27, 163, 0, 145, 27, 21, 5]
abbrev dktX4_lots_0 : List UInt8 := dkwX4_lots_0 ++ dktX4_lots_1
theorem dksX4_lots_0 : cX4_lots.data.toList.drop 0 = dktX4_lots_0 := by decide +kernel
theorem dksX4_lots_1 : cX4_lots.data.toList.drop 24 = dktX4_lots_1 := dk_seg dksX4_lots_0 24 rfl rfl
theorem dksX4_lots_2 : cX4_lots.data.toList.drop 47 = dktX4_lots_2 := dk_seg dksX4_lots_1 23 rfl rfl
theorem dksX4_lots_3 : cX4_lots.data.toList.drop 71 = dktX4_lots_3 := dk_seg dksX4_lots_2 24 rfl rfl
theorem dksX4_lots_4 : cX4_lots.data.toList.drop 94 = dktX4_lots_4 := dk_seg dksX4_lots_3 23 rfl rfl
theorem dksX4_lots_5 : cX4_lots.data.toList.drop 117 = dktX4_lots_5 := dk_seg dksX4_lots_4 23 rfl rfl
theorem dksX4_lots_6 : cX4_lots.data.toList.drop 141 = dktX4_lots_6 := dk_seg dksX4_lots_5 24 rfl rfl
theorem dksX4_lots_7 : cX4_lots.data.toList.drop 163 = dktX4_lots_7 := dk_seg dksX4_lots_6 22 rfl rfl
theorem dX4_lots_0 : decode cX4_lots 0 = .ok (.iconst 0, 1) := dk_3 (dk_at dksX4_lots_0 0 rfl rfl)
theorem dX4_lots_1 : decode cX4_lots 1 = .ok (.istore 5, 2) := dk_54 5 (dk_at dksX4_lots_0 1 rfl rfl)
theorem dX4_lots_3 : decode cX4_lots 3 = .ok (.iload 5, 2) := dk_21 5 (dk_at dksX4_lots_0 3 rfl rfl)
theorem dX4_lots_5 : decode cX4_lots 5 = .ok (.iload_n 1, 1) := dk_27 (dk_at dksX4_lots_0 5 rfl rfl)
theorem dX4_lots_6 : decode cX4_lots 6 = .ok (.if_icmp .gt 163, 3) := dk_163 0 163 (dk_at dksX4_lots_0 6 rfl rfl)
theorem dX4_lots_9 : decode cX4_lots 9 = .ok (.iconst 0, 1) := dk_3 (dk_at dksX4_lots_0 9 rfl rfl)
theorem dX4_lots_10 : decode cX4_lots 10 = .ok (.istore 6, 2) := dk_54 6 (dk_at dksX4_lots_0 10 rfl rfl)
theorem dX4_lots_12 : decode cX4_lots 12 = .ok (.iload 5, 2) := dk_21 5 (dk_at dksX4_lots_0 12 rfl rfl)
theorem dX4_lots_14 : decode cX4_lots 14 = .ok (.iload 6, 2) := dk_21 6 (dk_at dksX4_lots_0 14 rfl rfl)
theorem dX4_lots_16 : decode cX4_lots 16 = .ok (.iadd, 1) := dk_96 (dk_at dksX4_lots_0 16 rfl rfl)
theorem dX4_lots_17 : decode cX4_lots 17 = .ok (.iload_n 1, 1) := dk_27 (dk_at dksX4_lots_0 17 rfl rfl)
theorem dX4_lots_18 : decode cX4_lots 18 = .ok (.if_icmp .gt 145, 3) := dk_163 0 145 (dk_at dksX4_lots_0 18 rfl rfl)
theorem dX4_lots_21 : decode cX4_lots 21 = .ok (.iload_n 1, 1) := dk_27 (dk_at dksX4_lots_0 21 rfl rfl)
theorem dX4_lots_22 : decode cX4_lots 22 = .ok (.iload 5, 2) := dk_21 5 (dk_at dksX4_lots_0 22 rfl rfl)
theorem dX4_lots_24 : decode cX4_lots 24 = .ok (.isub, 1) := dk_100 (dk_at dksX4_lots_1 0 rfl rfl)
theorem dX4_lots_25 : decode cX4_lots 25 = .ok (.iload 6, 2) := dk_21 6 (dk_at dksX4_lots_1 1 rfl rfl)
theorem dX4_lots_27 : decode cX4_lots 27 = .ok (.isub, 1) := dk_100 (dk_at dksX4_lots_1 3 rfl rfl)
theorem dX4_lots_28 : decode cX4_lots 28 = .ok (.istore 7, 2) := dk_54 7 (dk_at dksX4_lots_1 4 rfl rfl)
theorem dX4_lots_30 : decode cX4_lots 30 = .ok (.aload_n 0, 1) := dk_42 (dk_at dksX4_lots_1 6 rfl rfl)
theorem dX4_lots_31 : decode cX4_lots 31 = .ok (.getfield 58, 3) := dk_180 0 58 (dk_at dksX4_lots_1 7 rfl rfl)
theorem dX4_lots_34 : decode cX4_lots 34 = .ok (.iconst 0, 1) := dk_3 (dk_at dksX4_lots_1 10 rfl rfl)
theorem dX4_lots_35 : decode cX4_lots 35 = .ok (.iaload, 1) := dk_46 (dk_at dksX4_lots_1 11 rfl rfl)
theorem dX4_lots_36 : decode cX4_lots 36 = .ok (.iload 5, 2) := dk_21 5 (dk_at dksX4_lots_1 12 rfl rfl)
theorem dX4_lots_38 : decode cX4_lots 38 = .ok (.invokestatic 311, 3) := dk_184 1 55 (dk_at dksX4_lots_1 14 rfl rfl)
theorem dX4_lots_41 : decode cX4_lots 41 = .ok (.aload_n 0, 1) := dk_42 (dk_at dksX4_lots_1 17 rfl rfl)
theorem dX4_lots_42 : decode cX4_lots 42 = .ok (.getfield 58, 3) := dk_180 0 58 (dk_at dksX4_lots_1 18 rfl rfl)
theorem dX4_lots_45 : decode cX4_lots 45 = .ok (.iconst 1, 1) := dk_4 (dk_at dksX4_lots_1 21 rfl rfl)
theorem dX4_lots_46 : decode cX4_lots 46 = .ok (.iaload, 1) := dk_46 (dk_at dksX4_lots_1 22 rfl rfl)
theorem dX4_lots_47 : decode cX4_lots 47 = .ok (.iload 6, 2) := dk_21 6 (dk_at dksX4_lots_2 0 rfl rfl)
theorem dX4_lots_49 : decode cX4_lots 49 = .ok (.invokestatic 311, 3) := dk_184 1 55 (dk_at dksX4_lots_2 2 rfl rfl)
theorem dX4_lots_52 : decode cX4_lots 52 = .ok (.lmul, 1) := dk_105 (dk_at dksX4_lots_2 5 rfl rfl)
theorem dX4_lots_53 : decode cX4_lots 53 = .ok (.aload_n 0, 1) := dk_42 (dk_at dksX4_lots_2 6 rfl rfl)
theorem dX4_lots_54 : decode cX4_lots 54 = .ok (.getfield 58, 3) := dk_180 0 58 (dk_at dksX4_lots_2 7 rfl rfl)
theorem dX4_lots_57 : decode cX4_lots 57 = .ok (.iconst 2, 1) := dk_5 (dk_at dksX4_lots_2 10 rfl rfl)
theorem dX4_lots_58 : decode cX4_lots 58 = .ok (.iaload, 1) := dk_46 (dk_at dksX4_lots_2 11 rfl rfl)
theorem dX4_lots_59 : decode cX4_lots 59 = .ok (.iload 7, 2) := dk_21 7 (dk_at dksX4_lots_2 12 rfl rfl)
theorem dX4_lots_61 : decode cX4_lots 61 = .ok (.invokestatic 311, 3) := dk_184 1 55 (dk_at dksX4_lots_2 14 rfl rfl)
theorem dX4_lots_64 : decode cX4_lots 64 = .ok (.lmul, 1) := dk_105 (dk_at dksX4_lots_2 17 rfl rfl)
theorem dX4_lots_65 : decode cX4_lots 65 = .ok (.lstore 8, 2) := dk_55 8 (dk_at dksX4_lots_2 18 rfl rfl)
theorem dX4_lots_67 : decode cX4_lots 67 = .ok (.lload 8, 2) := dk_22 8 (dk_at dksX4_lots_2 20 rfl rfl)
theorem dX4_lots_69 : decode cX4_lots 69 = .ok (.lconst 0, 1) := dk_9 (dk_at dksX4_lots_2 22 rfl rfl)
theorem dX4_lots_70 : decode cX4_lots 70 = .ok (.lcmp, 1) := dk_148 (dk_at dksX4_lots_2 23 rfl rfl)
theorem dX4_lots_71 : decode cX4_lots 71 = .ok (.ifCond .ne 6, 3) := dk_154 0 6 (dk_at dksX4_lots_3 0 rfl rfl)
theorem dX4_lots_74 : decode cX4_lots 74 = .ok (.goto 83, 3) := dk_167 0 83 (dk_at dksX4_lots_3 3 rfl rfl)
theorem dX4_lots_77 : decode cX4_lots 77 = .ok (.aload_n 0, 1) := dk_42 (dk_at dksX4_lots_3 6 rfl rfl)
theorem dX4_lots_78 : decode cX4_lots 78 = .ok (.getfield 64, 3) := dk_180 0 64 (dk_at dksX4_lots_3 7 rfl rfl)
theorem dX4_lots_81 : decode cX4_lots 81 = .ok (.iconst 0, 1) := dk_3 (dk_at dksX4_lots_3 10 rfl rfl)
theorem dX4_lots_82 : decode cX4_lots 82 = .ok (.iload 5, 2) := dk_21 5 (dk_at dksX4_lots_3 11 rfl rfl)
theorem dX4_lots_84 : decode cX4_lots 84 = .ok (.iastore, 1) := dk_79 (dk_at dksX4_lots_3 13 rfl rfl)
theorem dX4_lots_85 : decode cX4_lots 85 = .ok (.aload_n 0, 1) := dk_42 (dk_at dksX4_lots_3 14 rfl rfl)
theorem dX4_lots_86 : decode cX4_lots 86 = .ok (.getfield 64, 3) := dk_180 0 64 (dk_at dksX4_lots_3 15 rfl rfl)
theorem dX4_lots_89 : decode cX4_lots 89 = .ok (.iconst 1, 1) := dk_4 (dk_at dksX4_lots_3 18 rfl rfl)
theorem dX4_lots_90 : decode cX4_lots 90 = .ok (.iload 6, 2) := dk_21 6 (dk_at dksX4_lots_3 19 rfl rfl)
theorem dX4_lots_92 : decode cX4_lots 92 = .ok (.iastore, 1) := dk_79 (dk_at dksX4_lots_3 21 rfl rfl)
theorem dX4_lots_93 : decode cX4_lots 93 = .ok (.aload_n 0, 1) := dk_42 (dk_at dksX4_lots_3 22 rfl rfl)
theorem dX4_lots_94 : decode cX4_lots 94 = .ok (.getfield 64, 3) := dk_180 0 64 (dk_at dksX4_lots_4 0 rfl rfl)
theorem dX4_lots_97 : decode cX4_lots 97 = .ok (.iconst 2, 1) := dk_5 (dk_at dksX4_lots_4 3 rfl rfl)
theorem dX4_lots_98 : decode cX4_lots 98 = .ok (.iload 7, 2) := dk_21 7 (dk_at dksX4_lots_4 4 rfl rfl)
theorem dX4_lots_100 : decode cX4_lots 100 = .ok (.iastore, 1) := dk_79 (dk_at dksX4_lots_4 6 rfl rfl)
theorem dX4_lots_101 : decode cX4_lots 101 = .ok (.iload_n 2, 1) := dk_28 (dk_at dksX4_lots_4 7 rfl rfl)
theorem dX4_lots_102 : decode cX4_lots 102 = .ok (.iconst (-1), 1) := dk_2 (dk_at dksX4_lots_4 8 rfl rfl)
theorem dX4_lots_103 : decode cX4_lots 103 = .ok (.if_icmp .eq 13, 3) := dk_159 0 13 (dk_at dksX4_lots_4 9 rfl rfl)
theorem dX4_lots_106 : decode cX4_lots 106 = .ok (.aload_n 0, 1) := dk_42 (dk_at dksX4_lots_4 12 rfl rfl)
theorem dX4_lots_107 : decode cX4_lots 107 = .ok (.getfield 64, 3) := dk_180 0 64 (dk_at dksX4_lots_4 13 rfl rfl)
theorem dX4_lots_110 : decode cX4_lots 110 = .ok (.iload_n 2, 1) := dk_28 (dk_at dksX4_lots_4 16 rfl rfl)
theorem dX4_lots_111 : decode cX4_lots 111 = .ok (.dup2, 1) := dk_92 (dk_at dksX4_lots_4 17 rfl rfl)
theorem dX4_lots_112 : decode cX4_lots 112 = .ok (.iaload, 1) := dk_46 (dk_at dksX4_lots_4 18 rfl rfl)
theorem dX4_lots_113 : decode cX4_lots 113 = .ok (.iconst 1, 1) := dk_4 (dk_at dksX4_lots_4 19 rfl rfl)
theorem dX4_lots_114 : decode cX4_lots 114 = .ok (.iadd, 1) := dk_96 (dk_at dksX4_lots_4 20 rfl rfl)
theorem dX4_lots_115 : decode cX4_lots 115 = .ok (.iastore, 1) := dk_79 (dk_at dksX4_lots_4 21 rfl rfl)
theorem dX4_lots_116 : decode cX4_lots 116 = .ok (.aload_n 0, 1) := dk_42 (dk_at dksX4_lots_4 22 rfl rfl)
theorem dX4_lots_117 : decode cX4_lots 117 = .ok (.invokevirtual 315, 3) := dk_182 1 59 (dk_at dksX4_lots_5 0 rfl rfl)
theorem dX4_lots_120 : decode cX4_lots 120 = .ok (.iconst 0, 1) := dk_3 (dk_at dksX4_lots_5 3 rfl rfl)
theorem dX4_lots_121 : decode cX4_lots 121 = .ok (.istore 10, 2) := dk_54 10 (dk_at dksX4_lots_5 4 rfl rfl)
theorem dX4_lots_123 : decode cX4_lots 123 = .ok (.iload 10, 2) := dk_21 10 (dk_at dksX4_lots_5 6 rfl rfl)
theorem dX4_lots_125 : decode cX4_lots 125 = .ok (.iconst 4, 1) := dk_7 (dk_at dksX4_lots_5 8 rfl rfl)
theorem dX4_lots_126 : decode cX4_lots 126 = .ok (.if_icmp .ge 31, 3) := dk_162 0 31 (dk_at dksX4_lots_5 9 rfl rfl)
theorem dX4_lots_129 : decode cX4_lots 129 = .ok (.aload_n 0, 1) := dk_42 (dk_at dksX4_lots_5 12 rfl rfl)
theorem dX4_lots_130 : decode cX4_lots 130 = .ok (.getfield 71, 3) := dk_180 0 71 (dk_at dksX4_lots_5 13 rfl rfl)
theorem dX4_lots_133 : decode cX4_lots 133 = .ok (.iload 10, 2) := dk_21 10 (dk_at dksX4_lots_5 16 rfl rfl)
theorem dX4_lots_135 : decode cX4_lots 135 = .ok (.dup2, 1) := dk_92 (dk_at dksX4_lots_5 18 rfl rfl)
theorem dX4_lots_136 : decode cX4_lots 136 = .ok (.laload, 1) := dk_47 (dk_at dksX4_lots_5 19 rfl rfl)
theorem dX4_lots_137 : decode cX4_lots 137 = .ok (.lload_n 3, 1) := dk_33 (dk_at dksX4_lots_5 20 rfl rfl)
theorem dX4_lots_138 : decode cX4_lots 138 = .ok (.lload 8, 2) := dk_22 8 (dk_at dksX4_lots_5 21 rfl rfl)
theorem dX4_lots_140 : decode cX4_lots 140 = .ok (.lmul, 1) := dk_105 (dk_at dksX4_lots_5 23 rfl rfl)
theorem dX4_lots_141 : decode cX4_lots 141 = .ok (.aload_n 0, 1) := dk_42 (dk_at dksX4_lots_6 0 rfl rfl)
theorem dX4_lots_142 : decode cX4_lots 142 = .ok (.getfield 67, 3) := dk_180 0 67 (dk_at dksX4_lots_6 1 rfl rfl)
theorem dX4_lots_145 : decode cX4_lots 145 = .ok (.iload 10, 2) := dk_21 10 (dk_at dksX4_lots_6 4 rfl rfl)
theorem dX4_lots_147 : decode cX4_lots 147 = .ok (.laload, 1) := dk_47 (dk_at dksX4_lots_6 6 rfl rfl)
theorem dX4_lots_148 : decode cX4_lots 148 = .ok (.lmul, 1) := dk_105 (dk_at dksX4_lots_6 7 rfl rfl)
theorem dX4_lots_149 : decode cX4_lots 149 = .ok (.ladd, 1) := dk_97 (dk_at dksX4_lots_6 8 rfl rfl)
theorem dX4_lots_150 : decode cX4_lots 150 = .ok (.lastore, 1) := dk_80 (dk_at dksX4_lots_6 9 rfl rfl)
theorem dX4_lots_151 : decode cX4_lots 151 = .ok (.iinc 10 1, 3) := dk_132 10 1 (dk_at dksX4_lots_6 10 rfl rfl)
theorem dX4_lots_154 : decode cX4_lots 154 = .ok (.goto (-31), 3) := dk_167 255 225 (dk_at dksX4_lots_6 13 rfl rfl)
theorem dX4_lots_157 : decode cX4_lots 157 = .ok (.iinc 6 1, 3) := dk_132 6 1 (dk_at dksX4_lots_6 16 rfl rfl)
theorem dX4_lots_160 : decode cX4_lots 160 = .ok (.goto (-148), 3) := dk_167 255 108 (dk_at dksX4_lots_6 19 rfl rfl)
theorem dX4_lots_163 : decode cX4_lots 163 = .ok (.iinc 5 1, 3) := dk_132 5 1 (dk_at dksX4_lots_7 0 rfl rfl)
theorem dX4_lots_166 : decode cX4_lots 166 = .ok (.goto (-163), 3) := dk_167 255 93 (dk_at dksX4_lots_7 3 rfl rfl)
theorem dX4_lots_169 : decode cX4_lots 169 = .ok (.return_, 1) := dk_177 (dk_at dksX4_lots_7 6 rfl rfl)
abbrev cX4_answers : ByteArray := prog_29_method_63_code
def yX4_answers : MethodName := ⟨RX4, "answers", "()V"⟩
def dkwX4_answers_8 : List UInt8 := [167, 255, 103, 177]
abbrev dktX4_answers_8 : List UInt8 := dkwX4_answers_8 ++ []
def dkwX4_answers_7 : List UInt8 := [105, 167, 0, 4, 9, 97, 80, 132, 5, 255, 167, 255, 196, 132, 1, 255, 132, 4, 1, 167, 255, 169]
abbrev dktX4_answers_7 : List UInt8 := dkwX4_answers_7 ++ dktX4_answers_8
def dkwX4_answers_6 : List UInt8 := [100, 133, 105, 21, 5, 158, 0, 23, 42, 180, 0, 67, 21, 5, 4, 100, 47, 42, 180, 0, 55, 29, 46, 133]
abbrev dktX4_answers_6 : List UInt8 := dkwX4_answers_6 ++ dktX4_answers_7
def dkwX4_answers_5 : List UInt8 := [155, 0, 61, 42, 180, 0, 67, 21, 5, 42, 180, 0, 67, 21, 5, 47, 16, 100, 42, 180, 0, 55, 29, 46]
abbrev dktX4_answers_5 : List UInt8 := dkwX4_answers_5 ++ dktX4_answers_6
def dkwX4_answers_4 : List UInt8 := [61, 3, 54, 4, 21, 4, 42, 180, 0, 64, 29, 46, 162, 0, 82, 27, 158, 0, 78, 6, 54, 5, 21, 5]
abbrev dktX4_answers_4 : List UInt8 := dkwX4_answers_4 ++ dktX4_answers_5
def dkwX4_answers_3 : List UInt8 := [46, 42, 180, 0, 55, 29, 46, 164, 0, 6, 21, 4, 62, 132, 4, 1, 167, 255, 214, 28, 4, 29, 120, 128]
abbrev dktX4_answers_3 : List UInt8 := dkwX4_answers_3 ++ dktX4_answers_4
def dkwX4_answers_2 : List UInt8 := [6, 162, 0, 42, 28, 21, 4, 122, 4, 126, 154, 0, 27, 29, 2, 159, 0, 19, 42, 180, 0, 55, 21, 4]
abbrev dktX4_answers_2 : List UInt8 := dkwX4_answers_2 ++ dktX4_answers_3
def dkwX4_answers_1 : List UInt8 := [132, 1, 1, 167, 255, 233, 42, 180, 1, 52, 60, 3, 61, 27, 158, 0, 155, 2, 62, 3, 54, 4, 21, 4]
abbrev dktX4_answers_1 : List UInt8 := dkwX4_answers_1 ++ dktX4_answers_2
def dkwX4_answers_0 : List UInt8 := [3, 60, 27, 7, 162, 0, 24, 42, 180, 0, 67, 27, 27, 154, 0, 7, 10, 167, 0, 4, 9, 80]
abbrev dktX4_answers_0 : List UInt8 := dkwX4_answers_0 ++ dktX4_answers_1
theorem dksX4_answers_0 : cX4_answers.data.toList.drop 0 = dktX4_answers_0 := by decide +kernel
theorem dksX4_answers_1 : cX4_answers.data.toList.drop 22 = dktX4_answers_1 := dk_seg dksX4_answers_0 22 rfl rfl
theorem dksX4_answers_2 : cX4_answers.data.toList.drop 46 = dktX4_answers_2 := dk_seg dksX4_answers_1 24 rfl rfl
theorem dksX4_answers_3 : cX4_answers.data.toList.drop 70 = dktX4_answers_3 := dk_seg dksX4_answers_2 24 rfl rfl
theorem dksX4_answers_4 : cX4_answers.data.toList.drop 94 = dktX4_answers_4 := dk_seg dksX4_answers_3 24 rfl rfl
theorem dksX4_answers_5 : cX4_answers.data.toList.drop 118 = dktX4_answers_5 := dk_seg dksX4_answers_4 24 rfl rfl
theorem dksX4_answers_6 : cX4_answers.data.toList.drop 142 = dktX4_answers_6 := dk_seg dksX4_answers_5 24 rfl rfl
theorem dksX4_answers_7 : cX4_answers.data.toList.drop 166 = dktX4_answers_7 := dk_seg dksX4_answers_6 24 rfl rfl
theorem dksX4_answers_8 : cX4_answers.data.toList.drop 188 = dktX4_answers_8 := dk_seg dksX4_answers_7 22 rfl rfl
theorem dX4_answers_0 : decode cX4_answers 0 = .ok (.iconst 0, 1) := dk_3 (dk_at dksX4_answers_0 0 rfl rfl)
theorem dX4_answers_1 : decode cX4_answers 1 = .ok (.istore_n 1, 1) := dk_60 (dk_at dksX4_answers_0 1 rfl rfl)
theorem dX4_answers_2 : decode cX4_answers 2 = .ok (.iload_n 1, 1) := dk_27 (dk_at dksX4_answers_0 2 rfl rfl)
theorem dX4_answers_3 : decode cX4_answers 3 = .ok (.iconst 4, 1) := dk_7 (dk_at dksX4_answers_0 3 rfl rfl)
theorem dX4_answers_4 : decode cX4_answers 4 = .ok (.if_icmp .ge 24, 3) := dk_162 0 24 (dk_at dksX4_answers_0 4 rfl rfl)
theorem dX4_answers_7 : decode cX4_answers 7 = .ok (.aload_n 0, 1) := dk_42 (dk_at dksX4_answers_0 7 rfl rfl)
theorem dX4_answers_8 : decode cX4_answers 8 = .ok (.getfield 67, 3) := dk_180 0 67 (dk_at dksX4_answers_0 8 rfl rfl)
theorem dX4_answers_11 : decode cX4_answers 11 = .ok (.iload_n 1, 1) := dk_27 (dk_at dksX4_answers_0 11 rfl rfl)
theorem dX4_answers_12 : decode cX4_answers 12 = .ok (.iload_n 1, 1) := dk_27 (dk_at dksX4_answers_0 12 rfl rfl)
theorem dX4_answers_13 : decode cX4_answers 13 = .ok (.ifCond .ne 7, 3) := dk_154 0 7 (dk_at dksX4_answers_0 13 rfl rfl)
theorem dX4_answers_16 : decode cX4_answers 16 = .ok (.lconst 1, 1) := dk_10 (dk_at dksX4_answers_0 16 rfl rfl)
theorem dX4_answers_17 : decode cX4_answers 17 = .ok (.goto 4, 3) := dk_167 0 4 (dk_at dksX4_answers_0 17 rfl rfl)
theorem dX4_answers_20 : decode cX4_answers 20 = .ok (.lconst 0, 1) := dk_9 (dk_at dksX4_answers_0 20 rfl rfl)
theorem dX4_answers_21 : decode cX4_answers 21 = .ok (.lastore, 1) := dk_80 (dk_at dksX4_answers_0 21 rfl rfl)
theorem dX4_answers_22 : decode cX4_answers 22 = .ok (.iinc 1 1, 3) := dk_132 1 1 (dk_at dksX4_answers_1 0 rfl rfl)
theorem dX4_answers_25 : decode cX4_answers 25 = .ok (.goto (-23), 3) := dk_167 255 233 (dk_at dksX4_answers_1 3 rfl rfl)
theorem dX4_answers_28 : decode cX4_answers 28 = .ok (.aload_n 0, 1) := dk_42 (dk_at dksX4_answers_1 6 rfl rfl)
theorem dX4_answers_29 : decode cX4_answers 29 = .ok (.getfield 308, 3) := dk_180 1 52 (dk_at dksX4_answers_1 7 rfl rfl)
theorem dX4_answers_32 : decode cX4_answers 32 = .ok (.istore_n 1, 1) := dk_60 (dk_at dksX4_answers_1 10 rfl rfl)
theorem dX4_answers_33 : decode cX4_answers 33 = .ok (.iconst 0, 1) := dk_3 (dk_at dksX4_answers_1 11 rfl rfl)
theorem dX4_answers_34 : decode cX4_answers 34 = .ok (.istore_n 2, 1) := dk_61 (dk_at dksX4_answers_1 12 rfl rfl)
theorem dX4_answers_35 : decode cX4_answers 35 = .ok (.iload_n 1, 1) := dk_27 (dk_at dksX4_answers_1 13 rfl rfl)
theorem dX4_answers_36 : decode cX4_answers 36 = .ok (.ifCond .le 155, 3) := dk_158 0 155 (dk_at dksX4_answers_1 14 rfl rfl)
theorem dX4_answers_39 : decode cX4_answers 39 = .ok (.iconst (-1), 1) := dk_2 (dk_at dksX4_answers_1 17 rfl rfl)
theorem dX4_answers_40 : decode cX4_answers 40 = .ok (.istore_n 3, 1) := dk_62 (dk_at dksX4_answers_1 18 rfl rfl)
theorem dX4_answers_41 : decode cX4_answers 41 = .ok (.iconst 0, 1) := dk_3 (dk_at dksX4_answers_1 19 rfl rfl)
theorem dX4_answers_42 : decode cX4_answers 42 = .ok (.istore 4, 2) := dk_54 4 (dk_at dksX4_answers_1 20 rfl rfl)
theorem dX4_answers_44 : decode cX4_answers 44 = .ok (.iload 4, 2) := dk_21 4 (dk_at dksX4_answers_1 22 rfl rfl)
theorem dX4_answers_46 : decode cX4_answers 46 = .ok (.iconst 3, 1) := dk_6 (dk_at dksX4_answers_2 0 rfl rfl)
theorem dX4_answers_47 : decode cX4_answers 47 = .ok (.if_icmp .ge 42, 3) := dk_162 0 42 (dk_at dksX4_answers_2 1 rfl rfl)
theorem dX4_answers_50 : decode cX4_answers 50 = .ok (.iload_n 2, 1) := dk_28 (dk_at dksX4_answers_2 4 rfl rfl)
theorem dX4_answers_51 : decode cX4_answers 51 = .ok (.iload 4, 2) := dk_21 4 (dk_at dksX4_answers_2 5 rfl rfl)
theorem dX4_answers_53 : decode cX4_answers 53 = .ok (.ishr, 1) := dk_122 (dk_at dksX4_answers_2 7 rfl rfl)
theorem dX4_answers_54 : decode cX4_answers 54 = .ok (.iconst 1, 1) := dk_4 (dk_at dksX4_answers_2 8 rfl rfl)
theorem dX4_answers_55 : decode cX4_answers 55 = .ok (.iand, 1) := dk_126 (dk_at dksX4_answers_2 9 rfl rfl)
theorem dX4_answers_56 : decode cX4_answers 56 = .ok (.ifCond .ne 27, 3) := dk_154 0 27 (dk_at dksX4_answers_2 10 rfl rfl)
theorem dX4_answers_59 : decode cX4_answers 59 = .ok (.iload_n 3, 1) := dk_29 (dk_at dksX4_answers_2 13 rfl rfl)
theorem dX4_answers_60 : decode cX4_answers 60 = .ok (.iconst (-1), 1) := dk_2 (dk_at dksX4_answers_2 14 rfl rfl)
theorem dX4_answers_61 : decode cX4_answers 61 = .ok (.if_icmp .eq 19, 3) := dk_159 0 19 (dk_at dksX4_answers_2 15 rfl rfl)
theorem dX4_answers_64 : decode cX4_answers 64 = .ok (.aload_n 0, 1) := dk_42 (dk_at dksX4_answers_2 18 rfl rfl)
theorem dX4_answers_65 : decode cX4_answers 65 = .ok (.getfield 55, 3) := dk_180 0 55 (dk_at dksX4_answers_2 19 rfl rfl)
theorem dX4_answers_68 : decode cX4_answers 68 = .ok (.iload 4, 2) := dk_21 4 (dk_at dksX4_answers_2 22 rfl rfl)
theorem dX4_answers_70 : decode cX4_answers 70 = .ok (.iaload, 1) := dk_46 (dk_at dksX4_answers_3 0 rfl rfl)
theorem dX4_answers_71 : decode cX4_answers 71 = .ok (.aload_n 0, 1) := dk_42 (dk_at dksX4_answers_3 1 rfl rfl)
theorem dX4_answers_72 : decode cX4_answers 72 = .ok (.getfield 55, 3) := dk_180 0 55 (dk_at dksX4_answers_3 2 rfl rfl)
theorem dX4_answers_75 : decode cX4_answers 75 = .ok (.iload_n 3, 1) := dk_29 (dk_at dksX4_answers_3 5 rfl rfl)
theorem dX4_answers_76 : decode cX4_answers 76 = .ok (.iaload, 1) := dk_46 (dk_at dksX4_answers_3 6 rfl rfl)
theorem dX4_answers_77 : decode cX4_answers 77 = .ok (.if_icmp .le 6, 3) := dk_164 0 6 (dk_at dksX4_answers_3 7 rfl rfl)
theorem dX4_answers_80 : decode cX4_answers 80 = .ok (.iload 4, 2) := dk_21 4 (dk_at dksX4_answers_3 10 rfl rfl)
theorem dX4_answers_82 : decode cX4_answers 82 = .ok (.istore_n 3, 1) := dk_62 (dk_at dksX4_answers_3 12 rfl rfl)
theorem dX4_answers_83 : decode cX4_answers 83 = .ok (.iinc 4 1, 3) := dk_132 4 1 (dk_at dksX4_answers_3 13 rfl rfl)
theorem dX4_answers_86 : decode cX4_answers 86 = .ok (.goto (-42), 3) := dk_167 255 214 (dk_at dksX4_answers_3 16 rfl rfl)
theorem dX4_answers_89 : decode cX4_answers 89 = .ok (.iload_n 2, 1) := dk_28 (dk_at dksX4_answers_3 19 rfl rfl)
theorem dX4_answers_90 : decode cX4_answers 90 = .ok (.iconst 1, 1) := dk_4 (dk_at dksX4_answers_3 20 rfl rfl)
theorem dX4_answers_91 : decode cX4_answers 91 = .ok (.iload_n 3, 1) := dk_29 (dk_at dksX4_answers_3 21 rfl rfl)
theorem dX4_answers_92 : decode cX4_answers 92 = .ok (.ishl, 1) := dk_120 (dk_at dksX4_answers_3 22 rfl rfl)
theorem dX4_answers_93 : decode cX4_answers 93 = .ok (.ior, 1) := dk_128 (dk_at dksX4_answers_3 23 rfl rfl)
theorem dX4_answers_94 : decode cX4_answers 94 = .ok (.istore_n 2, 1) := dk_61 (dk_at dksX4_answers_4 0 rfl rfl)
theorem dX4_answers_95 : decode cX4_answers 95 = .ok (.iconst 0, 1) := dk_3 (dk_at dksX4_answers_4 1 rfl rfl)
theorem dX4_answers_96 : decode cX4_answers 96 = .ok (.istore 4, 2) := dk_54 4 (dk_at dksX4_answers_4 2 rfl rfl)
theorem dX4_answers_98 : decode cX4_answers 98 = .ok (.iload 4, 2) := dk_21 4 (dk_at dksX4_answers_4 4 rfl rfl)
theorem dX4_answers_100 : decode cX4_answers 100 = .ok (.aload_n 0, 1) := dk_42 (dk_at dksX4_answers_4 6 rfl rfl)
theorem dX4_answers_101 : decode cX4_answers 101 = .ok (.getfield 64, 3) := dk_180 0 64 (dk_at dksX4_answers_4 7 rfl rfl)
theorem dX4_answers_104 : decode cX4_answers 104 = .ok (.iload_n 3, 1) := dk_29 (dk_at dksX4_answers_4 10 rfl rfl)
theorem dX4_answers_105 : decode cX4_answers 105 = .ok (.iaload, 1) := dk_46 (dk_at dksX4_answers_4 11 rfl rfl)
theorem dX4_answers_106 : decode cX4_answers 106 = .ok (.if_icmp .ge 82, 3) := dk_162 0 82 (dk_at dksX4_answers_4 12 rfl rfl)
theorem dX4_answers_109 : decode cX4_answers 109 = .ok (.iload_n 1, 1) := dk_27 (dk_at dksX4_answers_4 15 rfl rfl)
theorem dX4_answers_110 : decode cX4_answers 110 = .ok (.ifCond .le 78, 3) := dk_158 0 78 (dk_at dksX4_answers_4 16 rfl rfl)
theorem dX4_answers_113 : decode cX4_answers 113 = .ok (.iconst 3, 1) := dk_6 (dk_at dksX4_answers_4 19 rfl rfl)
theorem dX4_answers_114 : decode cX4_answers 114 = .ok (.istore 5, 2) := dk_54 5 (dk_at dksX4_answers_4 20 rfl rfl)
theorem dX4_answers_116 : decode cX4_answers 116 = .ok (.iload 5, 2) := dk_21 5 (dk_at dksX4_answers_4 22 rfl rfl)
theorem dX4_answers_118 : decode cX4_answers 118 = .ok (.ifCond .lt 61, 3) := dk_155 0 61 (dk_at dksX4_answers_5 0 rfl rfl)
theorem dX4_answers_121 : decode cX4_answers 121 = .ok (.aload_n 0, 1) := dk_42 (dk_at dksX4_answers_5 3 rfl rfl)
theorem dX4_answers_122 : decode cX4_answers 122 = .ok (.getfield 67, 3) := dk_180 0 67 (dk_at dksX4_answers_5 4 rfl rfl)
theorem dX4_answers_125 : decode cX4_answers 125 = .ok (.iload 5, 2) := dk_21 5 (dk_at dksX4_answers_5 7 rfl rfl)
theorem dX4_answers_127 : decode cX4_answers 127 = .ok (.aload_n 0, 1) := dk_42 (dk_at dksX4_answers_5 9 rfl rfl)
theorem dX4_answers_128 : decode cX4_answers 128 = .ok (.getfield 67, 3) := dk_180 0 67 (dk_at dksX4_answers_5 10 rfl rfl)
theorem dX4_answers_131 : decode cX4_answers 131 = .ok (.iload 5, 2) := dk_21 5 (dk_at dksX4_answers_5 13 rfl rfl)
theorem dX4_answers_133 : decode cX4_answers 133 = .ok (.laload, 1) := dk_47 (dk_at dksX4_answers_5 15 rfl rfl)
theorem dX4_answers_134 : decode cX4_answers 134 = .ok (.bipush 100, 2) := dk_16 100 (dk_at dksX4_answers_5 16 rfl rfl)
theorem dX4_answers_136 : decode cX4_answers 136 = .ok (.aload_n 0, 1) := dk_42 (dk_at dksX4_answers_5 18 rfl rfl)
theorem dX4_answers_137 : decode cX4_answers 137 = .ok (.getfield 55, 3) := dk_180 0 55 (dk_at dksX4_answers_5 19 rfl rfl)
theorem dX4_answers_140 : decode cX4_answers 140 = .ok (.iload_n 3, 1) := dk_29 (dk_at dksX4_answers_5 22 rfl rfl)
theorem dX4_answers_141 : decode cX4_answers 141 = .ok (.iaload, 1) := dk_46 (dk_at dksX4_answers_5 23 rfl rfl)
theorem dX4_answers_142 : decode cX4_answers 142 = .ok (.isub, 1) := dk_100 (dk_at dksX4_answers_6 0 rfl rfl)
theorem dX4_answers_143 : decode cX4_answers 143 = .ok (.i2l, 1) := dk_133 (dk_at dksX4_answers_6 1 rfl rfl)
theorem dX4_answers_144 : decode cX4_answers 144 = .ok (.lmul, 1) := dk_105 (dk_at dksX4_answers_6 2 rfl rfl)
theorem dX4_answers_145 : decode cX4_answers 145 = .ok (.iload 5, 2) := dk_21 5 (dk_at dksX4_answers_6 3 rfl rfl)
theorem dX4_answers_147 : decode cX4_answers 147 = .ok (.ifCond .le 23, 3) := dk_158 0 23 (dk_at dksX4_answers_6 5 rfl rfl)
theorem dX4_answers_150 : decode cX4_answers 150 = .ok (.aload_n 0, 1) := dk_42 (dk_at dksX4_answers_6 8 rfl rfl)
theorem dX4_answers_151 : decode cX4_answers 151 = .ok (.getfield 67, 3) := dk_180 0 67 (dk_at dksX4_answers_6 9 rfl rfl)
theorem dX4_answers_154 : decode cX4_answers 154 = .ok (.iload 5, 2) := dk_21 5 (dk_at dksX4_answers_6 12 rfl rfl)
theorem dX4_answers_156 : decode cX4_answers 156 = .ok (.iconst 1, 1) := dk_4 (dk_at dksX4_answers_6 14 rfl rfl)
theorem dX4_answers_157 : decode cX4_answers 157 = .ok (.isub, 1) := dk_100 (dk_at dksX4_answers_6 15 rfl rfl)
theorem dX4_answers_158 : decode cX4_answers 158 = .ok (.laload, 1) := dk_47 (dk_at dksX4_answers_6 16 rfl rfl)
theorem dX4_answers_159 : decode cX4_answers 159 = .ok (.aload_n 0, 1) := dk_42 (dk_at dksX4_answers_6 17 rfl rfl)
theorem dX4_answers_160 : decode cX4_answers 160 = .ok (.getfield 55, 3) := dk_180 0 55 (dk_at dksX4_answers_6 18 rfl rfl)
theorem dX4_answers_163 : decode cX4_answers 163 = .ok (.iload_n 3, 1) := dk_29 (dk_at dksX4_answers_6 21 rfl rfl)
theorem dX4_answers_164 : decode cX4_answers 164 = .ok (.iaload, 1) := dk_46 (dk_at dksX4_answers_6 22 rfl rfl)
theorem dX4_answers_165 : decode cX4_answers 165 = .ok (.i2l, 1) := dk_133 (dk_at dksX4_answers_6 23 rfl rfl)
theorem dX4_answers_166 : decode cX4_answers 166 = .ok (.lmul, 1) := dk_105 (dk_at dksX4_answers_7 0 rfl rfl)
theorem dX4_answers_167 : decode cX4_answers 167 = .ok (.goto 4, 3) := dk_167 0 4 (dk_at dksX4_answers_7 1 rfl rfl)
theorem dX4_answers_170 : decode cX4_answers 170 = .ok (.lconst 0, 1) := dk_9 (dk_at dksX4_answers_7 4 rfl rfl)
theorem dX4_answers_171 : decode cX4_answers 171 = .ok (.ladd, 1) := dk_97 (dk_at dksX4_answers_7 5 rfl rfl)
theorem dX4_answers_172 : decode cX4_answers 172 = .ok (.lastore, 1) := dk_80 (dk_at dksX4_answers_7 6 rfl rfl)
theorem dX4_answers_173 : decode cX4_answers 173 = .ok (.iinc 5 (-1), 3) := dk_132 5 255 (dk_at dksX4_answers_7 7 rfl rfl)
theorem dX4_answers_176 : decode cX4_answers 176 = .ok (.goto (-60), 3) := dk_167 255 196 (dk_at dksX4_answers_7 10 rfl rfl)
theorem dX4_answers_179 : decode cX4_answers 179 = .ok (.iinc 1 (-1), 3) := dk_132 1 255 (dk_at dksX4_answers_7 13 rfl rfl)
theorem dX4_answers_182 : decode cX4_answers 182 = .ok (.iinc 4 1, 3) := dk_132 4 1 (dk_at dksX4_answers_7 16 rfl rfl)
theorem dX4_answers_185 : decode cX4_answers 185 = .ok (.goto (-87), 3) := dk_167 255 169 (dk_at dksX4_answers_7 19 rfl rfl)
theorem dX4_answers_188 : decode cX4_answers 188 = .ok (.goto (-153), 3) := dk_167 255 103 (dk_at dksX4_answers_8 0 rfl rfl)
theorem dX4_answers_191 : decode cX4_answers 191 = .ok (.return_, 1) := dk_177 (dk_at dksX4_answers_8 3 rfl rfl)
abbrev cX4_passes : ByteArray := prog_29_method_69_code
def yX4_passes : MethodName := ⟨RX4, "passes", "()J"⟩
def dkwX4_passes_1 : List UInt8 := [132, 3, 1, 167, 255, 239, 31, 173]
abbrev dktX4_passes_1 : List UInt8 := dkwX4_passes_1 ++ []
def dkwX4_passes_0 : List UInt8 := [9, 64, 42, 5, 182, 1, 62, 62, 29, 7, 162, 0, 18, 31, 42, 180, 0, 71, 29, 47, 97, 64]
abbrev dktX4_passes_0 : List UInt8 := dkwX4_passes_0 ++ dktX4_passes_1
theorem dksX4_passes_0 : cX4_passes.data.toList.drop 0 = dktX4_passes_0 := by decide +kernel
theorem dksX4_passes_1 : cX4_passes.data.toList.drop 22 = dktX4_passes_1 := dk_seg dksX4_passes_0 22 rfl rfl
theorem dX4_passes_0 : decode cX4_passes 0 = .ok (.lconst 0, 1) := dk_9 (dk_at dksX4_passes_0 0 rfl rfl)
theorem dX4_passes_1 : decode cX4_passes 1 = .ok (.lstore_n 1, 1) := dk_64 (dk_at dksX4_passes_0 1 rfl rfl)
theorem dX4_passes_2 : decode cX4_passes 2 = .ok (.aload_n 0, 1) := dk_42 (dk_at dksX4_passes_0 2 rfl rfl)
theorem dX4_passes_3 : decode cX4_passes 3 = .ok (.iconst 2, 1) := dk_5 (dk_at dksX4_passes_0 3 rfl rfl)
theorem dX4_passes_4 : decode cX4_passes 4 = .ok (.invokevirtual 318, 3) := dk_182 1 62 (dk_at dksX4_passes_0 4 rfl rfl)
theorem dX4_passes_7 : decode cX4_passes 7 = .ok (.istore_n 3, 1) := dk_62 (dk_at dksX4_passes_0 7 rfl rfl)
theorem dX4_passes_8 : decode cX4_passes 8 = .ok (.iload_n 3, 1) := dk_29 (dk_at dksX4_passes_0 8 rfl rfl)
theorem dX4_passes_9 : decode cX4_passes 9 = .ok (.iconst 4, 1) := dk_7 (dk_at dksX4_passes_0 9 rfl rfl)
theorem dX4_passes_10 : decode cX4_passes 10 = .ok (.if_icmp .ge 18, 3) := dk_162 0 18 (dk_at dksX4_passes_0 10 rfl rfl)
theorem dX4_passes_13 : decode cX4_passes 13 = .ok (.lload_n 1, 1) := dk_31 (dk_at dksX4_passes_0 13 rfl rfl)
theorem dX4_passes_14 : decode cX4_passes 14 = .ok (.aload_n 0, 1) := dk_42 (dk_at dksX4_passes_0 14 rfl rfl)
theorem dX4_passes_15 : decode cX4_passes 15 = .ok (.getfield 71, 3) := dk_180 0 71 (dk_at dksX4_passes_0 15 rfl rfl)
theorem dX4_passes_18 : decode cX4_passes 18 = .ok (.iload_n 3, 1) := dk_29 (dk_at dksX4_passes_0 18 rfl rfl)
theorem dX4_passes_19 : decode cX4_passes 19 = .ok (.laload, 1) := dk_47 (dk_at dksX4_passes_0 19 rfl rfl)
theorem dX4_passes_20 : decode cX4_passes 20 = .ok (.ladd, 1) := dk_97 (dk_at dksX4_passes_0 20 rfl rfl)
theorem dX4_passes_21 : decode cX4_passes 21 = .ok (.lstore_n 1, 1) := dk_64 (dk_at dksX4_passes_0 21 rfl rfl)
theorem dX4_passes_22 : decode cX4_passes 22 = .ok (.iinc 3 1, 3) := dk_132 3 1 (dk_at dksX4_passes_1 0 rfl rfl)
theorem dX4_passes_25 : decode cX4_passes 25 = .ok (.goto (-17), 3) := dk_167 255 239 (dk_at dksX4_passes_1 3 rfl rfl)
theorem dX4_passes_28 : decode cX4_passes 28 = .ok (.lload_n 1, 1) := dk_31 (dk_at dksX4_passes_1 6 rfl rfl)
theorem dX4_passes_29 : decode cX4_passes 29 = .ok (.lreturn, 1) := dk_173 (dk_at dksX4_passes_1 7 rfl rfl)
abbrev cX4_reduced : ByteArray := prog_29_method_68_code
def yX4_reduced : MethodName := ⟨RX4, "reduced", "(JJI)J"⟩
def dkwX4_reduced_0 : List UInt8 := [30, 32, 184, 1, 84, 55, 5, 21, 4, 154, 0, 10, 30, 22, 5, 109, 167, 0, 7, 32, 22, 5, 109, 173]
abbrev dktX4_reduced_0 : List UInt8 := dkwX4_reduced_0 ++ []
theorem dksX4_reduced_0 : cX4_reduced.data.toList.drop 0 = dktX4_reduced_0 := by decide +kernel
theorem dX4_reduced_0 : decode cX4_reduced 0 = .ok (.lload_n 0, 1) := dk_30 (dk_at dksX4_reduced_0 0 rfl rfl)
theorem dX4_reduced_1 : decode cX4_reduced 1 = .ok (.lload_n 2, 1) := dk_32 (dk_at dksX4_reduced_0 1 rfl rfl)
theorem dX4_reduced_2 : decode cX4_reduced 2 = .ok (.invokestatic 340, 3) := dk_184 1 84 (dk_at dksX4_reduced_0 2 rfl rfl)
theorem dX4_reduced_5 : decode cX4_reduced 5 = .ok (.lstore 5, 2) := dk_55 5 (dk_at dksX4_reduced_0 5 rfl rfl)
theorem dX4_reduced_7 : decode cX4_reduced 7 = .ok (.iload 4, 2) := dk_21 4 (dk_at dksX4_reduced_0 7 rfl rfl)
theorem dX4_reduced_9 : decode cX4_reduced 9 = .ok (.ifCond .ne 10, 3) := dk_154 0 10 (dk_at dksX4_reduced_0 9 rfl rfl)
theorem dX4_reduced_12 : decode cX4_reduced 12 = .ok (.lload_n 0, 1) := dk_30 (dk_at dksX4_reduced_0 12 rfl rfl)
theorem dX4_reduced_13 : decode cX4_reduced 13 = .ok (.lload 5, 2) := dk_22 5 (dk_at dksX4_reduced_0 13 rfl rfl)
theorem dX4_reduced_15 : decode cX4_reduced 15 = .ok (.ldiv, 1) := dk_109 (dk_at dksX4_reduced_0 15 rfl rfl)
theorem dX4_reduced_16 : decode cX4_reduced 16 = .ok (.goto 7, 3) := dk_167 0 7 (dk_at dksX4_reduced_0 16 rfl rfl)
theorem dX4_reduced_19 : decode cX4_reduced 19 = .ok (.lload_n 2, 1) := dk_32 (dk_at dksX4_reduced_0 19 rfl rfl)
theorem dX4_reduced_20 : decode cX4_reduced 20 = .ok (.lload 5, 2) := dk_22 5 (dk_at dksX4_reduced_0 20 rfl rfl)
theorem dX4_reduced_22 : decode cX4_reduced 22 = .ok (.ldiv, 1) := dk_109 (dk_at dksX4_reduced_0 22 rfl rfl)
theorem dX4_reduced_23 : decode cX4_reduced 23 = .ok (.lreturn, 1) := dk_173 (dk_at dksX4_reduced_0 23 rfl rfl)
abbrev cX4_common : ByteArray := prog_29_method_67_code
def yX4_common : MethodName := ⟨RX4, "common", "(JJ)J"⟩
def dkwX4_common_1 : List UInt8 := [22, 8, 55, 6, 167, 255, 234, 22, 4, 173]
abbrev dktX4_common_1 : List UInt8 := dkwX4_common_1 ++ []
def dkwX4_common_0 : List UInt8 := [30, 55, 4, 32, 55, 6, 22, 6, 9, 148, 153, 0, 21, 22, 4, 22, 6, 113, 55, 8, 22, 6, 55, 4]
abbrev dktX4_common_0 : List UInt8 := dkwX4_common_0 ++ dktX4_common_1
theorem dksX4_common_0 : cX4_common.data.toList.drop 0 = dktX4_common_0 := by decide +kernel
theorem dksX4_common_1 : cX4_common.data.toList.drop 24 = dktX4_common_1 := dk_seg dksX4_common_0 24 rfl rfl
theorem dX4_common_0 : decode cX4_common 0 = .ok (.lload_n 0, 1) := dk_30 (dk_at dksX4_common_0 0 rfl rfl)
theorem dX4_common_1 : decode cX4_common 1 = .ok (.lstore 4, 2) := dk_55 4 (dk_at dksX4_common_0 1 rfl rfl)
theorem dX4_common_3 : decode cX4_common 3 = .ok (.lload_n 2, 1) := dk_32 (dk_at dksX4_common_0 3 rfl rfl)
theorem dX4_common_4 : decode cX4_common 4 = .ok (.lstore 6, 2) := dk_55 6 (dk_at dksX4_common_0 4 rfl rfl)
theorem dX4_common_6 : decode cX4_common 6 = .ok (.lload 6, 2) := dk_22 6 (dk_at dksX4_common_0 6 rfl rfl)
theorem dX4_common_8 : decode cX4_common 8 = .ok (.lconst 0, 1) := dk_9 (dk_at dksX4_common_0 8 rfl rfl)
theorem dX4_common_9 : decode cX4_common 9 = .ok (.lcmp, 1) := dk_148 (dk_at dksX4_common_0 9 rfl rfl)
theorem dX4_common_10 : decode cX4_common 10 = .ok (.ifCond .eq 21, 3) := dk_153 0 21 (dk_at dksX4_common_0 10 rfl rfl)
theorem dX4_common_13 : decode cX4_common 13 = .ok (.lload 4, 2) := dk_22 4 (dk_at dksX4_common_0 13 rfl rfl)
theorem dX4_common_15 : decode cX4_common 15 = .ok (.lload 6, 2) := dk_22 6 (dk_at dksX4_common_0 15 rfl rfl)
theorem dX4_common_17 : decode cX4_common 17 = .ok (.lrem, 1) := dk_113 (dk_at dksX4_common_0 17 rfl rfl)
theorem dX4_common_18 : decode cX4_common 18 = .ok (.lstore 8, 2) := dk_55 8 (dk_at dksX4_common_0 18 rfl rfl)
theorem dX4_common_20 : decode cX4_common 20 = .ok (.lload 6, 2) := dk_22 6 (dk_at dksX4_common_0 20 rfl rfl)
theorem dX4_common_22 : decode cX4_common 22 = .ok (.lstore 4, 2) := dk_55 4 (dk_at dksX4_common_0 22 rfl rfl)
theorem dX4_common_24 : decode cX4_common 24 = .ok (.lload 8, 2) := dk_22 8 (dk_at dksX4_common_1 0 rfl rfl)
theorem dX4_common_26 : decode cX4_common 26 = .ok (.lstore 6, 2) := dk_55 6 (dk_at dksX4_common_1 2 rfl rfl)
theorem dX4_common_28 : decode cX4_common 28 = .ok (.goto (-22), 3) := dk_167 255 234 (dk_at dksX4_common_1 4 rfl rfl)
theorem dX4_common_31 : decode cX4_common 31 = .ok (.lload 4, 2) := dk_22 4 (dk_at dksX4_common_1 7 rfl rfl)
theorem dX4_common_33 : decode cX4_common 33 = .ok (.lreturn, 1) := dk_173 (dk_at dksX4_common_1 9 rfl rfl)
abbrev cX4_right : ByteArray := prog_29_method_71_code
def yX4_right : MethodName := ⟨RX4, "right", "(II)J"⟩
def dkwX4_right_1 : List UInt8 := [3, 182, 1, 90, 42, 180, 0, 71, 27, 47, 42, 180, 1, 68, 28, 184, 1, 98, 173]
abbrev dktX4_right_1 : List UInt8 := dkwX4_right_1 ++ []
def dkwX4_right_0 : List UInt8 := [27, 3, 6, 184, 0, 135, 153, 0, 12, 28, 3, 4, 184, 0, 135, 154, 0, 7, 20, 1, 88, 173, 42, 2]
abbrev dktX4_right_0 : List UInt8 := dkwX4_right_0 ++ dktX4_right_1
theorem dksX4_right_0 : cX4_right.data.toList.drop 0 = dktX4_right_0 := by decide +kernel
theorem dksX4_right_1 : cX4_right.data.toList.drop 24 = dktX4_right_1 := dk_seg dksX4_right_0 24 rfl rfl
theorem dX4_right_0 : decode cX4_right 0 = .ok (.iload_n 1, 1) := dk_27 (dk_at dksX4_right_0 0 rfl rfl)
theorem dX4_right_1 : decode cX4_right 1 = .ok (.iconst 0, 1) := dk_3 (dk_at dksX4_right_0 1 rfl rfl)
theorem dX4_right_2 : decode cX4_right 2 = .ok (.iconst 3, 1) := dk_6 (dk_at dksX4_right_0 2 rfl rfl)
theorem dX4_right_3 : decode cX4_right 3 = .ok (.invokestatic 135, 3) := dk_184 0 135 (dk_at dksX4_right_0 3 rfl rfl)
theorem dX4_right_6 : decode cX4_right 6 = .ok (.ifCond .eq 12, 3) := dk_153 0 12 (dk_at dksX4_right_0 6 rfl rfl)
theorem dX4_right_9 : decode cX4_right 9 = .ok (.iload_n 2, 1) := dk_28 (dk_at dksX4_right_0 9 rfl rfl)
theorem dX4_right_10 : decode cX4_right 10 = .ok (.iconst 0, 1) := dk_3 (dk_at dksX4_right_0 10 rfl rfl)
theorem dX4_right_11 : decode cX4_right 11 = .ok (.iconst 1, 1) := dk_4 (dk_at dksX4_right_0 11 rfl rfl)
theorem dX4_right_12 : decode cX4_right 12 = .ok (.invokestatic 135, 3) := dk_184 0 135 (dk_at dksX4_right_0 12 rfl rfl)
theorem dX4_right_15 : decode cX4_right 15 = .ok (.ifCond .ne 7, 3) := dk_154 0 7 (dk_at dksX4_right_0 15 rfl rfl)
theorem dX4_right_18 : decode cX4_right 18 = .ok (.ldc2_w 344, 3) := dk_20 1 88 (dk_at dksX4_right_0 18 rfl rfl)
theorem dX4_right_21 : decode cX4_right 21 = .ok (.lreturn, 1) := dk_173 (dk_at dksX4_right_0 21 rfl rfl)
theorem dX4_right_22 : decode cX4_right 22 = .ok (.aload_n 0, 1) := dk_42 (dk_at dksX4_right_0 22 rfl rfl)
theorem dX4_right_23 : decode cX4_right 23 = .ok (.iconst (-1), 1) := dk_2 (dk_at dksX4_right_0 23 rfl rfl)
theorem dX4_right_24 : decode cX4_right 24 = .ok (.iconst 0, 1) := dk_3 (dk_at dksX4_right_1 0 rfl rfl)
theorem dX4_right_25 : decode cX4_right 25 = .ok (.invokevirtual 346, 3) := dk_182 1 90 (dk_at dksX4_right_1 1 rfl rfl)
theorem dX4_right_28 : decode cX4_right 28 = .ok (.aload_n 0, 1) := dk_42 (dk_at dksX4_right_1 4 rfl rfl)
theorem dX4_right_29 : decode cX4_right 29 = .ok (.getfield 71, 3) := dk_180 0 71 (dk_at dksX4_right_1 5 rfl rfl)
theorem dX4_right_32 : decode cX4_right 32 = .ok (.iload_n 1, 1) := dk_27 (dk_at dksX4_right_1 8 rfl rfl)
theorem dX4_right_33 : decode cX4_right 33 = .ok (.laload, 1) := dk_47 (dk_at dksX4_right_1 9 rfl rfl)
theorem dX4_right_34 : decode cX4_right 34 = .ok (.aload_n 0, 1) := dk_42 (dk_at dksX4_right_1 10 rfl rfl)
theorem dX4_right_35 : decode cX4_right 35 = .ok (.getfield 324, 3) := dk_180 1 68 (dk_at dksX4_right_1 11 rfl rfl)
theorem dX4_right_38 : decode cX4_right 38 = .ok (.iload_n 2, 1) := dk_28 (dk_at dksX4_right_1 14 rfl rfl)
theorem dX4_right_39 : decode cX4_right 39 = .ok (.invokestatic 354, 3) := dk_184 1 98 (dk_at dksX4_right_1 15 rfl rfl)
theorem dX4_right_42 : decode cX4_right 42 = .ok (.lreturn, 1) := dk_173 (dk_at dksX4_right_1 18 rfl rfl)
abbrev cX4_mean : ByteArray := prog_29_method_72_code
def yX4_mean : MethodName := ⟨RX4, "mean", "(I)J"⟩
def dkwX4_mean_2 : List UInt8 := [180, 1, 68, 27, 184, 1, 98, 173]
abbrev dktX4_mean_2 : List UInt8 := dkwX4_mean_2 ++ []
def dkwX4_mean_1 : List UInt8 := [47, 20, 1, 102, 42, 180, 0, 71, 5, 47, 105, 97, 20, 1, 104, 42, 180, 0, 71, 6, 47, 105, 97, 42]
abbrev dktX4_mean_1 : List UInt8 := dkwX4_mean_1 ++ dktX4_mean_2
def dkwX4_mean_0 : List UInt8 := [27, 3, 4, 184, 0, 135, 154, 0, 7, 20, 1, 88, 173, 42, 2, 3, 182, 1, 90, 42, 180, 0, 71, 4]
abbrev dktX4_mean_0 : List UInt8 := dkwX4_mean_0 ++ dktX4_mean_1
theorem dksX4_mean_0 : cX4_mean.data.toList.drop 0 = dktX4_mean_0 := by decide +kernel
theorem dksX4_mean_1 : cX4_mean.data.toList.drop 24 = dktX4_mean_1 := dk_seg dksX4_mean_0 24 rfl rfl
theorem dksX4_mean_2 : cX4_mean.data.toList.drop 48 = dktX4_mean_2 := dk_seg dksX4_mean_1 24 rfl rfl
theorem dX4_mean_0 : decode cX4_mean 0 = .ok (.iload_n 1, 1) := dk_27 (dk_at dksX4_mean_0 0 rfl rfl)
theorem dX4_mean_1 : decode cX4_mean 1 = .ok (.iconst 0, 1) := dk_3 (dk_at dksX4_mean_0 1 rfl rfl)
theorem dX4_mean_2 : decode cX4_mean 2 = .ok (.iconst 1, 1) := dk_4 (dk_at dksX4_mean_0 2 rfl rfl)
theorem dX4_mean_3 : decode cX4_mean 3 = .ok (.invokestatic 135, 3) := dk_184 0 135 (dk_at dksX4_mean_0 3 rfl rfl)
theorem dX4_mean_6 : decode cX4_mean 6 = .ok (.ifCond .ne 7, 3) := dk_154 0 7 (dk_at dksX4_mean_0 6 rfl rfl)
theorem dX4_mean_9 : decode cX4_mean 9 = .ok (.ldc2_w 344, 3) := dk_20 1 88 (dk_at dksX4_mean_0 9 rfl rfl)
theorem dX4_mean_12 : decode cX4_mean 12 = .ok (.lreturn, 1) := dk_173 (dk_at dksX4_mean_0 12 rfl rfl)
theorem dX4_mean_13 : decode cX4_mean 13 = .ok (.aload_n 0, 1) := dk_42 (dk_at dksX4_mean_0 13 rfl rfl)
theorem dX4_mean_14 : decode cX4_mean 14 = .ok (.iconst (-1), 1) := dk_2 (dk_at dksX4_mean_0 14 rfl rfl)
theorem dX4_mean_15 : decode cX4_mean 15 = .ok (.iconst 0, 1) := dk_3 (dk_at dksX4_mean_0 15 rfl rfl)
theorem dX4_mean_16 : decode cX4_mean 16 = .ok (.invokevirtual 346, 3) := dk_182 1 90 (dk_at dksX4_mean_0 16 rfl rfl)
theorem dX4_mean_19 : decode cX4_mean 19 = .ok (.aload_n 0, 1) := dk_42 (dk_at dksX4_mean_0 19 rfl rfl)
theorem dX4_mean_20 : decode cX4_mean 20 = .ok (.getfield 71, 3) := dk_180 0 71 (dk_at dksX4_mean_0 20 rfl rfl)
theorem dX4_mean_23 : decode cX4_mean 23 = .ok (.iconst 1, 1) := dk_4 (dk_at dksX4_mean_0 23 rfl rfl)
theorem dX4_mean_24 : decode cX4_mean 24 = .ok (.laload, 1) := dk_47 (dk_at dksX4_mean_1 0 rfl rfl)
theorem dX4_mean_25 : decode cX4_mean 25 = .ok (.ldc2_w 358, 3) := dk_20 1 102 (dk_at dksX4_mean_1 1 rfl rfl)
theorem dX4_mean_28 : decode cX4_mean 28 = .ok (.aload_n 0, 1) := dk_42 (dk_at dksX4_mean_1 4 rfl rfl)
theorem dX4_mean_29 : decode cX4_mean 29 = .ok (.getfield 71, 3) := dk_180 0 71 (dk_at dksX4_mean_1 5 rfl rfl)
theorem dX4_mean_32 : decode cX4_mean 32 = .ok (.iconst 2, 1) := dk_5 (dk_at dksX4_mean_1 8 rfl rfl)
theorem dX4_mean_33 : decode cX4_mean 33 = .ok (.laload, 1) := dk_47 (dk_at dksX4_mean_1 9 rfl rfl)
theorem dX4_mean_34 : decode cX4_mean 34 = .ok (.lmul, 1) := dk_105 (dk_at dksX4_mean_1 10 rfl rfl)
theorem dX4_mean_35 : decode cX4_mean 35 = .ok (.ladd, 1) := dk_97 (dk_at dksX4_mean_1 11 rfl rfl)
theorem dX4_mean_36 : decode cX4_mean 36 = .ok (.ldc2_w 360, 3) := dk_20 1 104 (dk_at dksX4_mean_1 12 rfl rfl)
theorem dX4_mean_39 : decode cX4_mean 39 = .ok (.aload_n 0, 1) := dk_42 (dk_at dksX4_mean_1 15 rfl rfl)
theorem dX4_mean_40 : decode cX4_mean 40 = .ok (.getfield 71, 3) := dk_180 0 71 (dk_at dksX4_mean_1 16 rfl rfl)
theorem dX4_mean_43 : decode cX4_mean 43 = .ok (.iconst 3, 1) := dk_6 (dk_at dksX4_mean_1 19 rfl rfl)
theorem dX4_mean_44 : decode cX4_mean 44 = .ok (.laload, 1) := dk_47 (dk_at dksX4_mean_1 20 rfl rfl)
theorem dX4_mean_45 : decode cX4_mean 45 = .ok (.lmul, 1) := dk_105 (dk_at dksX4_mean_1 21 rfl rfl)
theorem dX4_mean_46 : decode cX4_mean 46 = .ok (.ladd, 1) := dk_97 (dk_at dksX4_mean_1 22 rfl rfl)
theorem dX4_mean_47 : decode cX4_mean 47 = .ok (.aload_n 0, 1) := dk_42 (dk_at dksX4_mean_1 23 rfl rfl)
theorem dX4_mean_48 : decode cX4_mean 48 = .ok (.getfield 324, 3) := dk_180 1 68 (dk_at dksX4_mean_2 0 rfl rfl)
theorem dX4_mean_51 : decode cX4_mean 51 = .ok (.iload_n 1, 1) := dk_27 (dk_at dksX4_mean_2 3 rfl rfl)
theorem dX4_mean_52 : decode cX4_mean 52 = .ok (.invokestatic 354, 3) := dk_184 1 98 (dk_at dksX4_mean_2 4 rfl rfl)
theorem dX4_mean_55 : decode cX4_mean 55 = .ok (.lreturn, 1) := dk_173 (dk_at dksX4_mean_2 7 rfl rfl)
abbrev cX4_sure : ByteArray := prog_29_method_74_code
def yX4_sure : MethodName := ⟨RX4, "sure", "(II)J"⟩
def dkwX4_sure_1 : List UInt8 := [173, 42, 182, 1, 78, 42, 3, 27, 182, 1, 109, 66, 33, 42, 180, 1, 68, 28, 184, 1, 98, 173]
abbrev dktX4_sure_1 : List UInt8 := dkwX4_sure_1 ++ []
def dkwX4_sure_0 : List UInt8 := [27, 3, 42, 182, 1, 106, 184, 0, 135, 153, 0, 12, 28, 3, 4, 184, 0, 135, 154, 0, 7, 20, 1, 88]
abbrev dktX4_sure_0 : List UInt8 := dkwX4_sure_0 ++ dktX4_sure_1
theorem dksX4_sure_0 : cX4_sure.data.toList.drop 0 = dktX4_sure_0 := by decide +kernel
theorem dksX4_sure_1 : cX4_sure.data.toList.drop 24 = dktX4_sure_1 := dk_seg dksX4_sure_0 24 rfl rfl
theorem dX4_sure_0 : decode cX4_sure 0 = .ok (.iload_n 1, 1) := dk_27 (dk_at dksX4_sure_0 0 rfl rfl)
theorem dX4_sure_1 : decode cX4_sure 1 = .ok (.iconst 0, 1) := dk_3 (dk_at dksX4_sure_0 1 rfl rfl)
theorem dX4_sure_2 : decode cX4_sure 2 = .ok (.aload_n 0, 1) := dk_42 (dk_at dksX4_sure_0 2 rfl rfl)
theorem dX4_sure_3 : decode cX4_sure 3 = .ok (.invokevirtual 362, 3) := dk_182 1 106 (dk_at dksX4_sure_0 3 rfl rfl)
theorem dX4_sure_6 : decode cX4_sure 6 = .ok (.invokestatic 135, 3) := dk_184 0 135 (dk_at dksX4_sure_0 6 rfl rfl)
theorem dX4_sure_9 : decode cX4_sure 9 = .ok (.ifCond .eq 12, 3) := dk_153 0 12 (dk_at dksX4_sure_0 9 rfl rfl)
theorem dX4_sure_12 : decode cX4_sure 12 = .ok (.iload_n 2, 1) := dk_28 (dk_at dksX4_sure_0 12 rfl rfl)
theorem dX4_sure_13 : decode cX4_sure 13 = .ok (.iconst 0, 1) := dk_3 (dk_at dksX4_sure_0 13 rfl rfl)
theorem dX4_sure_14 : decode cX4_sure 14 = .ok (.iconst 1, 1) := dk_4 (dk_at dksX4_sure_0 14 rfl rfl)
theorem dX4_sure_15 : decode cX4_sure 15 = .ok (.invokestatic 135, 3) := dk_184 0 135 (dk_at dksX4_sure_0 15 rfl rfl)
theorem dX4_sure_18 : decode cX4_sure 18 = .ok (.ifCond .ne 7, 3) := dk_154 0 7 (dk_at dksX4_sure_0 18 rfl rfl)
theorem dX4_sure_21 : decode cX4_sure 21 = .ok (.ldc2_w 344, 3) := dk_20 1 88 (dk_at dksX4_sure_0 21 rfl rfl)
theorem dX4_sure_24 : decode cX4_sure 24 = .ok (.lreturn, 1) := dk_173 (dk_at dksX4_sure_1 0 rfl rfl)
theorem dX4_sure_25 : decode cX4_sure 25 = .ok (.aload_n 0, 1) := dk_42 (dk_at dksX4_sure_1 1 rfl rfl)
theorem dX4_sure_26 : decode cX4_sure 26 = .ok (.invokevirtual 334, 3) := dk_182 1 78 (dk_at dksX4_sure_1 2 rfl rfl)
theorem dX4_sure_29 : decode cX4_sure 29 = .ok (.aload_n 0, 1) := dk_42 (dk_at dksX4_sure_1 5 rfl rfl)
theorem dX4_sure_30 : decode cX4_sure 30 = .ok (.iconst 0, 1) := dk_3 (dk_at dksX4_sure_1 6 rfl rfl)
theorem dX4_sure_31 : decode cX4_sure 31 = .ok (.iload_n 1, 1) := dk_27 (dk_at dksX4_sure_1 7 rfl rfl)
theorem dX4_sure_32 : decode cX4_sure 32 = .ok (.invokevirtual 365, 3) := dk_182 1 109 (dk_at dksX4_sure_1 8 rfl rfl)
theorem dX4_sure_35 : decode cX4_sure 35 = .ok (.lstore_n 3, 1) := dk_66 (dk_at dksX4_sure_1 11 rfl rfl)
theorem dX4_sure_36 : decode cX4_sure 36 = .ok (.lload_n 3, 1) := dk_33 (dk_at dksX4_sure_1 12 rfl rfl)
theorem dX4_sure_37 : decode cX4_sure 37 = .ok (.aload_n 0, 1) := dk_42 (dk_at dksX4_sure_1 13 rfl rfl)
theorem dX4_sure_38 : decode cX4_sure 38 = .ok (.getfield 324, 3) := dk_180 1 68 (dk_at dksX4_sure_1 14 rfl rfl)
theorem dX4_sure_41 : decode cX4_sure 41 = .ok (.iload_n 2, 1) := dk_28 (dk_at dksX4_sure_1 17 rfl rfl)
theorem dX4_sure_42 : decode cX4_sure 42 = .ok (.invokestatic 354, 3) := dk_184 1 98 (dk_at dksX4_sure_1 18 rfl rfl)
theorem dX4_sure_45 : decode cX4_sure 45 = .ok (.lreturn, 1) := dk_173 (dk_at dksX4_sure_1 21 rfl rfl)
abbrev cX4_bowl : ByteArray := prog_29_method_12_code
def yX4_bowl : MethodName := ⟨RX4, "bowl", "()I"⟩
def dkwX4_bowl_1 : List UInt8 := [167, 0, 4, 3, 96, 60, 132, 2, 1, 167, 255, 229, 27, 172]
abbrev dktX4_bowl_1 : List UInt8 := dkwX4_bowl_1 ++ []
def dkwX4_bowl_0 : List UInt8 := [3, 60, 3, 61, 28, 42, 182, 0, 146, 162, 0, 25, 27, 42, 28, 182, 0, 154, 153, 0, 7, 4]
abbrev dktX4_bowl_0 : List UInt8 := dkwX4_bowl_0 ++ dktX4_bowl_1
theorem dksX4_bowl_0 : cX4_bowl.data.toList.drop 0 = dktX4_bowl_0 := by decide +kernel
theorem dksX4_bowl_1 : cX4_bowl.data.toList.drop 22 = dktX4_bowl_1 := dk_seg dksX4_bowl_0 22 rfl rfl
theorem dX4_bowl_0 : decode cX4_bowl 0 = .ok (.iconst 0, 1) := dk_3 (dk_at dksX4_bowl_0 0 rfl rfl)
theorem dX4_bowl_1 : decode cX4_bowl 1 = .ok (.istore_n 1, 1) := dk_60 (dk_at dksX4_bowl_0 1 rfl rfl)
theorem dX4_bowl_2 : decode cX4_bowl 2 = .ok (.iconst 0, 1) := dk_3 (dk_at dksX4_bowl_0 2 rfl rfl)
theorem dX4_bowl_3 : decode cX4_bowl 3 = .ok (.istore_n 2, 1) := dk_61 (dk_at dksX4_bowl_0 3 rfl rfl)
theorem dX4_bowl_4 : decode cX4_bowl 4 = .ok (.iload_n 2, 1) := dk_28 (dk_at dksX4_bowl_0 4 rfl rfl)
theorem dX4_bowl_5 : decode cX4_bowl 5 = .ok (.aload_n 0, 1) := dk_42 (dk_at dksX4_bowl_0 5 rfl rfl)
theorem dX4_bowl_6 : decode cX4_bowl 6 = .ok (.invokevirtual 146, 3) := dk_182 0 146 (dk_at dksX4_bowl_0 6 rfl rfl)
theorem dX4_bowl_9 : decode cX4_bowl 9 = .ok (.if_icmp .ge 25, 3) := dk_162 0 25 (dk_at dksX4_bowl_0 9 rfl rfl)
theorem dX4_bowl_12 : decode cX4_bowl 12 = .ok (.iload_n 1, 1) := dk_27 (dk_at dksX4_bowl_0 12 rfl rfl)
theorem dX4_bowl_13 : decode cX4_bowl 13 = .ok (.aload_n 0, 1) := dk_42 (dk_at dksX4_bowl_0 13 rfl rfl)
theorem dX4_bowl_14 : decode cX4_bowl 14 = .ok (.iload_n 2, 1) := dk_28 (dk_at dksX4_bowl_0 14 rfl rfl)
theorem dX4_bowl_15 : decode cX4_bowl 15 = .ok (.invokevirtual 154, 3) := dk_182 0 154 (dk_at dksX4_bowl_0 15 rfl rfl)
theorem dX4_bowl_18 : decode cX4_bowl 18 = .ok (.ifCond .eq 7, 3) := dk_153 0 7 (dk_at dksX4_bowl_0 18 rfl rfl)
theorem dX4_bowl_21 : decode cX4_bowl 21 = .ok (.iconst 1, 1) := dk_4 (dk_at dksX4_bowl_0 21 rfl rfl)
theorem dX4_bowl_22 : decode cX4_bowl 22 = .ok (.goto 4, 3) := dk_167 0 4 (dk_at dksX4_bowl_1 0 rfl rfl)
theorem dX4_bowl_25 : decode cX4_bowl 25 = .ok (.iconst 0, 1) := dk_3 (dk_at dksX4_bowl_1 3 rfl rfl)
theorem dX4_bowl_26 : decode cX4_bowl 26 = .ok (.iadd, 1) := dk_96 (dk_at dksX4_bowl_1 4 rfl rfl)
theorem dX4_bowl_27 : decode cX4_bowl 27 = .ok (.istore_n 1, 1) := dk_60 (dk_at dksX4_bowl_1 5 rfl rfl)
theorem dX4_bowl_28 : decode cX4_bowl 28 = .ok (.iinc 2 1, 3) := dk_132 2 1 (dk_at dksX4_bowl_1 6 rfl rfl)
theorem dX4_bowl_31 : decode cX4_bowl 31 = .ok (.goto (-27), 3) := dk_167 255 229 (dk_at dksX4_bowl_1 9 rfl rfl)
theorem dX4_bowl_34 : decode cX4_bowl 34 = .ok (.iload_n 1, 1) := dk_27 (dk_at dksX4_bowl_1 12 rfl rfl)
theorem dX4_bowl_35 : decode cX4_bowl 35 = .ok (.ireturn, 1) := dk_172 (dk_at dksX4_bowl_1 13 rfl rfl)
abbrev cX4_passesWith : ByteArray := prog_29_method_73_code
def yX4_passesWith : MethodName := ⟨RX4, "passesWith", "(II)J"⟩
def dkwX4_passesWith_2 : List UInt8 := [167, 255, 241, 42, 3, 182, 1, 81, 42, 182, 1, 94, 173]
abbrev dktX4_passesWith_2 : List UInt8 := dkwX4_passesWith_2 ++ []
def dkwX4_passesWith_1 : List UInt8 := [180, 0, 58, 5, 28, 79, 3, 62, 29, 6, 162, 0, 16, 42, 180, 0, 61, 29, 3, 79, 132, 3, 1]
abbrev dktX4_passesWith_1 : List UInt8 := dkwX4_passesWith_1 ++ dktX4_passesWith_2
def dkwX4_passesWith_0 : List UInt8 := [42, 180, 0, 58, 3, 42, 182, 1, 106, 27, 100, 28, 100, 79, 42, 180, 0, 58, 4, 27, 79, 42]
abbrev dktX4_passesWith_0 : List UInt8 := dkwX4_passesWith_0 ++ dktX4_passesWith_1
theorem dksX4_passesWith_0 : cX4_passesWith.data.toList.drop 0 = dktX4_passesWith_0 := by decide +kernel
theorem dksX4_passesWith_1 : cX4_passesWith.data.toList.drop 22 = dktX4_passesWith_1 := dk_seg dksX4_passesWith_0 22 rfl rfl
theorem dksX4_passesWith_2 : cX4_passesWith.data.toList.drop 45 = dktX4_passesWith_2 := dk_seg dksX4_passesWith_1 23 rfl rfl
theorem dX4_passesWith_0 : decode cX4_passesWith 0 = .ok (.aload_n 0, 1) := dk_42 (dk_at dksX4_passesWith_0 0 rfl rfl)
theorem dX4_passesWith_1 : decode cX4_passesWith 1 = .ok (.getfield 58, 3) := dk_180 0 58 (dk_at dksX4_passesWith_0 1 rfl rfl)
theorem dX4_passesWith_4 : decode cX4_passesWith 4 = .ok (.iconst 0, 1) := dk_3 (dk_at dksX4_passesWith_0 4 rfl rfl)
theorem dX4_passesWith_5 : decode cX4_passesWith 5 = .ok (.aload_n 0, 1) := dk_42 (dk_at dksX4_passesWith_0 5 rfl rfl)
theorem dX4_passesWith_6 : decode cX4_passesWith 6 = .ok (.invokevirtual 362, 3) := dk_182 1 106 (dk_at dksX4_passesWith_0 6 rfl rfl)
theorem dX4_passesWith_9 : decode cX4_passesWith 9 = .ok (.iload_n 1, 1) := dk_27 (dk_at dksX4_passesWith_0 9 rfl rfl)
theorem dX4_passesWith_10 : decode cX4_passesWith 10 = .ok (.isub, 1) := dk_100 (dk_at dksX4_passesWith_0 10 rfl rfl)
theorem dX4_passesWith_11 : decode cX4_passesWith 11 = .ok (.iload_n 2, 1) := dk_28 (dk_at dksX4_passesWith_0 11 rfl rfl)
theorem dX4_passesWith_12 : decode cX4_passesWith 12 = .ok (.isub, 1) := dk_100 (dk_at dksX4_passesWith_0 12 rfl rfl)
theorem dX4_passesWith_13 : decode cX4_passesWith 13 = .ok (.iastore, 1) := dk_79 (dk_at dksX4_passesWith_0 13 rfl rfl)
theorem dX4_passesWith_14 : decode cX4_passesWith 14 = .ok (.aload_n 0, 1) := dk_42 (dk_at dksX4_passesWith_0 14 rfl rfl)
theorem dX4_passesWith_15 : decode cX4_passesWith 15 = .ok (.getfield 58, 3) := dk_180 0 58 (dk_at dksX4_passesWith_0 15 rfl rfl)
theorem dX4_passesWith_18 : decode cX4_passesWith 18 = .ok (.iconst 1, 1) := dk_4 (dk_at dksX4_passesWith_0 18 rfl rfl)
theorem dX4_passesWith_19 : decode cX4_passesWith 19 = .ok (.iload_n 1, 1) := dk_27 (dk_at dksX4_passesWith_0 19 rfl rfl)
theorem dX4_passesWith_20 : decode cX4_passesWith 20 = .ok (.iastore, 1) := dk_79 (dk_at dksX4_passesWith_0 20 rfl rfl)
theorem dX4_passesWith_21 : decode cX4_passesWith 21 = .ok (.aload_n 0, 1) := dk_42 (dk_at dksX4_passesWith_0 21 rfl rfl)
theorem dX4_passesWith_22 : decode cX4_passesWith 22 = .ok (.getfield 58, 3) := dk_180 0 58 (dk_at dksX4_passesWith_1 0 rfl rfl)
theorem dX4_passesWith_25 : decode cX4_passesWith 25 = .ok (.iconst 2, 1) := dk_5 (dk_at dksX4_passesWith_1 3 rfl rfl)
theorem dX4_passesWith_26 : decode cX4_passesWith 26 = .ok (.iload_n 2, 1) := dk_28 (dk_at dksX4_passesWith_1 4 rfl rfl)
theorem dX4_passesWith_27 : decode cX4_passesWith 27 = .ok (.iastore, 1) := dk_79 (dk_at dksX4_passesWith_1 5 rfl rfl)
theorem dX4_passesWith_28 : decode cX4_passesWith 28 = .ok (.iconst 0, 1) := dk_3 (dk_at dksX4_passesWith_1 6 rfl rfl)
theorem dX4_passesWith_29 : decode cX4_passesWith 29 = .ok (.istore_n 3, 1) := dk_62 (dk_at dksX4_passesWith_1 7 rfl rfl)
theorem dX4_passesWith_30 : decode cX4_passesWith 30 = .ok (.iload_n 3, 1) := dk_29 (dk_at dksX4_passesWith_1 8 rfl rfl)
theorem dX4_passesWith_31 : decode cX4_passesWith 31 = .ok (.iconst 3, 1) := dk_6 (dk_at dksX4_passesWith_1 9 rfl rfl)
theorem dX4_passesWith_32 : decode cX4_passesWith 32 = .ok (.if_icmp .ge 16, 3) := dk_162 0 16 (dk_at dksX4_passesWith_1 10 rfl rfl)
theorem dX4_passesWith_35 : decode cX4_passesWith 35 = .ok (.aload_n 0, 1) := dk_42 (dk_at dksX4_passesWith_1 13 rfl rfl)
theorem dX4_passesWith_36 : decode cX4_passesWith 36 = .ok (.getfield 61, 3) := dk_180 0 61 (dk_at dksX4_passesWith_1 14 rfl rfl)
theorem dX4_passesWith_39 : decode cX4_passesWith 39 = .ok (.iload_n 3, 1) := dk_29 (dk_at dksX4_passesWith_1 17 rfl rfl)
theorem dX4_passesWith_40 : decode cX4_passesWith 40 = .ok (.iconst 0, 1) := dk_3 (dk_at dksX4_passesWith_1 18 rfl rfl)
theorem dX4_passesWith_41 : decode cX4_passesWith 41 = .ok (.iastore, 1) := dk_79 (dk_at dksX4_passesWith_1 19 rfl rfl)
theorem dX4_passesWith_42 : decode cX4_passesWith 42 = .ok (.iinc 3 1, 3) := dk_132 3 1 (dk_at dksX4_passesWith_1 20 rfl rfl)
theorem dX4_passesWith_45 : decode cX4_passesWith 45 = .ok (.goto (-15), 3) := dk_167 255 241 (dk_at dksX4_passesWith_2 0 rfl rfl)
theorem dX4_passesWith_48 : decode cX4_passesWith 48 = .ok (.aload_n 0, 1) := dk_42 (dk_at dksX4_passesWith_2 3 rfl rfl)
theorem dX4_passesWith_49 : decode cX4_passesWith 49 = .ok (.iconst 0, 1) := dk_3 (dk_at dksX4_passesWith_2 4 rfl rfl)
theorem dX4_passesWith_50 : decode cX4_passesWith 50 = .ok (.invokevirtual 337, 3) := dk_182 1 81 (dk_at dksX4_passesWith_2 5 rfl rfl)
theorem dX4_passesWith_53 : decode cX4_passesWith 53 = .ok (.aload_n 0, 1) := dk_42 (dk_at dksX4_passesWith_2 8 rfl rfl)
theorem dX4_passesWith_54 : decode cX4_passesWith 54 = .ok (.invokevirtual 350, 3) := dk_182 1 94 (dk_at dksX4_passesWith_2 9 rfl rfl)
theorem dX4_passesWith_57 : decode cX4_passesWith 57 = .ok (.lreturn, 1) := dk_173 (dk_at dksX4_passesWith_2 12 rfl rfl)
abbrev cX4_safe : ByteArray := prog_29_method_75_code
def yX4_safe : MethodName := ⟨RX4, "safe", "()I"⟩
def dkwX4_safe_1 : List UInt8 := [148, 154, 0, 5, 27, 172, 132, 1, 1, 167, 255, 229, 2, 172]
abbrev dktX4_safe_1 : List UInt8 := dkwX4_safe_1 ++ []
def dkwX4_safe_0 : List UInt8 := [42, 182, 1, 78, 3, 60, 27, 42, 182, 1, 106, 163, 0, 25, 42, 3, 27, 182, 1, 109, 42, 180, 1, 68]
abbrev dktX4_safe_0 : List UInt8 := dkwX4_safe_0 ++ dktX4_safe_1
theorem dksX4_safe_0 : cX4_safe.data.toList.drop 0 = dktX4_safe_0 := by decide +kernel
theorem dksX4_safe_1 : cX4_safe.data.toList.drop 24 = dktX4_safe_1 := dk_seg dksX4_safe_0 24 rfl rfl
theorem dX4_safe_0 : decode cX4_safe 0 = .ok (.aload_n 0, 1) := dk_42 (dk_at dksX4_safe_0 0 rfl rfl)
theorem dX4_safe_1 : decode cX4_safe 1 = .ok (.invokevirtual 334, 3) := dk_182 1 78 (dk_at dksX4_safe_0 1 rfl rfl)
theorem dX4_safe_4 : decode cX4_safe 4 = .ok (.iconst 0, 1) := dk_3 (dk_at dksX4_safe_0 4 rfl rfl)
theorem dX4_safe_5 : decode cX4_safe 5 = .ok (.istore_n 1, 1) := dk_60 (dk_at dksX4_safe_0 5 rfl rfl)
theorem dX4_safe_6 : decode cX4_safe 6 = .ok (.iload_n 1, 1) := dk_27 (dk_at dksX4_safe_0 6 rfl rfl)
theorem dX4_safe_7 : decode cX4_safe 7 = .ok (.aload_n 0, 1) := dk_42 (dk_at dksX4_safe_0 7 rfl rfl)
theorem dX4_safe_8 : decode cX4_safe 8 = .ok (.invokevirtual 362, 3) := dk_182 1 106 (dk_at dksX4_safe_0 8 rfl rfl)
theorem dX4_safe_11 : decode cX4_safe 11 = .ok (.if_icmp .gt 25, 3) := dk_163 0 25 (dk_at dksX4_safe_0 11 rfl rfl)
theorem dX4_safe_14 : decode cX4_safe 14 = .ok (.aload_n 0, 1) := dk_42 (dk_at dksX4_safe_0 14 rfl rfl)
theorem dX4_safe_15 : decode cX4_safe 15 = .ok (.iconst 0, 1) := dk_3 (dk_at dksX4_safe_0 15 rfl rfl)
theorem dX4_safe_16 : decode cX4_safe 16 = .ok (.iload_n 1, 1) := dk_27 (dk_at dksX4_safe_0 16 rfl rfl)
theorem dX4_safe_17 : decode cX4_safe 17 = .ok (.invokevirtual 365, 3) := dk_182 1 109 (dk_at dksX4_safe_0 17 rfl rfl)
theorem dX4_safe_20 : decode cX4_safe 20 = .ok (.aload_n 0, 1) := dk_42 (dk_at dksX4_safe_0 20 rfl rfl)
theorem dX4_safe_21 : decode cX4_safe 21 = .ok (.getfield 324, 3) := dk_180 1 68 (dk_at dksX4_safe_0 21 rfl rfl)
theorem dX4_safe_24 : decode cX4_safe 24 = .ok (.lcmp, 1) := dk_148 (dk_at dksX4_safe_1 0 rfl rfl)
theorem dX4_safe_25 : decode cX4_safe 25 = .ok (.ifCond .ne 5, 3) := dk_154 0 5 (dk_at dksX4_safe_1 1 rfl rfl)
theorem dX4_safe_28 : decode cX4_safe 28 = .ok (.iload_n 1, 1) := dk_27 (dk_at dksX4_safe_1 4 rfl rfl)
theorem dX4_safe_29 : decode cX4_safe 29 = .ok (.ireturn, 1) := dk_172 (dk_at dksX4_safe_1 5 rfl rfl)
theorem dX4_safe_30 : decode cX4_safe 30 = .ok (.iinc 1 1, 3) := dk_132 1 1 (dk_at dksX4_safe_1 6 rfl rfl)
theorem dX4_safe_33 : decode cX4_safe 33 = .ok (.goto (-27), 3) := dk_167 255 229 (dk_at dksX4_safe_1 9 rfl rfl)
theorem dX4_safe_36 : decode cX4_safe 36 = .ok (.iconst (-1), 1) := dk_2 (dk_at dksX4_safe_1 12 rfl rfl)
theorem dX4_safe_37 : decode cX4_safe 37 = .ok (.ireturn, 1) := dk_172 (dk_at dksX4_safe_1 13 rfl rfl)
abbrev cX4_worth : ByteArray := prog_29_method_77_code
def yX4_worth : MethodName := ⟨RX4, "worth", "(I)I"⟩
def dkwX4_worth_2 : List UInt8 := [182, 1, 94, 42, 180, 1, 68, 184, 1, 115, 100, 172]
abbrev dktX4_worth_2 : List UInt8 := dkwX4_worth_2 ++ []
def dkwX4_worth_1 : List UInt8 := [5, 182, 1, 90, 42, 182, 1, 94, 42, 180, 1, 68, 184, 1, 115, 61, 42, 27, 3, 182, 1, 90, 28, 42]
abbrev dktX4_worth_1 : List UInt8 := dkwX4_worth_1 ++ dktX4_worth_2
def dkwX4_worth_0 : List UInt8 := [42, 27, 182, 0, 158, 154, 0, 7, 19, 1, 114, 172, 42, 27, 182, 0, 154, 154, 0, 5, 3, 172, 42, 27]
abbrev dktX4_worth_0 : List UInt8 := dkwX4_worth_0 ++ dktX4_worth_1
theorem dksX4_worth_0 : cX4_worth.data.toList.drop 0 = dktX4_worth_0 := by decide +kernel
theorem dksX4_worth_1 : cX4_worth.data.toList.drop 24 = dktX4_worth_1 := dk_seg dksX4_worth_0 24 rfl rfl
theorem dksX4_worth_2 : cX4_worth.data.toList.drop 48 = dktX4_worth_2 := dk_seg dksX4_worth_1 24 rfl rfl
theorem dX4_worth_0 : decode cX4_worth 0 = .ok (.aload_n 0, 1) := dk_42 (dk_at dksX4_worth_0 0 rfl rfl)
theorem dX4_worth_1 : decode cX4_worth 1 = .ok (.iload_n 1, 1) := dk_27 (dk_at dksX4_worth_0 1 rfl rfl)
theorem dX4_worth_2 : decode cX4_worth 2 = .ok (.invokevirtual 158, 3) := dk_182 0 158 (dk_at dksX4_worth_0 2 rfl rfl)
theorem dX4_worth_5 : decode cX4_worth 5 = .ok (.ifCond .ne 7, 3) := dk_154 0 7 (dk_at dksX4_worth_0 5 rfl rfl)
theorem dX4_worth_8 : decode cX4_worth 8 = .ok (.ldc_w 370, 3) := dk_19 1 114 (dk_at dksX4_worth_0 8 rfl rfl)
theorem dX4_worth_11 : decode cX4_worth 11 = .ok (.ireturn, 1) := dk_172 (dk_at dksX4_worth_0 11 rfl rfl)
theorem dX4_worth_12 : decode cX4_worth 12 = .ok (.aload_n 0, 1) := dk_42 (dk_at dksX4_worth_0 12 rfl rfl)
theorem dX4_worth_13 : decode cX4_worth 13 = .ok (.iload_n 1, 1) := dk_27 (dk_at dksX4_worth_0 13 rfl rfl)
theorem dX4_worth_14 : decode cX4_worth 14 = .ok (.invokevirtual 154, 3) := dk_182 0 154 (dk_at dksX4_worth_0 14 rfl rfl)
theorem dX4_worth_17 : decode cX4_worth 17 = .ok (.ifCond .ne 5, 3) := dk_154 0 5 (dk_at dksX4_worth_0 17 rfl rfl)
theorem dX4_worth_20 : decode cX4_worth 20 = .ok (.iconst 0, 1) := dk_3 (dk_at dksX4_worth_0 20 rfl rfl)
theorem dX4_worth_21 : decode cX4_worth 21 = .ok (.ireturn, 1) := dk_172 (dk_at dksX4_worth_0 21 rfl rfl)
theorem dX4_worth_22 : decode cX4_worth 22 = .ok (.aload_n 0, 1) := dk_42 (dk_at dksX4_worth_0 22 rfl rfl)
theorem dX4_worth_23 : decode cX4_worth 23 = .ok (.iload_n 1, 1) := dk_27 (dk_at dksX4_worth_0 23 rfl rfl)
theorem dX4_worth_24 : decode cX4_worth 24 = .ok (.iconst 2, 1) := dk_5 (dk_at dksX4_worth_1 0 rfl rfl)
theorem dX4_worth_25 : decode cX4_worth 25 = .ok (.invokevirtual 346, 3) := dk_182 1 90 (dk_at dksX4_worth_1 1 rfl rfl)
theorem dX4_worth_28 : decode cX4_worth 28 = .ok (.aload_n 0, 1) := dk_42 (dk_at dksX4_worth_1 4 rfl rfl)
theorem dX4_worth_29 : decode cX4_worth 29 = .ok (.invokevirtual 350, 3) := dk_182 1 94 (dk_at dksX4_worth_1 5 rfl rfl)
theorem dX4_worth_32 : decode cX4_worth 32 = .ok (.aload_n 0, 1) := dk_42 (dk_at dksX4_worth_1 8 rfl rfl)
theorem dX4_worth_33 : decode cX4_worth 33 = .ok (.getfield 324, 3) := dk_180 1 68 (dk_at dksX4_worth_1 9 rfl rfl)
theorem dX4_worth_36 : decode cX4_worth 36 = .ok (.invokestatic 371, 3) := dk_184 1 115 (dk_at dksX4_worth_1 12 rfl rfl)
theorem dX4_worth_39 : decode cX4_worth 39 = .ok (.istore_n 2, 1) := dk_61 (dk_at dksX4_worth_1 15 rfl rfl)
theorem dX4_worth_40 : decode cX4_worth 40 = .ok (.aload_n 0, 1) := dk_42 (dk_at dksX4_worth_1 16 rfl rfl)
theorem dX4_worth_41 : decode cX4_worth 41 = .ok (.iload_n 1, 1) := dk_27 (dk_at dksX4_worth_1 17 rfl rfl)
theorem dX4_worth_42 : decode cX4_worth 42 = .ok (.iconst 0, 1) := dk_3 (dk_at dksX4_worth_1 18 rfl rfl)
theorem dX4_worth_43 : decode cX4_worth 43 = .ok (.invokevirtual 346, 3) := dk_182 1 90 (dk_at dksX4_worth_1 19 rfl rfl)
theorem dX4_worth_46 : decode cX4_worth 46 = .ok (.iload_n 2, 1) := dk_28 (dk_at dksX4_worth_1 22 rfl rfl)
theorem dX4_worth_47 : decode cX4_worth 47 = .ok (.aload_n 0, 1) := dk_42 (dk_at dksX4_worth_1 23 rfl rfl)
theorem dX4_worth_48 : decode cX4_worth 48 = .ok (.invokevirtual 350, 3) := dk_182 1 94 (dk_at dksX4_worth_2 0 rfl rfl)
theorem dX4_worth_51 : decode cX4_worth 51 = .ok (.aload_n 0, 1) := dk_42 (dk_at dksX4_worth_2 3 rfl rfl)
theorem dX4_worth_52 : decode cX4_worth 52 = .ok (.getfield 324, 3) := dk_180 1 68 (dk_at dksX4_worth_2 4 rfl rfl)
theorem dX4_worth_55 : decode cX4_worth 55 = .ok (.invokestatic 371, 3) := dk_184 1 115 (dk_at dksX4_worth_2 7 rfl rfl)
theorem dX4_worth_58 : decode cX4_worth 58 = .ok (.isub, 1) := dk_100 (dk_at dksX4_worth_2 10 rfl rfl)
theorem dX4_worth_59 : decode cX4_worth 59 = .ok (.ireturn, 1) := dk_172 (dk_at dksX4_worth_2 11 rfl rfl)
abbrev cX4_millionths : ByteArray := prog_29_method_76_code
def yX4_millionths : MethodName := ⟨RX4, "millionths", "(JJ)I"⟩
def dkwX4_millionths_2 : List UInt8 := [55, 6, 132, 8, 1, 167, 255, 219, 22, 4, 136, 172]
abbrev dktX4_millionths_2 : List UInt8 := dkwX4_millionths_2 ++ []
def dkwX4_millionths_1 : List UInt8 := [20, 1, 112, 105, 55, 6, 22, 4, 20, 1, 112, 105, 22, 6, 32, 109, 97, 55, 4, 22, 6, 32, 113]
abbrev dktX4_millionths_1 : List UInt8 := dkwX4_millionths_1 ++ dktX4_millionths_2
def dkwX4_millionths_0 : List UInt8 := [30, 32, 109, 55, 4, 30, 32, 113, 55, 6, 3, 54, 8, 21, 8, 16, 6, 162, 0, 36, 22, 6]
abbrev dktX4_millionths_0 : List UInt8 := dkwX4_millionths_0 ++ dktX4_millionths_1
theorem dksX4_millionths_0 : cX4_millionths.data.toList.drop 0 = dktX4_millionths_0 := by decide +kernel
theorem dksX4_millionths_1 : cX4_millionths.data.toList.drop 22 = dktX4_millionths_1 := dk_seg dksX4_millionths_0 22 rfl rfl
theorem dksX4_millionths_2 : cX4_millionths.data.toList.drop 45 = dktX4_millionths_2 := dk_seg dksX4_millionths_1 23 rfl rfl
theorem dX4_millionths_0 : decode cX4_millionths 0 = .ok (.lload_n 0, 1) := dk_30 (dk_at dksX4_millionths_0 0 rfl rfl)
theorem dX4_millionths_1 : decode cX4_millionths 1 = .ok (.lload_n 2, 1) := dk_32 (dk_at dksX4_millionths_0 1 rfl rfl)
theorem dX4_millionths_2 : decode cX4_millionths 2 = .ok (.ldiv, 1) := dk_109 (dk_at dksX4_millionths_0 2 rfl rfl)
theorem dX4_millionths_3 : decode cX4_millionths 3 = .ok (.lstore 4, 2) := dk_55 4 (dk_at dksX4_millionths_0 3 rfl rfl)
theorem dX4_millionths_5 : decode cX4_millionths 5 = .ok (.lload_n 0, 1) := dk_30 (dk_at dksX4_millionths_0 5 rfl rfl)
theorem dX4_millionths_6 : decode cX4_millionths 6 = .ok (.lload_n 2, 1) := dk_32 (dk_at dksX4_millionths_0 6 rfl rfl)
theorem dX4_millionths_7 : decode cX4_millionths 7 = .ok (.lrem, 1) := dk_113 (dk_at dksX4_millionths_0 7 rfl rfl)
theorem dX4_millionths_8 : decode cX4_millionths 8 = .ok (.lstore 6, 2) := dk_55 6 (dk_at dksX4_millionths_0 8 rfl rfl)
theorem dX4_millionths_10 : decode cX4_millionths 10 = .ok (.iconst 0, 1) := dk_3 (dk_at dksX4_millionths_0 10 rfl rfl)
theorem dX4_millionths_11 : decode cX4_millionths 11 = .ok (.istore 8, 2) := dk_54 8 (dk_at dksX4_millionths_0 11 rfl rfl)
theorem dX4_millionths_13 : decode cX4_millionths 13 = .ok (.iload 8, 2) := dk_21 8 (dk_at dksX4_millionths_0 13 rfl rfl)
theorem dX4_millionths_15 : decode cX4_millionths 15 = .ok (.bipush 6, 2) := dk_16 6 (dk_at dksX4_millionths_0 15 rfl rfl)
theorem dX4_millionths_17 : decode cX4_millionths 17 = .ok (.if_icmp .ge 36, 3) := dk_162 0 36 (dk_at dksX4_millionths_0 17 rfl rfl)
theorem dX4_millionths_20 : decode cX4_millionths 20 = .ok (.lload 6, 2) := dk_22 6 (dk_at dksX4_millionths_0 20 rfl rfl)
theorem dX4_millionths_22 : decode cX4_millionths 22 = .ok (.ldc2_w 368, 3) := dk_20 1 112 (dk_at dksX4_millionths_1 0 rfl rfl)
theorem dX4_millionths_25 : decode cX4_millionths 25 = .ok (.lmul, 1) := dk_105 (dk_at dksX4_millionths_1 3 rfl rfl)
theorem dX4_millionths_26 : decode cX4_millionths 26 = .ok (.lstore 6, 2) := dk_55 6 (dk_at dksX4_millionths_1 4 rfl rfl)
theorem dX4_millionths_28 : decode cX4_millionths 28 = .ok (.lload 4, 2) := dk_22 4 (dk_at dksX4_millionths_1 6 rfl rfl)
theorem dX4_millionths_30 : decode cX4_millionths 30 = .ok (.ldc2_w 368, 3) := dk_20 1 112 (dk_at dksX4_millionths_1 8 rfl rfl)
theorem dX4_millionths_33 : decode cX4_millionths 33 = .ok (.lmul, 1) := dk_105 (dk_at dksX4_millionths_1 11 rfl rfl)
theorem dX4_millionths_34 : decode cX4_millionths 34 = .ok (.lload 6, 2) := dk_22 6 (dk_at dksX4_millionths_1 12 rfl rfl)
theorem dX4_millionths_36 : decode cX4_millionths 36 = .ok (.lload_n 2, 1) := dk_32 (dk_at dksX4_millionths_1 14 rfl rfl)
theorem dX4_millionths_37 : decode cX4_millionths 37 = .ok (.ldiv, 1) := dk_109 (dk_at dksX4_millionths_1 15 rfl rfl)
theorem dX4_millionths_38 : decode cX4_millionths 38 = .ok (.ladd, 1) := dk_97 (dk_at dksX4_millionths_1 16 rfl rfl)
theorem dX4_millionths_39 : decode cX4_millionths 39 = .ok (.lstore 4, 2) := dk_55 4 (dk_at dksX4_millionths_1 17 rfl rfl)
theorem dX4_millionths_41 : decode cX4_millionths 41 = .ok (.lload 6, 2) := dk_22 6 (dk_at dksX4_millionths_1 19 rfl rfl)
theorem dX4_millionths_43 : decode cX4_millionths 43 = .ok (.lload_n 2, 1) := dk_32 (dk_at dksX4_millionths_1 21 rfl rfl)
theorem dX4_millionths_44 : decode cX4_millionths 44 = .ok (.lrem, 1) := dk_113 (dk_at dksX4_millionths_1 22 rfl rfl)
theorem dX4_millionths_45 : decode cX4_millionths 45 = .ok (.lstore 6, 2) := dk_55 6 (dk_at dksX4_millionths_2 0 rfl rfl)
theorem dX4_millionths_47 : decode cX4_millionths 47 = .ok (.iinc 8 1, 3) := dk_132 8 1 (dk_at dksX4_millionths_2 2 rfl rfl)
theorem dX4_millionths_50 : decode cX4_millionths 50 = .ok (.goto (-37), 3) := dk_167 255 219 (dk_at dksX4_millionths_2 5 rfl rfl)
theorem dX4_millionths_53 : decode cX4_millionths 53 = .ok (.lload 4, 2) := dk_22 4 (dk_at dksX4_millionths_2 8 rfl rfl)
theorem dX4_millionths_55 : decode cX4_millionths 55 = .ok (.l2i, 1) := dk_136 (dk_at dksX4_millionths_2 10 rfl rfl)
theorem dX4_millionths_56 : decode cX4_millionths 56 = .ok (.ireturn, 1) := dk_172 (dk_at dksX4_millionths_2 11 rfl rfl)
abbrev cX4_best : ByteArray := prog_29_method_86_code
def yX4_best : MethodName := ⟨RX4, "best", "(II)J"⟩
def dkwX4_best_2 : List UInt8 := [180, 1, 125, 28, 184, 1, 98, 173]
abbrev dktX4_best_2 : List UInt8 := dkwX4_best_2 ++ []
def dkwX4_best_1 : List UInt8 := [42, 27, 182, 1, 150, 28, 5, 160, 0, 11, 42, 180, 1, 147, 133, 167, 0, 15, 42, 180, 1, 144, 42]
abbrev dktX4_best_1 : List UInt8 := dkwX4_best_1 ++ dktX4_best_2
def dkwX4_best_0 : List UInt8 := [27, 3, 17, 1, 144, 184, 0, 135, 153, 0, 12, 28, 3, 5, 184, 0, 135, 154, 0, 7, 20, 1, 88, 173]
abbrev dktX4_best_0 : List UInt8 := dkwX4_best_0 ++ dktX4_best_1
theorem dksX4_best_0 : cX4_best.data.toList.drop 0 = dktX4_best_0 := by decide +kernel
theorem dksX4_best_1 : cX4_best.data.toList.drop 24 = dktX4_best_1 := dk_seg dksX4_best_0 24 rfl rfl
theorem dksX4_best_2 : cX4_best.data.toList.drop 47 = dktX4_best_2 := dk_seg dksX4_best_1 23 rfl rfl
theorem dX4_best_0 : decode cX4_best 0 = .ok (.iload_n 1, 1) := dk_27 (dk_at dksX4_best_0 0 rfl rfl)
theorem dX4_best_1 : decode cX4_best 1 = .ok (.iconst 0, 1) := dk_3 (dk_at dksX4_best_0 1 rfl rfl)
theorem dX4_best_2 : decode cX4_best 2 = .ok (.sipush 400, 3) := dk_17 1 144 (dk_at dksX4_best_0 2 rfl rfl)
theorem dX4_best_5 : decode cX4_best 5 = .ok (.invokestatic 135, 3) := dk_184 0 135 (dk_at dksX4_best_0 5 rfl rfl)
theorem dX4_best_8 : decode cX4_best 8 = .ok (.ifCond .eq 12, 3) := dk_153 0 12 (dk_at dksX4_best_0 8 rfl rfl)
theorem dX4_best_11 : decode cX4_best 11 = .ok (.iload_n 2, 1) := dk_28 (dk_at dksX4_best_0 11 rfl rfl)
theorem dX4_best_12 : decode cX4_best 12 = .ok (.iconst 0, 1) := dk_3 (dk_at dksX4_best_0 12 rfl rfl)
theorem dX4_best_13 : decode cX4_best 13 = .ok (.iconst 2, 1) := dk_5 (dk_at dksX4_best_0 13 rfl rfl)
theorem dX4_best_14 : decode cX4_best 14 = .ok (.invokestatic 135, 3) := dk_184 0 135 (dk_at dksX4_best_0 14 rfl rfl)
theorem dX4_best_17 : decode cX4_best 17 = .ok (.ifCond .ne 7, 3) := dk_154 0 7 (dk_at dksX4_best_0 17 rfl rfl)
theorem dX4_best_20 : decode cX4_best 20 = .ok (.ldc2_w 344, 3) := dk_20 1 88 (dk_at dksX4_best_0 20 rfl rfl)
theorem dX4_best_23 : decode cX4_best 23 = .ok (.lreturn, 1) := dk_173 (dk_at dksX4_best_0 23 rfl rfl)
theorem dX4_best_24 : decode cX4_best 24 = .ok (.aload_n 0, 1) := dk_42 (dk_at dksX4_best_1 0 rfl rfl)
theorem dX4_best_25 : decode cX4_best 25 = .ok (.iload_n 1, 1) := dk_27 (dk_at dksX4_best_1 1 rfl rfl)
theorem dX4_best_26 : decode cX4_best 26 = .ok (.invokevirtual 406, 3) := dk_182 1 150 (dk_at dksX4_best_1 2 rfl rfl)
theorem dX4_best_29 : decode cX4_best 29 = .ok (.iload_n 2, 1) := dk_28 (dk_at dksX4_best_1 5 rfl rfl)
theorem dX4_best_30 : decode cX4_best 30 = .ok (.iconst 2, 1) := dk_5 (dk_at dksX4_best_1 6 rfl rfl)
theorem dX4_best_31 : decode cX4_best 31 = .ok (.if_icmp .ne 11, 3) := dk_160 0 11 (dk_at dksX4_best_1 7 rfl rfl)
theorem dX4_best_34 : decode cX4_best 34 = .ok (.aload_n 0, 1) := dk_42 (dk_at dksX4_best_1 10 rfl rfl)
theorem dX4_best_35 : decode cX4_best 35 = .ok (.getfield 403, 3) := dk_180 1 147 (dk_at dksX4_best_1 11 rfl rfl)
theorem dX4_best_38 : decode cX4_best 38 = .ok (.i2l, 1) := dk_133 (dk_at dksX4_best_1 14 rfl rfl)
theorem dX4_best_39 : decode cX4_best 39 = .ok (.goto 15, 3) := dk_167 0 15 (dk_at dksX4_best_1 15 rfl rfl)
theorem dX4_best_42 : decode cX4_best 42 = .ok (.aload_n 0, 1) := dk_42 (dk_at dksX4_best_1 18 rfl rfl)
theorem dX4_best_43 : decode cX4_best 43 = .ok (.getfield 400, 3) := dk_180 1 144 (dk_at dksX4_best_1 19 rfl rfl)
theorem dX4_best_46 : decode cX4_best 46 = .ok (.aload_n 0, 1) := dk_42 (dk_at dksX4_best_1 22 rfl rfl)
theorem dX4_best_47 : decode cX4_best 47 = .ok (.getfield 381, 3) := dk_180 1 125 (dk_at dksX4_best_2 0 rfl rfl)
theorem dX4_best_50 : decode cX4_best 50 = .ok (.iload_n 2, 1) := dk_28 (dk_at dksX4_best_2 3 rfl rfl)
theorem dX4_best_51 : decode cX4_best 51 = .ok (.invokestatic 354, 3) := dk_184 1 98 (dk_at dksX4_best_2 4 rfl rfl)
theorem dX4_best_54 : decode cX4_best 54 = .ok (.lreturn, 1) := dk_173 (dk_at dksX4_best_2 7 rfl rfl)
abbrev cX4_bests : ByteArray := prog_29_method_85_code
def yX4_bests : MethodName := ⟨RX4, "bests", "(I)V"⟩
def dkwX4_bests_5 : List UInt8 := [177]
abbrev dktX4_bests_5 : List UInt8 := dkwX4_bests_5 ++ []
def dkwX4_bests_4 : List UInt8 := [167, 0, 18, 42, 42, 180, 0, 78, 28, 47, 181, 1, 144, 42, 29, 181, 1, 147, 132, 2, 1, 167, 255, 161]
abbrev dktX4_bests_4 : List UInt8 := dkwX4_bests_4 ++ dktX4_bests_5
def dkwX4_bests_3 : List UInt8 := [42, 180, 0, 78, 28, 47, 42, 180, 1, 144, 148, 154, 0, 14, 29, 42, 180, 1, 147, 161, 0, 6]
abbrev dktX4_bests_3 : List UInt8 := dkwX4_bests_3 ++ dktX4_bests_4
def dkwX4_bests_2 : List UInt8 := [42, 182, 1, 106, 164, 0, 6, 167, 0, 57, 42, 180, 0, 78, 28, 47, 42, 180, 1, 144, 148, 155, 0, 43]
abbrev dktX4_bests_2 : List UInt8 := dkwX4_bests_2 ++ dktX4_bests_3
def dkwX4_bests_1 : List UInt8 := [162, 0, 94, 42, 180, 0, 75, 28, 46, 62, 29, 27, 163, 0, 76, 28, 16, 21, 108, 28, 16, 21, 112, 96]
abbrev dktX4_bests_1 : List UInt8 := dkwX4_bests_1 ++ dktX4_bests_2
def dkwX4_bests_0 : List UInt8 := [42, 182, 1, 141, 42, 20, 1, 88, 181, 1, 144, 42, 18, 185, 181, 1, 147, 3, 61, 28, 17, 1, 185]
abbrev dktX4_bests_0 : List UInt8 := dkwX4_bests_0 ++ dktX4_bests_1
theorem dksX4_bests_0 : cX4_bests.data.toList.drop 0 = dktX4_bests_0 := by decide +kernel
theorem dksX4_bests_1 : cX4_bests.data.toList.drop 23 = dktX4_bests_1 := dk_seg dksX4_bests_0 23 rfl rfl
theorem dksX4_bests_2 : cX4_bests.data.toList.drop 47 = dktX4_bests_2 := dk_seg dksX4_bests_1 24 rfl rfl
theorem dksX4_bests_3 : cX4_bests.data.toList.drop 71 = dktX4_bests_3 := dk_seg dksX4_bests_2 24 rfl rfl
theorem dksX4_bests_4 : cX4_bests.data.toList.drop 93 = dktX4_bests_4 := dk_seg dksX4_bests_3 22 rfl rfl
theorem dksX4_bests_5 : cX4_bests.data.toList.drop 117 = dktX4_bests_5 := dk_seg dksX4_bests_4 24 rfl rfl
theorem dX4_bests_0 : decode cX4_bests 0 = .ok (.aload_n 0, 1) := dk_42 (dk_at dksX4_bests_0 0 rfl rfl)
theorem dX4_bests_1 : decode cX4_bests 1 = .ok (.invokevirtual 397, 3) := dk_182 1 141 (dk_at dksX4_bests_0 1 rfl rfl)
theorem dX4_bests_4 : decode cX4_bests 4 = .ok (.aload_n 0, 1) := dk_42 (dk_at dksX4_bests_0 4 rfl rfl)
theorem dX4_bests_5 : decode cX4_bests 5 = .ok (.ldc2_w 344, 3) := dk_20 1 88 (dk_at dksX4_bests_0 5 rfl rfl)
theorem dX4_bests_8 : decode cX4_bests 8 = .ok (.putfield 400, 3) := dk_181 1 144 (dk_at dksX4_bests_0 8 rfl rfl)
theorem dX4_bests_11 : decode cX4_bests 11 = .ok (.aload_n 0, 1) := dk_42 (dk_at dksX4_bests_0 11 rfl rfl)
theorem dX4_bests_12 : decode cX4_bests 12 = .ok (.ldc 185, 2) := dk_18 185 (dk_at dksX4_bests_0 12 rfl rfl)
theorem dX4_bests_14 : decode cX4_bests 14 = .ok (.putfield 403, 3) := dk_181 1 147 (dk_at dksX4_bests_0 14 rfl rfl)
theorem dX4_bests_17 : decode cX4_bests 17 = .ok (.iconst 0, 1) := dk_3 (dk_at dksX4_bests_0 17 rfl rfl)
theorem dX4_bests_18 : decode cX4_bests 18 = .ok (.istore_n 2, 1) := dk_61 (dk_at dksX4_bests_0 18 rfl rfl)
theorem dX4_bests_19 : decode cX4_bests 19 = .ok (.iload_n 2, 1) := dk_28 (dk_at dksX4_bests_0 19 rfl rfl)
theorem dX4_bests_20 : decode cX4_bests 20 = .ok (.sipush 441, 3) := dk_17 1 185 (dk_at dksX4_bests_0 20 rfl rfl)
theorem dX4_bests_23 : decode cX4_bests 23 = .ok (.if_icmp .ge 94, 3) := dk_162 0 94 (dk_at dksX4_bests_1 0 rfl rfl)
theorem dX4_bests_26 : decode cX4_bests 26 = .ok (.aload_n 0, 1) := dk_42 (dk_at dksX4_bests_1 3 rfl rfl)
theorem dX4_bests_27 : decode cX4_bests 27 = .ok (.getfield 75, 3) := dk_180 0 75 (dk_at dksX4_bests_1 4 rfl rfl)
theorem dX4_bests_30 : decode cX4_bests 30 = .ok (.iload_n 2, 1) := dk_28 (dk_at dksX4_bests_1 7 rfl rfl)
theorem dX4_bests_31 : decode cX4_bests 31 = .ok (.iaload, 1) := dk_46 (dk_at dksX4_bests_1 8 rfl rfl)
theorem dX4_bests_32 : decode cX4_bests 32 = .ok (.istore_n 3, 1) := dk_62 (dk_at dksX4_bests_1 9 rfl rfl)
theorem dX4_bests_33 : decode cX4_bests 33 = .ok (.iload_n 3, 1) := dk_29 (dk_at dksX4_bests_1 10 rfl rfl)
theorem dX4_bests_34 : decode cX4_bests 34 = .ok (.iload_n 1, 1) := dk_27 (dk_at dksX4_bests_1 11 rfl rfl)
theorem dX4_bests_35 : decode cX4_bests 35 = .ok (.if_icmp .gt 76, 3) := dk_163 0 76 (dk_at dksX4_bests_1 12 rfl rfl)
theorem dX4_bests_38 : decode cX4_bests 38 = .ok (.iload_n 2, 1) := dk_28 (dk_at dksX4_bests_1 15 rfl rfl)
theorem dX4_bests_39 : decode cX4_bests 39 = .ok (.bipush 21, 2) := dk_16 21 (dk_at dksX4_bests_1 16 rfl rfl)
theorem dX4_bests_41 : decode cX4_bests 41 = .ok (.idiv, 1) := dk_108 (dk_at dksX4_bests_1 18 rfl rfl)
theorem dX4_bests_42 : decode cX4_bests 42 = .ok (.iload_n 2, 1) := dk_28 (dk_at dksX4_bests_1 19 rfl rfl)
theorem dX4_bests_43 : decode cX4_bests 43 = .ok (.bipush 21, 2) := dk_16 21 (dk_at dksX4_bests_1 20 rfl rfl)
theorem dX4_bests_45 : decode cX4_bests 45 = .ok (.irem, 1) := dk_112 (dk_at dksX4_bests_1 22 rfl rfl)
theorem dX4_bests_46 : decode cX4_bests 46 = .ok (.iadd, 1) := dk_96 (dk_at dksX4_bests_1 23 rfl rfl)
theorem dX4_bests_47 : decode cX4_bests 47 = .ok (.aload_n 0, 1) := dk_42 (dk_at dksX4_bests_2 0 rfl rfl)
theorem dX4_bests_48 : decode cX4_bests 48 = .ok (.invokevirtual 362, 3) := dk_182 1 106 (dk_at dksX4_bests_2 1 rfl rfl)
theorem dX4_bests_51 : decode cX4_bests 51 = .ok (.if_icmp .le 6, 3) := dk_164 0 6 (dk_at dksX4_bests_2 4 rfl rfl)
theorem dX4_bests_54 : decode cX4_bests 54 = .ok (.goto 57, 3) := dk_167 0 57 (dk_at dksX4_bests_2 7 rfl rfl)
theorem dX4_bests_57 : decode cX4_bests 57 = .ok (.aload_n 0, 1) := dk_42 (dk_at dksX4_bests_2 10 rfl rfl)
theorem dX4_bests_58 : decode cX4_bests 58 = .ok (.getfield 78, 3) := dk_180 0 78 (dk_at dksX4_bests_2 11 rfl rfl)
theorem dX4_bests_61 : decode cX4_bests 61 = .ok (.iload_n 2, 1) := dk_28 (dk_at dksX4_bests_2 14 rfl rfl)
theorem dX4_bests_62 : decode cX4_bests 62 = .ok (.laload, 1) := dk_47 (dk_at dksX4_bests_2 15 rfl rfl)
theorem dX4_bests_63 : decode cX4_bests 63 = .ok (.aload_n 0, 1) := dk_42 (dk_at dksX4_bests_2 16 rfl rfl)
theorem dX4_bests_64 : decode cX4_bests 64 = .ok (.getfield 400, 3) := dk_180 1 144 (dk_at dksX4_bests_2 17 rfl rfl)
theorem dX4_bests_67 : decode cX4_bests 67 = .ok (.lcmp, 1) := dk_148 (dk_at dksX4_bests_2 20 rfl rfl)
theorem dX4_bests_68 : decode cX4_bests 68 = .ok (.ifCond .lt 43, 3) := dk_155 0 43 (dk_at dksX4_bests_2 21 rfl rfl)
theorem dX4_bests_71 : decode cX4_bests 71 = .ok (.aload_n 0, 1) := dk_42 (dk_at dksX4_bests_3 0 rfl rfl)
theorem dX4_bests_72 : decode cX4_bests 72 = .ok (.getfield 78, 3) := dk_180 0 78 (dk_at dksX4_bests_3 1 rfl rfl)
theorem dX4_bests_75 : decode cX4_bests 75 = .ok (.iload_n 2, 1) := dk_28 (dk_at dksX4_bests_3 4 rfl rfl)
theorem dX4_bests_76 : decode cX4_bests 76 = .ok (.laload, 1) := dk_47 (dk_at dksX4_bests_3 5 rfl rfl)
theorem dX4_bests_77 : decode cX4_bests 77 = .ok (.aload_n 0, 1) := dk_42 (dk_at dksX4_bests_3 6 rfl rfl)
theorem dX4_bests_78 : decode cX4_bests 78 = .ok (.getfield 400, 3) := dk_180 1 144 (dk_at dksX4_bests_3 7 rfl rfl)
theorem dX4_bests_81 : decode cX4_bests 81 = .ok (.lcmp, 1) := dk_148 (dk_at dksX4_bests_3 10 rfl rfl)
theorem dX4_bests_82 : decode cX4_bests 82 = .ok (.ifCond .ne 14, 3) := dk_154 0 14 (dk_at dksX4_bests_3 11 rfl rfl)
theorem dX4_bests_85 : decode cX4_bests 85 = .ok (.iload_n 3, 1) := dk_29 (dk_at dksX4_bests_3 14 rfl rfl)
theorem dX4_bests_86 : decode cX4_bests 86 = .ok (.aload_n 0, 1) := dk_42 (dk_at dksX4_bests_3 15 rfl rfl)
theorem dX4_bests_87 : decode cX4_bests 87 = .ok (.getfield 403, 3) := dk_180 1 147 (dk_at dksX4_bests_3 16 rfl rfl)
theorem dX4_bests_90 : decode cX4_bests 90 = .ok (.if_icmp .lt 6, 3) := dk_161 0 6 (dk_at dksX4_bests_3 19 rfl rfl)
theorem dX4_bests_93 : decode cX4_bests 93 = .ok (.goto 18, 3) := dk_167 0 18 (dk_at dksX4_bests_4 0 rfl rfl)
theorem dX4_bests_96 : decode cX4_bests 96 = .ok (.aload_n 0, 1) := dk_42 (dk_at dksX4_bests_4 3 rfl rfl)
theorem dX4_bests_97 : decode cX4_bests 97 = .ok (.aload_n 0, 1) := dk_42 (dk_at dksX4_bests_4 4 rfl rfl)
theorem dX4_bests_98 : decode cX4_bests 98 = .ok (.getfield 78, 3) := dk_180 0 78 (dk_at dksX4_bests_4 5 rfl rfl)
theorem dX4_bests_101 : decode cX4_bests 101 = .ok (.iload_n 2, 1) := dk_28 (dk_at dksX4_bests_4 8 rfl rfl)
theorem dX4_bests_102 : decode cX4_bests 102 = .ok (.laload, 1) := dk_47 (dk_at dksX4_bests_4 9 rfl rfl)
theorem dX4_bests_103 : decode cX4_bests 103 = .ok (.putfield 400, 3) := dk_181 1 144 (dk_at dksX4_bests_4 10 rfl rfl)
theorem dX4_bests_106 : decode cX4_bests 106 = .ok (.aload_n 0, 1) := dk_42 (dk_at dksX4_bests_4 13 rfl rfl)
theorem dX4_bests_107 : decode cX4_bests 107 = .ok (.iload_n 3, 1) := dk_29 (dk_at dksX4_bests_4 14 rfl rfl)
theorem dX4_bests_108 : decode cX4_bests 108 = .ok (.putfield 403, 3) := dk_181 1 147 (dk_at dksX4_bests_4 15 rfl rfl)
theorem dX4_bests_111 : decode cX4_bests 111 = .ok (.iinc 2 1, 3) := dk_132 2 1 (dk_at dksX4_bests_4 18 rfl rfl)
theorem dX4_bests_114 : decode cX4_bests 114 = .ok (.goto (-95), 3) := dk_167 255 161 (dk_at dksX4_bests_4 21 rfl rfl)
theorem dX4_bests_117 : decode cX4_bests 117 = .ok (.return_, 1) := dk_177 (dk_at dksX4_bests_5 0 rfl rfl)
abbrev cX4_schemes : ByteArray := prog_29_method_82_code
def yX4_schemes : MethodName := ⟨RX4, "schemes", "()V"⟩
def dkwX4_schemes_12 : List UInt8 := [42, 180, 1, 68, 181, 1, 125, 177]
abbrev dktX4_schemes_12 : List UInt8 := dkwX4_schemes_12 ++ []
def dkwX4_schemes_11 : List UInt8 := [28, 104, 29, 96, 42, 28, 29, 182, 1, 109, 80, 132, 3, 1, 167, 255, 217, 132, 2, 1, 167, 255, 203, 42]
abbrev dktX4_schemes_11 : List UInt8 := dkwX4_schemes_11 ++ dktX4_schemes_12
def dkwX4_schemes_10 : List UInt8 := [16, 21, 162, 0, 39, 28, 29, 96, 42, 182, 1, 106, 164, 0, 6, 167, 0, 20, 42, 180, 0, 78, 16, 21]
abbrev dktX4_schemes_10 : List UInt8 := dkwX4_schemes_10 ++ dktX4_schemes_11
def dkwX4_schemes_9 : List UInt8 := [167, 255, 191, 132, 2, 255, 167, 255, 179, 42, 182, 1, 78, 3, 61, 28, 16, 21, 162, 0, 53, 3, 62, 29]
abbrev dktX4_schemes_9 : List UInt8 := dkwX4_schemes_9 ++ dktX4_schemes_10
def dkwX4_schemes_8 : List UInt8 := [29, 21, 4, 21, 5, 182, 1, 122, 79, 132, 5, 1, 167, 255, 222, 132, 4, 1, 167, 255, 206, 132, 3, 1]
abbrev dktX4_schemes_8 : List UInt8 := dkwX4_schemes_8 ++ dktX4_schemes_9
def dkwX4_schemes_7 : List UInt8 := [54, 5, 21, 5, 16, 21, 162, 0, 33, 42, 180, 0, 75, 28, 29, 21, 4, 21, 5, 184, 1, 119, 42, 28]
abbrev dktX4_schemes_7 : List UInt8 := dkwX4_schemes_7 ++ dktX4_schemes_8
def dkwX4_schemes_6 : List UInt8 := [61, 28, 155, 0, 79, 3, 62, 29, 16, 16, 162, 0, 65, 3, 54, 4, 21, 4, 16, 21, 162, 0, 49, 3]
abbrev dktX4_schemes_6 : List UInt8 := dkwX4_schemes_6 ++ dktX4_schemes_7
def dkwX4_schemes_5 : List UInt8 := [28, 17, 1, 185, 112, 154, 0, 7, 3, 167, 0, 5, 18, 185, 79, 132, 2, 1, 167, 255, 220, 27, 4, 100]
abbrev dktX4_schemes_5 : List UInt8 := dkwX4_schemes_5 ++ dktX4_schemes_6
def dkwX4_schemes_4 : List UInt8 := [182, 0, 146, 60, 3, 61, 28, 17, 27, 144, 162, 0, 35, 42, 180, 0, 75, 17, 27, 144, 27, 104, 28, 96]
abbrev dktX4_schemes_4 : List UInt8 := dkwX4_schemes_4 ++ dktX4_schemes_5
def dkwX4_schemes_3 : List UInt8 := [3, 182, 1, 42, 79, 132, 3, 1, 167, 255, 215, 132, 2, 1, 167, 255, 202, 132, 1, 1, 167, 255, 186, 42]
abbrev dktX4_schemes_3 : List UInt8 := dkwX4_schemes_3 ++ dktX4_schemes_4
def dkwX4_schemes_2 : List UInt8 := [7, 27, 104, 5, 28, 104, 96, 29, 96, 4, 100, 42, 27, 29, 28, 4, 160, 0, 7, 4, 167, 0, 4, 3]
abbrev dktX4_schemes_2 : List UInt8 := dkwX4_schemes_2 ++ dktX4_schemes_3
def dkwX4_schemes_1 : List UInt8 := [182, 0, 146, 162, 0, 68, 3, 61, 28, 5, 162, 0, 55, 4, 62, 29, 6, 162, 0, 42, 42, 180, 0, 81]
abbrev dktX4_schemes_1 : List UInt8 := dkwX4_schemes_1 ++ dktX4_schemes_2
def dkwX4_schemes_0 : List UInt8 := [42, 180, 0, 84, 42, 180, 0, 11, 160, 0, 4, 177, 42, 42, 180, 0, 11, 181, 0, 84, 3, 60, 27, 42]
abbrev dktX4_schemes_0 : List UInt8 := dkwX4_schemes_0 ++ dktX4_schemes_1
theorem dksX4_schemes_0 : cX4_schemes.data.toList.drop 0 = dktX4_schemes_0 := by decide +kernel
theorem dksX4_schemes_1 : cX4_schemes.data.toList.drop 24 = dktX4_schemes_1 := dk_seg dksX4_schemes_0 24 rfl rfl
theorem dksX4_schemes_2 : cX4_schemes.data.toList.drop 48 = dktX4_schemes_2 := dk_seg dksX4_schemes_1 24 rfl rfl
theorem dksX4_schemes_3 : cX4_schemes.data.toList.drop 72 = dktX4_schemes_3 := dk_seg dksX4_schemes_2 24 rfl rfl
theorem dksX4_schemes_4 : cX4_schemes.data.toList.drop 96 = dktX4_schemes_4 := dk_seg dksX4_schemes_3 24 rfl rfl
theorem dksX4_schemes_5 : cX4_schemes.data.toList.drop 120 = dktX4_schemes_5 := dk_seg dksX4_schemes_4 24 rfl rfl
theorem dksX4_schemes_6 : cX4_schemes.data.toList.drop 144 = dktX4_schemes_6 := dk_seg dksX4_schemes_5 24 rfl rfl
theorem dksX4_schemes_7 : cX4_schemes.data.toList.drop 168 = dktX4_schemes_7 := dk_seg dksX4_schemes_6 24 rfl rfl
theorem dksX4_schemes_8 : cX4_schemes.data.toList.drop 192 = dktX4_schemes_8 := dk_seg dksX4_schemes_7 24 rfl rfl
theorem dksX4_schemes_9 : cX4_schemes.data.toList.drop 216 = dktX4_schemes_9 := dk_seg dksX4_schemes_8 24 rfl rfl
theorem dksX4_schemes_10 : cX4_schemes.data.toList.drop 240 = dktX4_schemes_10 := dk_seg dksX4_schemes_9 24 rfl rfl
theorem dksX4_schemes_11 : cX4_schemes.data.toList.drop 264 = dktX4_schemes_11 := dk_seg dksX4_schemes_10 24 rfl rfl
theorem dksX4_schemes_12 : cX4_schemes.data.toList.drop 288 = dktX4_schemes_12 := dk_seg dksX4_schemes_11 24 rfl rfl
theorem dX4_schemes_0 : decode cX4_schemes 0 = .ok (.aload_n 0, 1) := dk_42 (dk_at dksX4_schemes_0 0 rfl rfl)
theorem dX4_schemes_1 : decode cX4_schemes 1 = .ok (.getfield 84, 3) := dk_180 0 84 (dk_at dksX4_schemes_0 1 rfl rfl)
theorem dX4_schemes_4 : decode cX4_schemes 4 = .ok (.aload_n 0, 1) := dk_42 (dk_at dksX4_schemes_0 4 rfl rfl)
theorem dX4_schemes_5 : decode cX4_schemes 5 = .ok (.getfield 11, 3) := dk_180 0 11 (dk_at dksX4_schemes_0 5 rfl rfl)
theorem dX4_schemes_8 : decode cX4_schemes 8 = .ok (.if_icmp .ne 4, 3) := dk_160 0 4 (dk_at dksX4_schemes_0 8 rfl rfl)
theorem dX4_schemes_11 : decode cX4_schemes 11 = .ok (.return_, 1) := dk_177 (dk_at dksX4_schemes_0 11 rfl rfl)
theorem dX4_schemes_12 : decode cX4_schemes 12 = .ok (.aload_n 0, 1) := dk_42 (dk_at dksX4_schemes_0 12 rfl rfl)
theorem dX4_schemes_13 : decode cX4_schemes 13 = .ok (.aload_n 0, 1) := dk_42 (dk_at dksX4_schemes_0 13 rfl rfl)
theorem dX4_schemes_14 : decode cX4_schemes 14 = .ok (.getfield 11, 3) := dk_180 0 11 (dk_at dksX4_schemes_0 14 rfl rfl)
theorem dX4_schemes_17 : decode cX4_schemes 17 = .ok (.putfield 84, 3) := dk_181 0 84 (dk_at dksX4_schemes_0 17 rfl rfl)
theorem dX4_schemes_20 : decode cX4_schemes 20 = .ok (.iconst 0, 1) := dk_3 (dk_at dksX4_schemes_0 20 rfl rfl)
theorem dX4_schemes_21 : decode cX4_schemes 21 = .ok (.istore_n 1, 1) := dk_60 (dk_at dksX4_schemes_0 21 rfl rfl)
theorem dX4_schemes_22 : decode cX4_schemes 22 = .ok (.iload_n 1, 1) := dk_27 (dk_at dksX4_schemes_0 22 rfl rfl)
theorem dX4_schemes_23 : decode cX4_schemes 23 = .ok (.aload_n 0, 1) := dk_42 (dk_at dksX4_schemes_0 23 rfl rfl)
theorem dX4_schemes_24 : decode cX4_schemes 24 = .ok (.invokevirtual 146, 3) := dk_182 0 146 (dk_at dksX4_schemes_1 0 rfl rfl)
theorem dX4_schemes_27 : decode cX4_schemes 27 = .ok (.if_icmp .ge 68, 3) := dk_162 0 68 (dk_at dksX4_schemes_1 3 rfl rfl)
theorem dX4_schemes_30 : decode cX4_schemes 30 = .ok (.iconst 0, 1) := dk_3 (dk_at dksX4_schemes_1 6 rfl rfl)
theorem dX4_schemes_31 : decode cX4_schemes 31 = .ok (.istore_n 2, 1) := dk_61 (dk_at dksX4_schemes_1 7 rfl rfl)
theorem dX4_schemes_32 : decode cX4_schemes 32 = .ok (.iload_n 2, 1) := dk_28 (dk_at dksX4_schemes_1 8 rfl rfl)
theorem dX4_schemes_33 : decode cX4_schemes 33 = .ok (.iconst 2, 1) := dk_5 (dk_at dksX4_schemes_1 9 rfl rfl)
theorem dX4_schemes_34 : decode cX4_schemes 34 = .ok (.if_icmp .ge 55, 3) := dk_162 0 55 (dk_at dksX4_schemes_1 10 rfl rfl)
theorem dX4_schemes_37 : decode cX4_schemes 37 = .ok (.iconst 1, 1) := dk_4 (dk_at dksX4_schemes_1 13 rfl rfl)
theorem dX4_schemes_38 : decode cX4_schemes 38 = .ok (.istore_n 3, 1) := dk_62 (dk_at dksX4_schemes_1 14 rfl rfl)
theorem dX4_schemes_39 : decode cX4_schemes 39 = .ok (.iload_n 3, 1) := dk_29 (dk_at dksX4_schemes_1 15 rfl rfl)
theorem dX4_schemes_40 : decode cX4_schemes 40 = .ok (.iconst 3, 1) := dk_6 (dk_at dksX4_schemes_1 16 rfl rfl)
theorem dX4_schemes_41 : decode cX4_schemes 41 = .ok (.if_icmp .ge 42, 3) := dk_162 0 42 (dk_at dksX4_schemes_1 17 rfl rfl)
theorem dX4_schemes_44 : decode cX4_schemes 44 = .ok (.aload_n 0, 1) := dk_42 (dk_at dksX4_schemes_1 20 rfl rfl)
theorem dX4_schemes_45 : decode cX4_schemes 45 = .ok (.getfield 81, 3) := dk_180 0 81 (dk_at dksX4_schemes_1 21 rfl rfl)
theorem dX4_schemes_48 : decode cX4_schemes 48 = .ok (.iconst 4, 1) := dk_7 (dk_at dksX4_schemes_2 0 rfl rfl)
theorem dX4_schemes_49 : decode cX4_schemes 49 = .ok (.iload_n 1, 1) := dk_27 (dk_at dksX4_schemes_2 1 rfl rfl)
theorem dX4_schemes_50 : decode cX4_schemes 50 = .ok (.imul, 1) := dk_104 (dk_at dksX4_schemes_2 2 rfl rfl)
theorem dX4_schemes_51 : decode cX4_schemes 51 = .ok (.iconst 2, 1) := dk_5 (dk_at dksX4_schemes_2 3 rfl rfl)
theorem dX4_schemes_52 : decode cX4_schemes 52 = .ok (.iload_n 2, 1) := dk_28 (dk_at dksX4_schemes_2 4 rfl rfl)
theorem dX4_schemes_53 : decode cX4_schemes 53 = .ok (.imul, 1) := dk_104 (dk_at dksX4_schemes_2 5 rfl rfl)
theorem dX4_schemes_54 : decode cX4_schemes 54 = .ok (.iadd, 1) := dk_96 (dk_at dksX4_schemes_2 6 rfl rfl)
theorem dX4_schemes_55 : decode cX4_schemes 55 = .ok (.iload_n 3, 1) := dk_29 (dk_at dksX4_schemes_2 7 rfl rfl)
theorem dX4_schemes_56 : decode cX4_schemes 56 = .ok (.iadd, 1) := dk_96 (dk_at dksX4_schemes_2 8 rfl rfl)
theorem dX4_schemes_57 : decode cX4_schemes 57 = .ok (.iconst 1, 1) := dk_4 (dk_at dksX4_schemes_2 9 rfl rfl)
theorem dX4_schemes_58 : decode cX4_schemes 58 = .ok (.isub, 1) := dk_100 (dk_at dksX4_schemes_2 10 rfl rfl)
theorem dX4_schemes_59 : decode cX4_schemes 59 = .ok (.aload_n 0, 1) := dk_42 (dk_at dksX4_schemes_2 11 rfl rfl)
theorem dX4_schemes_60 : decode cX4_schemes 60 = .ok (.iload_n 1, 1) := dk_27 (dk_at dksX4_schemes_2 12 rfl rfl)
theorem dX4_schemes_61 : decode cX4_schemes 61 = .ok (.iload_n 3, 1) := dk_29 (dk_at dksX4_schemes_2 13 rfl rfl)
theorem dX4_schemes_62 : decode cX4_schemes 62 = .ok (.iload_n 2, 1) := dk_28 (dk_at dksX4_schemes_2 14 rfl rfl)
theorem dX4_schemes_63 : decode cX4_schemes 63 = .ok (.iconst 1, 1) := dk_4 (dk_at dksX4_schemes_2 15 rfl rfl)
theorem dX4_schemes_64 : decode cX4_schemes 64 = .ok (.if_icmp .ne 7, 3) := dk_160 0 7 (dk_at dksX4_schemes_2 16 rfl rfl)
theorem dX4_schemes_67 : decode cX4_schemes 67 = .ok (.iconst 1, 1) := dk_4 (dk_at dksX4_schemes_2 19 rfl rfl)
theorem dX4_schemes_68 : decode cX4_schemes 68 = .ok (.goto 4, 3) := dk_167 0 4 (dk_at dksX4_schemes_2 20 rfl rfl)
theorem dX4_schemes_71 : decode cX4_schemes 71 = .ok (.iconst 0, 1) := dk_3 (dk_at dksX4_schemes_2 23 rfl rfl)
theorem dX4_schemes_72 : decode cX4_schemes 72 = .ok (.iconst 0, 1) := dk_3 (dk_at dksX4_schemes_3 0 rfl rfl)
theorem dX4_schemes_73 : decode cX4_schemes 73 = .ok (.invokevirtual 298, 3) := dk_182 1 42 (dk_at dksX4_schemes_3 1 rfl rfl)
theorem dX4_schemes_76 : decode cX4_schemes 76 = .ok (.iastore, 1) := dk_79 (dk_at dksX4_schemes_3 4 rfl rfl)
theorem dX4_schemes_77 : decode cX4_schemes 77 = .ok (.iinc 3 1, 3) := dk_132 3 1 (dk_at dksX4_schemes_3 5 rfl rfl)
theorem dX4_schemes_80 : decode cX4_schemes 80 = .ok (.goto (-41), 3) := dk_167 255 215 (dk_at dksX4_schemes_3 8 rfl rfl)
theorem dX4_schemes_83 : decode cX4_schemes 83 = .ok (.iinc 2 1, 3) := dk_132 2 1 (dk_at dksX4_schemes_3 11 rfl rfl)
theorem dX4_schemes_86 : decode cX4_schemes 86 = .ok (.goto (-54), 3) := dk_167 255 202 (dk_at dksX4_schemes_3 14 rfl rfl)
theorem dX4_schemes_89 : decode cX4_schemes 89 = .ok (.iinc 1 1, 3) := dk_132 1 1 (dk_at dksX4_schemes_3 17 rfl rfl)
theorem dX4_schemes_92 : decode cX4_schemes 92 = .ok (.goto (-70), 3) := dk_167 255 186 (dk_at dksX4_schemes_3 20 rfl rfl)
theorem dX4_schemes_95 : decode cX4_schemes 95 = .ok (.aload_n 0, 1) := dk_42 (dk_at dksX4_schemes_3 23 rfl rfl)
theorem dX4_schemes_96 : decode cX4_schemes 96 = .ok (.invokevirtual 146, 3) := dk_182 0 146 (dk_at dksX4_schemes_4 0 rfl rfl)
theorem dX4_schemes_99 : decode cX4_schemes 99 = .ok (.istore_n 1, 1) := dk_60 (dk_at dksX4_schemes_4 3 rfl rfl)
theorem dX4_schemes_100 : decode cX4_schemes 100 = .ok (.iconst 0, 1) := dk_3 (dk_at dksX4_schemes_4 4 rfl rfl)
theorem dX4_schemes_101 : decode cX4_schemes 101 = .ok (.istore_n 2, 1) := dk_61 (dk_at dksX4_schemes_4 5 rfl rfl)
theorem dX4_schemes_102 : decode cX4_schemes 102 = .ok (.iload_n 2, 1) := dk_28 (dk_at dksX4_schemes_4 6 rfl rfl)
theorem dX4_schemes_103 : decode cX4_schemes 103 = .ok (.sipush 7056, 3) := dk_17 27 144 (dk_at dksX4_schemes_4 7 rfl rfl)
theorem dX4_schemes_106 : decode cX4_schemes 106 = .ok (.if_icmp .ge 35, 3) := dk_162 0 35 (dk_at dksX4_schemes_4 10 rfl rfl)
theorem dX4_schemes_109 : decode cX4_schemes 109 = .ok (.aload_n 0, 1) := dk_42 (dk_at dksX4_schemes_4 13 rfl rfl)
theorem dX4_schemes_110 : decode cX4_schemes 110 = .ok (.getfield 75, 3) := dk_180 0 75 (dk_at dksX4_schemes_4 14 rfl rfl)
theorem dX4_schemes_113 : decode cX4_schemes 113 = .ok (.sipush 7056, 3) := dk_17 27 144 (dk_at dksX4_schemes_4 17 rfl rfl)
theorem dX4_schemes_116 : decode cX4_schemes 116 = .ok (.iload_n 1, 1) := dk_27 (dk_at dksX4_schemes_4 20 rfl rfl)
theorem dX4_schemes_117 : decode cX4_schemes 117 = .ok (.imul, 1) := dk_104 (dk_at dksX4_schemes_4 21 rfl rfl)
theorem dX4_schemes_118 : decode cX4_schemes 118 = .ok (.iload_n 2, 1) := dk_28 (dk_at dksX4_schemes_4 22 rfl rfl)
theorem dX4_schemes_119 : decode cX4_schemes 119 = .ok (.iadd, 1) := dk_96 (dk_at dksX4_schemes_4 23 rfl rfl)
theorem dX4_schemes_120 : decode cX4_schemes 120 = .ok (.iload_n 2, 1) := dk_28 (dk_at dksX4_schemes_5 0 rfl rfl)
theorem dX4_schemes_121 : decode cX4_schemes 121 = .ok (.sipush 441, 3) := dk_17 1 185 (dk_at dksX4_schemes_5 1 rfl rfl)
theorem dX4_schemes_124 : decode cX4_schemes 124 = .ok (.irem, 1) := dk_112 (dk_at dksX4_schemes_5 4 rfl rfl)
theorem dX4_schemes_125 : decode cX4_schemes 125 = .ok (.ifCond .ne 7, 3) := dk_154 0 7 (dk_at dksX4_schemes_5 5 rfl rfl)
theorem dX4_schemes_128 : decode cX4_schemes 128 = .ok (.iconst 0, 1) := dk_3 (dk_at dksX4_schemes_5 8 rfl rfl)
theorem dX4_schemes_129 : decode cX4_schemes 129 = .ok (.goto 5, 3) := dk_167 0 5 (dk_at dksX4_schemes_5 9 rfl rfl)
theorem dX4_schemes_132 : decode cX4_schemes 132 = .ok (.ldc 185, 2) := dk_18 185 (dk_at dksX4_schemes_5 12 rfl rfl)
theorem dX4_schemes_134 : decode cX4_schemes 134 = .ok (.iastore, 1) := dk_79 (dk_at dksX4_schemes_5 14 rfl rfl)
theorem dX4_schemes_135 : decode cX4_schemes 135 = .ok (.iinc 2 1, 3) := dk_132 2 1 (dk_at dksX4_schemes_5 15 rfl rfl)
theorem dX4_schemes_138 : decode cX4_schemes 138 = .ok (.goto (-36), 3) := dk_167 255 220 (dk_at dksX4_schemes_5 18 rfl rfl)
theorem dX4_schemes_141 : decode cX4_schemes 141 = .ok (.iload_n 1, 1) := dk_27 (dk_at dksX4_schemes_5 21 rfl rfl)
theorem dX4_schemes_142 : decode cX4_schemes 142 = .ok (.iconst 1, 1) := dk_4 (dk_at dksX4_schemes_5 22 rfl rfl)
theorem dX4_schemes_143 : decode cX4_schemes 143 = .ok (.isub, 1) := dk_100 (dk_at dksX4_schemes_5 23 rfl rfl)
theorem dX4_schemes_144 : decode cX4_schemes 144 = .ok (.istore_n 2, 1) := dk_61 (dk_at dksX4_schemes_6 0 rfl rfl)
theorem dX4_schemes_145 : decode cX4_schemes 145 = .ok (.iload_n 2, 1) := dk_28 (dk_at dksX4_schemes_6 1 rfl rfl)
theorem dX4_schemes_146 : decode cX4_schemes 146 = .ok (.ifCond .lt 79, 3) := dk_155 0 79 (dk_at dksX4_schemes_6 2 rfl rfl)
theorem dX4_schemes_149 : decode cX4_schemes 149 = .ok (.iconst 0, 1) := dk_3 (dk_at dksX4_schemes_6 5 rfl rfl)
theorem dX4_schemes_150 : decode cX4_schemes 150 = .ok (.istore_n 3, 1) := dk_62 (dk_at dksX4_schemes_6 6 rfl rfl)
theorem dX4_schemes_151 : decode cX4_schemes 151 = .ok (.iload_n 3, 1) := dk_29 (dk_at dksX4_schemes_6 7 rfl rfl)
theorem dX4_schemes_152 : decode cX4_schemes 152 = .ok (.bipush 16, 2) := dk_16 16 (dk_at dksX4_schemes_6 8 rfl rfl)
theorem dX4_schemes_154 : decode cX4_schemes 154 = .ok (.if_icmp .ge 65, 3) := dk_162 0 65 (dk_at dksX4_schemes_6 10 rfl rfl)
theorem dX4_schemes_157 : decode cX4_schemes 157 = .ok (.iconst 0, 1) := dk_3 (dk_at dksX4_schemes_6 13 rfl rfl)
theorem dX4_schemes_158 : decode cX4_schemes 158 = .ok (.istore 4, 2) := dk_54 4 (dk_at dksX4_schemes_6 14 rfl rfl)
theorem dX4_schemes_160 : decode cX4_schemes 160 = .ok (.iload 4, 2) := dk_21 4 (dk_at dksX4_schemes_6 16 rfl rfl)
theorem dX4_schemes_162 : decode cX4_schemes 162 = .ok (.bipush 21, 2) := dk_16 21 (dk_at dksX4_schemes_6 18 rfl rfl)
theorem dX4_schemes_164 : decode cX4_schemes 164 = .ok (.if_icmp .ge 49, 3) := dk_162 0 49 (dk_at dksX4_schemes_6 20 rfl rfl)
theorem dX4_schemes_167 : decode cX4_schemes 167 = .ok (.iconst 0, 1) := dk_3 (dk_at dksX4_schemes_6 23 rfl rfl)
theorem dX4_schemes_168 : decode cX4_schemes 168 = .ok (.istore 5, 2) := dk_54 5 (dk_at dksX4_schemes_7 0 rfl rfl)
theorem dX4_schemes_170 : decode cX4_schemes 170 = .ok (.iload 5, 2) := dk_21 5 (dk_at dksX4_schemes_7 2 rfl rfl)
theorem dX4_schemes_172 : decode cX4_schemes 172 = .ok (.bipush 21, 2) := dk_16 21 (dk_at dksX4_schemes_7 4 rfl rfl)
theorem dX4_schemes_174 : decode cX4_schemes 174 = .ok (.if_icmp .ge 33, 3) := dk_162 0 33 (dk_at dksX4_schemes_7 6 rfl rfl)
theorem dX4_schemes_177 : decode cX4_schemes 177 = .ok (.aload_n 0, 1) := dk_42 (dk_at dksX4_schemes_7 9 rfl rfl)
theorem dX4_schemes_178 : decode cX4_schemes 178 = .ok (.getfield 75, 3) := dk_180 0 75 (dk_at dksX4_schemes_7 10 rfl rfl)
theorem dX4_schemes_181 : decode cX4_schemes 181 = .ok (.iload_n 2, 1) := dk_28 (dk_at dksX4_schemes_7 13 rfl rfl)
theorem dX4_schemes_182 : decode cX4_schemes 182 = .ok (.iload_n 3, 1) := dk_29 (dk_at dksX4_schemes_7 14 rfl rfl)
theorem dX4_schemes_183 : decode cX4_schemes 183 = .ok (.iload 4, 2) := dk_21 4 (dk_at dksX4_schemes_7 15 rfl rfl)
theorem dX4_schemes_185 : decode cX4_schemes 185 = .ok (.iload 5, 2) := dk_21 5 (dk_at dksX4_schemes_7 17 rfl rfl)
theorem dX4_schemes_187 : decode cX4_schemes 187 = .ok (.invokestatic 375, 3) := dk_184 1 119 (dk_at dksX4_schemes_7 19 rfl rfl)
theorem dX4_schemes_190 : decode cX4_schemes 190 = .ok (.aload_n 0, 1) := dk_42 (dk_at dksX4_schemes_7 22 rfl rfl)
theorem dX4_schemes_191 : decode cX4_schemes 191 = .ok (.iload_n 2, 1) := dk_28 (dk_at dksX4_schemes_7 23 rfl rfl)
theorem dX4_schemes_192 : decode cX4_schemes 192 = .ok (.iload_n 3, 1) := dk_29 (dk_at dksX4_schemes_8 0 rfl rfl)
theorem dX4_schemes_193 : decode cX4_schemes 193 = .ok (.iload 4, 2) := dk_21 4 (dk_at dksX4_schemes_8 1 rfl rfl)
theorem dX4_schemes_195 : decode cX4_schemes 195 = .ok (.iload 5, 2) := dk_21 5 (dk_at dksX4_schemes_8 3 rfl rfl)
theorem dX4_schemes_197 : decode cX4_schemes 197 = .ok (.invokevirtual 378, 3) := dk_182 1 122 (dk_at dksX4_schemes_8 5 rfl rfl)
theorem dX4_schemes_200 : decode cX4_schemes 200 = .ok (.iastore, 1) := dk_79 (dk_at dksX4_schemes_8 8 rfl rfl)
theorem dX4_schemes_201 : decode cX4_schemes 201 = .ok (.iinc 5 1, 3) := dk_132 5 1 (dk_at dksX4_schemes_8 9 rfl rfl)
theorem dX4_schemes_204 : decode cX4_schemes 204 = .ok (.goto (-34), 3) := dk_167 255 222 (dk_at dksX4_schemes_8 12 rfl rfl)
theorem dX4_schemes_207 : decode cX4_schemes 207 = .ok (.iinc 4 1, 3) := dk_132 4 1 (dk_at dksX4_schemes_8 15 rfl rfl)
theorem dX4_schemes_210 : decode cX4_schemes 210 = .ok (.goto (-50), 3) := dk_167 255 206 (dk_at dksX4_schemes_8 18 rfl rfl)
theorem dX4_schemes_213 : decode cX4_schemes 213 = .ok (.iinc 3 1, 3) := dk_132 3 1 (dk_at dksX4_schemes_8 21 rfl rfl)
theorem dX4_schemes_216 : decode cX4_schemes 216 = .ok (.goto (-65), 3) := dk_167 255 191 (dk_at dksX4_schemes_9 0 rfl rfl)
theorem dX4_schemes_219 : decode cX4_schemes 219 = .ok (.iinc 2 (-1), 3) := dk_132 2 255 (dk_at dksX4_schemes_9 3 rfl rfl)
theorem dX4_schemes_222 : decode cX4_schemes 222 = .ok (.goto (-77), 3) := dk_167 255 179 (dk_at dksX4_schemes_9 6 rfl rfl)
theorem dX4_schemes_225 : decode cX4_schemes 225 = .ok (.aload_n 0, 1) := dk_42 (dk_at dksX4_schemes_9 9 rfl rfl)
theorem dX4_schemes_226 : decode cX4_schemes 226 = .ok (.invokevirtual 334, 3) := dk_182 1 78 (dk_at dksX4_schemes_9 10 rfl rfl)
theorem dX4_schemes_229 : decode cX4_schemes 229 = .ok (.iconst 0, 1) := dk_3 (dk_at dksX4_schemes_9 13 rfl rfl)
theorem dX4_schemes_230 : decode cX4_schemes 230 = .ok (.istore_n 2, 1) := dk_61 (dk_at dksX4_schemes_9 14 rfl rfl)
theorem dX4_schemes_231 : decode cX4_schemes 231 = .ok (.iload_n 2, 1) := dk_28 (dk_at dksX4_schemes_9 15 rfl rfl)
theorem dX4_schemes_232 : decode cX4_schemes 232 = .ok (.bipush 21, 2) := dk_16 21 (dk_at dksX4_schemes_9 16 rfl rfl)
theorem dX4_schemes_234 : decode cX4_schemes 234 = .ok (.if_icmp .ge 53, 3) := dk_162 0 53 (dk_at dksX4_schemes_9 18 rfl rfl)
theorem dX4_schemes_237 : decode cX4_schemes 237 = .ok (.iconst 0, 1) := dk_3 (dk_at dksX4_schemes_9 21 rfl rfl)
theorem dX4_schemes_238 : decode cX4_schemes 238 = .ok (.istore_n 3, 1) := dk_62 (dk_at dksX4_schemes_9 22 rfl rfl)
theorem dX4_schemes_239 : decode cX4_schemes 239 = .ok (.iload_n 3, 1) := dk_29 (dk_at dksX4_schemes_9 23 rfl rfl)
theorem dX4_schemes_240 : decode cX4_schemes 240 = .ok (.bipush 21, 2) := dk_16 21 (dk_at dksX4_schemes_10 0 rfl rfl)
theorem dX4_schemes_242 : decode cX4_schemes 242 = .ok (.if_icmp .ge 39, 3) := dk_162 0 39 (dk_at dksX4_schemes_10 2 rfl rfl)
theorem dX4_schemes_245 : decode cX4_schemes 245 = .ok (.iload_n 2, 1) := dk_28 (dk_at dksX4_schemes_10 5 rfl rfl)
theorem dX4_schemes_246 : decode cX4_schemes 246 = .ok (.iload_n 3, 1) := dk_29 (dk_at dksX4_schemes_10 6 rfl rfl)
theorem dX4_schemes_247 : decode cX4_schemes 247 = .ok (.iadd, 1) := dk_96 (dk_at dksX4_schemes_10 7 rfl rfl)
theorem dX4_schemes_248 : decode cX4_schemes 248 = .ok (.aload_n 0, 1) := dk_42 (dk_at dksX4_schemes_10 8 rfl rfl)
theorem dX4_schemes_249 : decode cX4_schemes 249 = .ok (.invokevirtual 362, 3) := dk_182 1 106 (dk_at dksX4_schemes_10 9 rfl rfl)
theorem dX4_schemes_252 : decode cX4_schemes 252 = .ok (.if_icmp .le 6, 3) := dk_164 0 6 (dk_at dksX4_schemes_10 12 rfl rfl)
theorem dX4_schemes_255 : decode cX4_schemes 255 = .ok (.goto 20, 3) := dk_167 0 20 (dk_at dksX4_schemes_10 15 rfl rfl)
theorem dX4_schemes_258 : decode cX4_schemes 258 = .ok (.aload_n 0, 1) := dk_42 (dk_at dksX4_schemes_10 18 rfl rfl)
theorem dX4_schemes_259 : decode cX4_schemes 259 = .ok (.getfield 78, 3) := dk_180 0 78 (dk_at dksX4_schemes_10 19 rfl rfl)
theorem dX4_schemes_262 : decode cX4_schemes 262 = .ok (.bipush 21, 2) := dk_16 21 (dk_at dksX4_schemes_10 22 rfl rfl)
theorem dX4_schemes_264 : decode cX4_schemes 264 = .ok (.iload_n 2, 1) := dk_28 (dk_at dksX4_schemes_11 0 rfl rfl)
theorem dX4_schemes_265 : decode cX4_schemes 265 = .ok (.imul, 1) := dk_104 (dk_at dksX4_schemes_11 1 rfl rfl)
theorem dX4_schemes_266 : decode cX4_schemes 266 = .ok (.iload_n 3, 1) := dk_29 (dk_at dksX4_schemes_11 2 rfl rfl)
theorem dX4_schemes_267 : decode cX4_schemes 267 = .ok (.iadd, 1) := dk_96 (dk_at dksX4_schemes_11 3 rfl rfl)
theorem dX4_schemes_268 : decode cX4_schemes 268 = .ok (.aload_n 0, 1) := dk_42 (dk_at dksX4_schemes_11 4 rfl rfl)
theorem dX4_schemes_269 : decode cX4_schemes 269 = .ok (.iload_n 2, 1) := dk_28 (dk_at dksX4_schemes_11 5 rfl rfl)
theorem dX4_schemes_270 : decode cX4_schemes 270 = .ok (.iload_n 3, 1) := dk_29 (dk_at dksX4_schemes_11 6 rfl rfl)
theorem dX4_schemes_271 : decode cX4_schemes 271 = .ok (.invokevirtual 365, 3) := dk_182 1 109 (dk_at dksX4_schemes_11 7 rfl rfl)
theorem dX4_schemes_274 : decode cX4_schemes 274 = .ok (.lastore, 1) := dk_80 (dk_at dksX4_schemes_11 10 rfl rfl)
theorem dX4_schemes_275 : decode cX4_schemes 275 = .ok (.iinc 3 1, 3) := dk_132 3 1 (dk_at dksX4_schemes_11 11 rfl rfl)
theorem dX4_schemes_278 : decode cX4_schemes 278 = .ok (.goto (-39), 3) := dk_167 255 217 (dk_at dksX4_schemes_11 14 rfl rfl)
theorem dX4_schemes_281 : decode cX4_schemes 281 = .ok (.iinc 2 1, 3) := dk_132 2 1 (dk_at dksX4_schemes_11 17 rfl rfl)
theorem dX4_schemes_284 : decode cX4_schemes 284 = .ok (.goto (-53), 3) := dk_167 255 203 (dk_at dksX4_schemes_11 20 rfl rfl)
theorem dX4_schemes_287 : decode cX4_schemes 287 = .ok (.aload_n 0, 1) := dk_42 (dk_at dksX4_schemes_11 23 rfl rfl)
theorem dX4_schemes_288 : decode cX4_schemes 288 = .ok (.aload_n 0, 1) := dk_42 (dk_at dksX4_schemes_12 0 rfl rfl)
theorem dX4_schemes_289 : decode cX4_schemes 289 = .ok (.getfield 324, 3) := dk_180 1 68 (dk_at dksX4_schemes_12 1 rfl rfl)
theorem dX4_schemes_292 : decode cX4_schemes 292 = .ok (.putfield 381, 3) := dk_181 1 125 (dk_at dksX4_schemes_12 4 rfl rfl)
theorem dX4_schemes_295 : decode cX4_schemes 295 = .ok (.return_, 1) := dk_177 (dk_at dksX4_schemes_12 7 rfl rfl)
abbrev cX4_cell : ByteArray := prog_29_method_78_code
def yX4_cell : MethodName := ⟨RX4, "cell", "(IIII)I"⟩
def dkwX4_cell_0 : List UInt8 := [17, 27, 144, 26, 104, 17, 1, 185, 27, 104, 96, 16, 21, 28, 104, 96, 29, 96, 172]
abbrev dktX4_cell_0 : List UInt8 := dkwX4_cell_0 ++ []
theorem dksX4_cell_0 : cX4_cell.data.toList.drop 0 = dktX4_cell_0 := by decide +kernel
theorem dX4_cell_0 : decode cX4_cell 0 = .ok (.sipush 7056, 3) := dk_17 27 144 (dk_at dksX4_cell_0 0 rfl rfl)
theorem dX4_cell_3 : decode cX4_cell 3 = .ok (.iload_n 0, 1) := dk_26 (dk_at dksX4_cell_0 3 rfl rfl)
theorem dX4_cell_4 : decode cX4_cell 4 = .ok (.imul, 1) := dk_104 (dk_at dksX4_cell_0 4 rfl rfl)
theorem dX4_cell_5 : decode cX4_cell 5 = .ok (.sipush 441, 3) := dk_17 1 185 (dk_at dksX4_cell_0 5 rfl rfl)
theorem dX4_cell_8 : decode cX4_cell 8 = .ok (.iload_n 1, 1) := dk_27 (dk_at dksX4_cell_0 8 rfl rfl)
theorem dX4_cell_9 : decode cX4_cell 9 = .ok (.imul, 1) := dk_104 (dk_at dksX4_cell_0 9 rfl rfl)
theorem dX4_cell_10 : decode cX4_cell 10 = .ok (.iadd, 1) := dk_96 (dk_at dksX4_cell_0 10 rfl rfl)
theorem dX4_cell_11 : decode cX4_cell 11 = .ok (.bipush 21, 2) := dk_16 21 (dk_at dksX4_cell_0 11 rfl rfl)
theorem dX4_cell_13 : decode cX4_cell 13 = .ok (.iload_n 2, 1) := dk_28 (dk_at dksX4_cell_0 13 rfl rfl)
theorem dX4_cell_14 : decode cX4_cell 14 = .ok (.imul, 1) := dk_104 (dk_at dksX4_cell_0 14 rfl rfl)
theorem dX4_cell_15 : decode cX4_cell 15 = .ok (.iadd, 1) := dk_96 (dk_at dksX4_cell_0 15 rfl rfl)
theorem dX4_cell_16 : decode cX4_cell 16 = .ok (.iload_n 3, 1) := dk_29 (dk_at dksX4_cell_0 16 rfl rfl)
theorem dX4_cell_17 : decode cX4_cell 17 = .ok (.iadd, 1) := dk_96 (dk_at dksX4_cell_0 17 rfl rfl)
theorem dX4_cell_18 : decode cX4_cell 18 = .ok (.ireturn, 1) := dk_172 (dk_at dksX4_cell_0 18 rfl rfl)
abbrev cX4_fewest : ByteArray := prog_29_method_83_code
def yX4_fewest : MethodName := ⟨RX4, "fewest", "(IIII)I"⟩
def dkwX4_fewest_5 : List UInt8 := [184, 1, 138, 54, 5, 21, 5, 172]
abbrev dktX4_fewest_5 : List UInt8 := dkwX4_fewest_5 ++ []
def dkwX4_fewest_4 : List UInt8 := [21, 6, 182, 1, 134, 42, 180, 0, 75, 27, 4, 96, 21, 7, 29, 21, 4, 4, 100, 184, 1, 119, 46, 96]
abbrev dktX4_fewest_4 : List UInt8 := dkwX4_fewest_4 ++ dktX4_fewest_5
def dkwX4_fewest_3 : List UInt8 := [100, 21, 4, 184, 1, 119, 46, 96, 184, 1, 138, 54, 5, 21, 4, 158, 0, 37, 21, 5, 42, 27, 5]
abbrev dktX4_fewest_3 : List UInt8 := dkwX4_fewest_3 ++ dktX4_fewest_4
def dkwX4_fewest_2 : List UInt8 := [158, 0, 37, 21, 5, 42, 27, 4, 21, 6, 182, 1, 134, 42, 180, 0, 75, 27, 4, 96, 21, 7, 29, 4]
abbrev dktX4_fewest_2 : List UInt8 := dkwX4_fewest_2 ++ dktX4_fewest_3
def dkwX4_fewest_1 : List UInt8 := [154, 0, 6, 21, 5, 172, 42, 27, 28, 182, 1, 128, 54, 6, 42, 27, 28, 182, 1, 131, 54, 7, 29]
abbrev dktX4_fewest_1 : List UInt8 := dkwX4_fewest_1 ++ dktX4_fewest_2
def dkwX4_fewest_0 : List UInt8 := [42, 180, 0, 75, 27, 4, 96, 28, 29, 21, 4, 184, 1, 119, 46, 54, 5, 42, 27, 182, 0, 154]
abbrev dktX4_fewest_0 : List UInt8 := dkwX4_fewest_0 ++ dktX4_fewest_1
theorem dksX4_fewest_0 : cX4_fewest.data.toList.drop 0 = dktX4_fewest_0 := by decide +kernel
theorem dksX4_fewest_1 : cX4_fewest.data.toList.drop 22 = dktX4_fewest_1 := dk_seg dksX4_fewest_0 22 rfl rfl
theorem dksX4_fewest_2 : cX4_fewest.data.toList.drop 45 = dktX4_fewest_2 := dk_seg dksX4_fewest_1 23 rfl rfl
theorem dksX4_fewest_3 : cX4_fewest.data.toList.drop 69 = dktX4_fewest_3 := dk_seg dksX4_fewest_2 24 rfl rfl
theorem dksX4_fewest_4 : cX4_fewest.data.toList.drop 92 = dktX4_fewest_4 := dk_seg dksX4_fewest_3 23 rfl rfl
theorem dksX4_fewest_5 : cX4_fewest.data.toList.drop 116 = dktX4_fewest_5 := dk_seg dksX4_fewest_4 24 rfl rfl
theorem dX4_fewest_0 : decode cX4_fewest 0 = .ok (.aload_n 0, 1) := dk_42 (dk_at dksX4_fewest_0 0 rfl rfl)
theorem dX4_fewest_1 : decode cX4_fewest 1 = .ok (.getfield 75, 3) := dk_180 0 75 (dk_at dksX4_fewest_0 1 rfl rfl)
theorem dX4_fewest_4 : decode cX4_fewest 4 = .ok (.iload_n 1, 1) := dk_27 (dk_at dksX4_fewest_0 4 rfl rfl)
theorem dX4_fewest_5 : decode cX4_fewest 5 = .ok (.iconst 1, 1) := dk_4 (dk_at dksX4_fewest_0 5 rfl rfl)
theorem dX4_fewest_6 : decode cX4_fewest 6 = .ok (.iadd, 1) := dk_96 (dk_at dksX4_fewest_0 6 rfl rfl)
theorem dX4_fewest_7 : decode cX4_fewest 7 = .ok (.iload_n 2, 1) := dk_28 (dk_at dksX4_fewest_0 7 rfl rfl)
theorem dX4_fewest_8 : decode cX4_fewest 8 = .ok (.iload_n 3, 1) := dk_29 (dk_at dksX4_fewest_0 8 rfl rfl)
theorem dX4_fewest_9 : decode cX4_fewest 9 = .ok (.iload 4, 2) := dk_21 4 (dk_at dksX4_fewest_0 9 rfl rfl)
theorem dX4_fewest_11 : decode cX4_fewest 11 = .ok (.invokestatic 375, 3) := dk_184 1 119 (dk_at dksX4_fewest_0 11 rfl rfl)
theorem dX4_fewest_14 : decode cX4_fewest 14 = .ok (.iaload, 1) := dk_46 (dk_at dksX4_fewest_0 14 rfl rfl)
theorem dX4_fewest_15 : decode cX4_fewest 15 = .ok (.istore 5, 2) := dk_54 5 (dk_at dksX4_fewest_0 15 rfl rfl)
theorem dX4_fewest_17 : decode cX4_fewest 17 = .ok (.aload_n 0, 1) := dk_42 (dk_at dksX4_fewest_0 17 rfl rfl)
theorem dX4_fewest_18 : decode cX4_fewest 18 = .ok (.iload_n 1, 1) := dk_27 (dk_at dksX4_fewest_0 18 rfl rfl)
theorem dX4_fewest_19 : decode cX4_fewest 19 = .ok (.invokevirtual 154, 3) := dk_182 0 154 (dk_at dksX4_fewest_0 19 rfl rfl)
theorem dX4_fewest_22 : decode cX4_fewest 22 = .ok (.ifCond .ne 6, 3) := dk_154 0 6 (dk_at dksX4_fewest_1 0 rfl rfl)
theorem dX4_fewest_25 : decode cX4_fewest 25 = .ok (.iload 5, 2) := dk_21 5 (dk_at dksX4_fewest_1 3 rfl rfl)
theorem dX4_fewest_27 : decode cX4_fewest 27 = .ok (.ireturn, 1) := dk_172 (dk_at dksX4_fewest_1 5 rfl rfl)
theorem dX4_fewest_28 : decode cX4_fewest 28 = .ok (.aload_n 0, 1) := dk_42 (dk_at dksX4_fewest_1 6 rfl rfl)
theorem dX4_fewest_29 : decode cX4_fewest 29 = .ok (.iload_n 1, 1) := dk_27 (dk_at dksX4_fewest_1 7 rfl rfl)
theorem dX4_fewest_30 : decode cX4_fewest 30 = .ok (.iload_n 2, 1) := dk_28 (dk_at dksX4_fewest_1 8 rfl rfl)
theorem dX4_fewest_31 : decode cX4_fewest 31 = .ok (.invokevirtual 384, 3) := dk_182 1 128 (dk_at dksX4_fewest_1 9 rfl rfl)
theorem dX4_fewest_34 : decode cX4_fewest 34 = .ok (.istore 6, 2) := dk_54 6 (dk_at dksX4_fewest_1 12 rfl rfl)
theorem dX4_fewest_36 : decode cX4_fewest 36 = .ok (.aload_n 0, 1) := dk_42 (dk_at dksX4_fewest_1 14 rfl rfl)
theorem dX4_fewest_37 : decode cX4_fewest 37 = .ok (.iload_n 1, 1) := dk_27 (dk_at dksX4_fewest_1 15 rfl rfl)
theorem dX4_fewest_38 : decode cX4_fewest 38 = .ok (.iload_n 2, 1) := dk_28 (dk_at dksX4_fewest_1 16 rfl rfl)
theorem dX4_fewest_39 : decode cX4_fewest 39 = .ok (.invokevirtual 387, 3) := dk_182 1 131 (dk_at dksX4_fewest_1 17 rfl rfl)
theorem dX4_fewest_42 : decode cX4_fewest 42 = .ok (.istore 7, 2) := dk_54 7 (dk_at dksX4_fewest_1 20 rfl rfl)
theorem dX4_fewest_44 : decode cX4_fewest 44 = .ok (.iload_n 3, 1) := dk_29 (dk_at dksX4_fewest_1 22 rfl rfl)
theorem dX4_fewest_45 : decode cX4_fewest 45 = .ok (.ifCond .le 37, 3) := dk_158 0 37 (dk_at dksX4_fewest_2 0 rfl rfl)
theorem dX4_fewest_48 : decode cX4_fewest 48 = .ok (.iload 5, 2) := dk_21 5 (dk_at dksX4_fewest_2 3 rfl rfl)
theorem dX4_fewest_50 : decode cX4_fewest 50 = .ok (.aload_n 0, 1) := dk_42 (dk_at dksX4_fewest_2 5 rfl rfl)
theorem dX4_fewest_51 : decode cX4_fewest 51 = .ok (.iload_n 1, 1) := dk_27 (dk_at dksX4_fewest_2 6 rfl rfl)
theorem dX4_fewest_52 : decode cX4_fewest 52 = .ok (.iconst 1, 1) := dk_4 (dk_at dksX4_fewest_2 7 rfl rfl)
theorem dX4_fewest_53 : decode cX4_fewest 53 = .ok (.iload 6, 2) := dk_21 6 (dk_at dksX4_fewest_2 8 rfl rfl)
theorem dX4_fewest_55 : decode cX4_fewest 55 = .ok (.invokevirtual 390, 3) := dk_182 1 134 (dk_at dksX4_fewest_2 10 rfl rfl)
theorem dX4_fewest_58 : decode cX4_fewest 58 = .ok (.aload_n 0, 1) := dk_42 (dk_at dksX4_fewest_2 13 rfl rfl)
theorem dX4_fewest_59 : decode cX4_fewest 59 = .ok (.getfield 75, 3) := dk_180 0 75 (dk_at dksX4_fewest_2 14 rfl rfl)
theorem dX4_fewest_62 : decode cX4_fewest 62 = .ok (.iload_n 1, 1) := dk_27 (dk_at dksX4_fewest_2 17 rfl rfl)
theorem dX4_fewest_63 : decode cX4_fewest 63 = .ok (.iconst 1, 1) := dk_4 (dk_at dksX4_fewest_2 18 rfl rfl)
theorem dX4_fewest_64 : decode cX4_fewest 64 = .ok (.iadd, 1) := dk_96 (dk_at dksX4_fewest_2 19 rfl rfl)
theorem dX4_fewest_65 : decode cX4_fewest 65 = .ok (.iload 7, 2) := dk_21 7 (dk_at dksX4_fewest_2 20 rfl rfl)
theorem dX4_fewest_67 : decode cX4_fewest 67 = .ok (.iload_n 3, 1) := dk_29 (dk_at dksX4_fewest_2 22 rfl rfl)
theorem dX4_fewest_68 : decode cX4_fewest 68 = .ok (.iconst 1, 1) := dk_4 (dk_at dksX4_fewest_2 23 rfl rfl)
theorem dX4_fewest_69 : decode cX4_fewest 69 = .ok (.isub, 1) := dk_100 (dk_at dksX4_fewest_3 0 rfl rfl)
theorem dX4_fewest_70 : decode cX4_fewest 70 = .ok (.iload 4, 2) := dk_21 4 (dk_at dksX4_fewest_3 1 rfl rfl)
theorem dX4_fewest_72 : decode cX4_fewest 72 = .ok (.invokestatic 375, 3) := dk_184 1 119 (dk_at dksX4_fewest_3 3 rfl rfl)
theorem dX4_fewest_75 : decode cX4_fewest 75 = .ok (.iaload, 1) := dk_46 (dk_at dksX4_fewest_3 6 rfl rfl)
theorem dX4_fewest_76 : decode cX4_fewest 76 = .ok (.iadd, 1) := dk_96 (dk_at dksX4_fewest_3 7 rfl rfl)
theorem dX4_fewest_77 : decode cX4_fewest 77 = .ok (.invokestatic 394, 3) := dk_184 1 138 (dk_at dksX4_fewest_3 8 rfl rfl)
theorem dX4_fewest_80 : decode cX4_fewest 80 = .ok (.istore 5, 2) := dk_54 5 (dk_at dksX4_fewest_3 11 rfl rfl)
theorem dX4_fewest_82 : decode cX4_fewest 82 = .ok (.iload 4, 2) := dk_21 4 (dk_at dksX4_fewest_3 13 rfl rfl)
theorem dX4_fewest_84 : decode cX4_fewest 84 = .ok (.ifCond .le 37, 3) := dk_158 0 37 (dk_at dksX4_fewest_3 15 rfl rfl)
theorem dX4_fewest_87 : decode cX4_fewest 87 = .ok (.iload 5, 2) := dk_21 5 (dk_at dksX4_fewest_3 18 rfl rfl)
theorem dX4_fewest_89 : decode cX4_fewest 89 = .ok (.aload_n 0, 1) := dk_42 (dk_at dksX4_fewest_3 20 rfl rfl)
theorem dX4_fewest_90 : decode cX4_fewest 90 = .ok (.iload_n 1, 1) := dk_27 (dk_at dksX4_fewest_3 21 rfl rfl)
theorem dX4_fewest_91 : decode cX4_fewest 91 = .ok (.iconst 2, 1) := dk_5 (dk_at dksX4_fewest_3 22 rfl rfl)
theorem dX4_fewest_92 : decode cX4_fewest 92 = .ok (.iload 6, 2) := dk_21 6 (dk_at dksX4_fewest_4 0 rfl rfl)
theorem dX4_fewest_94 : decode cX4_fewest 94 = .ok (.invokevirtual 390, 3) := dk_182 1 134 (dk_at dksX4_fewest_4 2 rfl rfl)
theorem dX4_fewest_97 : decode cX4_fewest 97 = .ok (.aload_n 0, 1) := dk_42 (dk_at dksX4_fewest_4 5 rfl rfl)
theorem dX4_fewest_98 : decode cX4_fewest 98 = .ok (.getfield 75, 3) := dk_180 0 75 (dk_at dksX4_fewest_4 6 rfl rfl)
theorem dX4_fewest_101 : decode cX4_fewest 101 = .ok (.iload_n 1, 1) := dk_27 (dk_at dksX4_fewest_4 9 rfl rfl)
theorem dX4_fewest_102 : decode cX4_fewest 102 = .ok (.iconst 1, 1) := dk_4 (dk_at dksX4_fewest_4 10 rfl rfl)
theorem dX4_fewest_103 : decode cX4_fewest 103 = .ok (.iadd, 1) := dk_96 (dk_at dksX4_fewest_4 11 rfl rfl)
theorem dX4_fewest_104 : decode cX4_fewest 104 = .ok (.iload 7, 2) := dk_21 7 (dk_at dksX4_fewest_4 12 rfl rfl)
theorem dX4_fewest_106 : decode cX4_fewest 106 = .ok (.iload_n 3, 1) := dk_29 (dk_at dksX4_fewest_4 14 rfl rfl)
theorem dX4_fewest_107 : decode cX4_fewest 107 = .ok (.iload 4, 2) := dk_21 4 (dk_at dksX4_fewest_4 15 rfl rfl)
theorem dX4_fewest_109 : decode cX4_fewest 109 = .ok (.iconst 1, 1) := dk_4 (dk_at dksX4_fewest_4 17 rfl rfl)
theorem dX4_fewest_110 : decode cX4_fewest 110 = .ok (.isub, 1) := dk_100 (dk_at dksX4_fewest_4 18 rfl rfl)
theorem dX4_fewest_111 : decode cX4_fewest 111 = .ok (.invokestatic 375, 3) := dk_184 1 119 (dk_at dksX4_fewest_4 19 rfl rfl)
theorem dX4_fewest_114 : decode cX4_fewest 114 = .ok (.iaload, 1) := dk_46 (dk_at dksX4_fewest_4 22 rfl rfl)
theorem dX4_fewest_115 : decode cX4_fewest 115 = .ok (.iadd, 1) := dk_96 (dk_at dksX4_fewest_4 23 rfl rfl)
theorem dX4_fewest_116 : decode cX4_fewest 116 = .ok (.invokestatic 394, 3) := dk_184 1 138 (dk_at dksX4_fewest_5 0 rfl rfl)
theorem dX4_fewest_119 : decode cX4_fewest 119 = .ok (.istore 5, 2) := dk_54 5 (dk_at dksX4_fewest_5 3 rfl rfl)
theorem dX4_fewest_121 : decode cX4_fewest 121 = .ok (.iload 5, 2) := dk_21 5 (dk_at dksX4_fewest_5 5 rfl rfl)
theorem dX4_fewest_123 : decode cX4_fewest 123 = .ok (.ireturn, 1) := dk_172 (dk_at dksX4_fewest_5 7 rfl rfl)
abbrev cX4_helpedBy : ByteArray := prog_29_method_79_code
def yX4_helpedBy : MethodName := ⟨RX4, "helpedBy", "(II)I"⟩
def dkwX4_helpedBy_1 : List UInt8 := [160, 0, 7, 4, 167, 0, 4, 3, 172]
abbrev dktX4_helpedBy_1 : List UInt8 := dkwX4_helpedBy_1 ++ []
def dkwX4_helpedBy_0 : List UInt8 := [42, 27, 3, 182, 0, 150, 158, 0, 23, 28, 42, 27, 3, 182, 0, 150, 4, 100, 122, 4, 126, 4]
abbrev dktX4_helpedBy_0 : List UInt8 := dkwX4_helpedBy_0 ++ dktX4_helpedBy_1
theorem dksX4_helpedBy_0 : cX4_helpedBy.data.toList.drop 0 = dktX4_helpedBy_0 := by decide +kernel
theorem dksX4_helpedBy_1 : cX4_helpedBy.data.toList.drop 22 = dktX4_helpedBy_1 := dk_seg dksX4_helpedBy_0 22 rfl rfl
theorem dX4_helpedBy_0 : decode cX4_helpedBy 0 = .ok (.aload_n 0, 1) := dk_42 (dk_at dksX4_helpedBy_0 0 rfl rfl)
theorem dX4_helpedBy_1 : decode cX4_helpedBy 1 = .ok (.iload_n 1, 1) := dk_27 (dk_at dksX4_helpedBy_0 1 rfl rfl)
theorem dX4_helpedBy_2 : decode cX4_helpedBy 2 = .ok (.iconst 0, 1) := dk_3 (dk_at dksX4_helpedBy_0 2 rfl rfl)
theorem dX4_helpedBy_3 : decode cX4_helpedBy 3 = .ok (.invokevirtual 150, 3) := dk_182 0 150 (dk_at dksX4_helpedBy_0 3 rfl rfl)
theorem dX4_helpedBy_6 : decode cX4_helpedBy 6 = .ok (.ifCond .le 23, 3) := dk_158 0 23 (dk_at dksX4_helpedBy_0 6 rfl rfl)
theorem dX4_helpedBy_9 : decode cX4_helpedBy 9 = .ok (.iload_n 2, 1) := dk_28 (dk_at dksX4_helpedBy_0 9 rfl rfl)
theorem dX4_helpedBy_10 : decode cX4_helpedBy 10 = .ok (.aload_n 0, 1) := dk_42 (dk_at dksX4_helpedBy_0 10 rfl rfl)
theorem dX4_helpedBy_11 : decode cX4_helpedBy 11 = .ok (.iload_n 1, 1) := dk_27 (dk_at dksX4_helpedBy_0 11 rfl rfl)
theorem dX4_helpedBy_12 : decode cX4_helpedBy 12 = .ok (.iconst 0, 1) := dk_3 (dk_at dksX4_helpedBy_0 12 rfl rfl)
theorem dX4_helpedBy_13 : decode cX4_helpedBy 13 = .ok (.invokevirtual 150, 3) := dk_182 0 150 (dk_at dksX4_helpedBy_0 13 rfl rfl)
theorem dX4_helpedBy_16 : decode cX4_helpedBy 16 = .ok (.iconst 1, 1) := dk_4 (dk_at dksX4_helpedBy_0 16 rfl rfl)
theorem dX4_helpedBy_17 : decode cX4_helpedBy 17 = .ok (.isub, 1) := dk_100 (dk_at dksX4_helpedBy_0 17 rfl rfl)
theorem dX4_helpedBy_18 : decode cX4_helpedBy 18 = .ok (.ishr, 1) := dk_122 (dk_at dksX4_helpedBy_0 18 rfl rfl)
theorem dX4_helpedBy_19 : decode cX4_helpedBy 19 = .ok (.iconst 1, 1) := dk_4 (dk_at dksX4_helpedBy_0 19 rfl rfl)
theorem dX4_helpedBy_20 : decode cX4_helpedBy 20 = .ok (.iand, 1) := dk_126 (dk_at dksX4_helpedBy_0 20 rfl rfl)
theorem dX4_helpedBy_21 : decode cX4_helpedBy 21 = .ok (.iconst 1, 1) := dk_4 (dk_at dksX4_helpedBy_0 21 rfl rfl)
theorem dX4_helpedBy_22 : decode cX4_helpedBy 22 = .ok (.if_icmp .ne 7, 3) := dk_160 0 7 (dk_at dksX4_helpedBy_1 0 rfl rfl)
theorem dX4_helpedBy_25 : decode cX4_helpedBy 25 = .ok (.iconst 1, 1) := dk_4 (dk_at dksX4_helpedBy_1 3 rfl rfl)
theorem dX4_helpedBy_26 : decode cX4_helpedBy 26 = .ok (.goto 4, 3) := dk_167 0 4 (dk_at dksX4_helpedBy_1 4 rfl rfl)
theorem dX4_helpedBy_29 : decode cX4_helpedBy 29 = .ok (.iconst 0, 1) := dk_3 (dk_at dksX4_helpedBy_1 7 rfl rfl)
theorem dX4_helpedBy_30 : decode cX4_helpedBy 30 = .ok (.ireturn, 1) := dk_172 (dk_at dksX4_helpedBy_1 8 rfl rfl)
abbrev cX4_kingsWith : ByteArray := prog_29_method_80_code
def yX4_kingsWith : MethodName := ⟨RX4, "kingsWith", "(II)I"⟩
def dkwX4_kingsWith_1 : List UInt8 := [28, 172]
abbrev dktX4_kingsWith_1 : List UInt8 := dkwX4_kingsWith_1 ++ []
def dkwX4_kingsWith_0 : List UInt8 := [42, 27, 3, 182, 0, 150, 158, 0, 18, 28, 4, 42, 27, 3, 182, 0, 150, 4, 100, 120, 128, 167, 0, 4]
abbrev dktX4_kingsWith_0 : List UInt8 := dkwX4_kingsWith_0 ++ dktX4_kingsWith_1
theorem dksX4_kingsWith_0 : cX4_kingsWith.data.toList.drop 0 = dktX4_kingsWith_0 := by decide +kernel
theorem dksX4_kingsWith_1 : cX4_kingsWith.data.toList.drop 24 = dktX4_kingsWith_1 := dk_seg dksX4_kingsWith_0 24 rfl rfl
theorem dX4_kingsWith_0 : decode cX4_kingsWith 0 = .ok (.aload_n 0, 1) := dk_42 (dk_at dksX4_kingsWith_0 0 rfl rfl)
theorem dX4_kingsWith_1 : decode cX4_kingsWith 1 = .ok (.iload_n 1, 1) := dk_27 (dk_at dksX4_kingsWith_0 1 rfl rfl)
theorem dX4_kingsWith_2 : decode cX4_kingsWith 2 = .ok (.iconst 0, 1) := dk_3 (dk_at dksX4_kingsWith_0 2 rfl rfl)
theorem dX4_kingsWith_3 : decode cX4_kingsWith 3 = .ok (.invokevirtual 150, 3) := dk_182 0 150 (dk_at dksX4_kingsWith_0 3 rfl rfl)
theorem dX4_kingsWith_6 : decode cX4_kingsWith 6 = .ok (.ifCond .le 18, 3) := dk_158 0 18 (dk_at dksX4_kingsWith_0 6 rfl rfl)
theorem dX4_kingsWith_9 : decode cX4_kingsWith 9 = .ok (.iload_n 2, 1) := dk_28 (dk_at dksX4_kingsWith_0 9 rfl rfl)
theorem dX4_kingsWith_10 : decode cX4_kingsWith 10 = .ok (.iconst 1, 1) := dk_4 (dk_at dksX4_kingsWith_0 10 rfl rfl)
theorem dX4_kingsWith_11 : decode cX4_kingsWith 11 = .ok (.aload_n 0, 1) := dk_42 (dk_at dksX4_kingsWith_0 11 rfl rfl)
theorem dX4_kingsWith_12 : decode cX4_kingsWith 12 = .ok (.iload_n 1, 1) := dk_27 (dk_at dksX4_kingsWith_0 12 rfl rfl)
theorem dX4_kingsWith_13 : decode cX4_kingsWith 13 = .ok (.iconst 0, 1) := dk_3 (dk_at dksX4_kingsWith_0 13 rfl rfl)
theorem dX4_kingsWith_14 : decode cX4_kingsWith 14 = .ok (.invokevirtual 150, 3) := dk_182 0 150 (dk_at dksX4_kingsWith_0 14 rfl rfl)
theorem dX4_kingsWith_17 : decode cX4_kingsWith 17 = .ok (.iconst 1, 1) := dk_4 (dk_at dksX4_kingsWith_0 17 rfl rfl)
theorem dX4_kingsWith_18 : decode cX4_kingsWith 18 = .ok (.isub, 1) := dk_100 (dk_at dksX4_kingsWith_0 18 rfl rfl)
theorem dX4_kingsWith_19 : decode cX4_kingsWith 19 = .ok (.ishl, 1) := dk_120 (dk_at dksX4_kingsWith_0 19 rfl rfl)
theorem dX4_kingsWith_20 : decode cX4_kingsWith 20 = .ok (.ior, 1) := dk_128 (dk_at dksX4_kingsWith_0 20 rfl rfl)
theorem dX4_kingsWith_21 : decode cX4_kingsWith 21 = .ok (.goto 4, 3) := dk_167 0 4 (dk_at dksX4_kingsWith_0 21 rfl rfl)
theorem dX4_kingsWith_24 : decode cX4_kingsWith 24 = .ok (.iload_n 2, 1) := dk_28 (dk_at dksX4_kingsWith_1 0 rfl rfl)
theorem dX4_kingsWith_25 : decode cX4_kingsWith 25 = .ok (.ireturn, 1) := dk_172 (dk_at dksX4_kingsWith_1 1 rfl rfl)
abbrev cX4_costOf : ByteArray := prog_29_method_81_code
def yX4_costOf : MethodName := ⟨RX4, "costOf", "(III)I"⟩
def dkwX4_costOf_2 : List UInt8 := [29, 104, 96, 4, 96, 46, 96, 172]
abbrev dktX4_costOf_2 : List UInt8 := dkwX4_costOf_2 ++ []
def dkwX4_costOf_1 : List UInt8 := [46, 167, 0, 30, 42, 180, 0, 81, 7, 27, 104, 5, 29, 104, 96, 46, 42, 180, 0, 81, 7, 27, 104, 5]
abbrev dktX4_costOf_1 : List UInt8 := dkwX4_costOf_1 ++ dktX4_costOf_2
def dkwX4_costOf_0 : List UInt8 := [28, 154, 0, 7, 3, 167, 0, 50, 28, 4, 160, 0, 18, 42, 180, 0, 81, 7, 27, 104, 5, 29, 104, 96]
abbrev dktX4_costOf_0 : List UInt8 := dkwX4_costOf_0 ++ dktX4_costOf_1
theorem dksX4_costOf_0 : cX4_costOf.data.toList.drop 0 = dktX4_costOf_0 := by decide +kernel
theorem dksX4_costOf_1 : cX4_costOf.data.toList.drop 24 = dktX4_costOf_1 := dk_seg dksX4_costOf_0 24 rfl rfl
theorem dksX4_costOf_2 : cX4_costOf.data.toList.drop 48 = dktX4_costOf_2 := dk_seg dksX4_costOf_1 24 rfl rfl
theorem dX4_costOf_0 : decode cX4_costOf 0 = .ok (.iload_n 2, 1) := dk_28 (dk_at dksX4_costOf_0 0 rfl rfl)
theorem dX4_costOf_1 : decode cX4_costOf 1 = .ok (.ifCond .ne 7, 3) := dk_154 0 7 (dk_at dksX4_costOf_0 1 rfl rfl)
theorem dX4_costOf_4 : decode cX4_costOf 4 = .ok (.iconst 0, 1) := dk_3 (dk_at dksX4_costOf_0 4 rfl rfl)
theorem dX4_costOf_5 : decode cX4_costOf 5 = .ok (.goto 50, 3) := dk_167 0 50 (dk_at dksX4_costOf_0 5 rfl rfl)
theorem dX4_costOf_8 : decode cX4_costOf 8 = .ok (.iload_n 2, 1) := dk_28 (dk_at dksX4_costOf_0 8 rfl rfl)
theorem dX4_costOf_9 : decode cX4_costOf 9 = .ok (.iconst 1, 1) := dk_4 (dk_at dksX4_costOf_0 9 rfl rfl)
theorem dX4_costOf_10 : decode cX4_costOf 10 = .ok (.if_icmp .ne 18, 3) := dk_160 0 18 (dk_at dksX4_costOf_0 10 rfl rfl)
theorem dX4_costOf_13 : decode cX4_costOf 13 = .ok (.aload_n 0, 1) := dk_42 (dk_at dksX4_costOf_0 13 rfl rfl)
theorem dX4_costOf_14 : decode cX4_costOf 14 = .ok (.getfield 81, 3) := dk_180 0 81 (dk_at dksX4_costOf_0 14 rfl rfl)
theorem dX4_costOf_17 : decode cX4_costOf 17 = .ok (.iconst 4, 1) := dk_7 (dk_at dksX4_costOf_0 17 rfl rfl)
theorem dX4_costOf_18 : decode cX4_costOf 18 = .ok (.iload_n 1, 1) := dk_27 (dk_at dksX4_costOf_0 18 rfl rfl)
theorem dX4_costOf_19 : decode cX4_costOf 19 = .ok (.imul, 1) := dk_104 (dk_at dksX4_costOf_0 19 rfl rfl)
theorem dX4_costOf_20 : decode cX4_costOf 20 = .ok (.iconst 2, 1) := dk_5 (dk_at dksX4_costOf_0 20 rfl rfl)
theorem dX4_costOf_21 : decode cX4_costOf 21 = .ok (.iload_n 3, 1) := dk_29 (dk_at dksX4_costOf_0 21 rfl rfl)
theorem dX4_costOf_22 : decode cX4_costOf 22 = .ok (.imul, 1) := dk_104 (dk_at dksX4_costOf_0 22 rfl rfl)
theorem dX4_costOf_23 : decode cX4_costOf 23 = .ok (.iadd, 1) := dk_96 (dk_at dksX4_costOf_0 23 rfl rfl)
theorem dX4_costOf_24 : decode cX4_costOf 24 = .ok (.iaload, 1) := dk_46 (dk_at dksX4_costOf_1 0 rfl rfl)
theorem dX4_costOf_25 : decode cX4_costOf 25 = .ok (.goto 30, 3) := dk_167 0 30 (dk_at dksX4_costOf_1 1 rfl rfl)
theorem dX4_costOf_28 : decode cX4_costOf 28 = .ok (.aload_n 0, 1) := dk_42 (dk_at dksX4_costOf_1 4 rfl rfl)
theorem dX4_costOf_29 : decode cX4_costOf 29 = .ok (.getfield 81, 3) := dk_180 0 81 (dk_at dksX4_costOf_1 5 rfl rfl)
theorem dX4_costOf_32 : decode cX4_costOf 32 = .ok (.iconst 4, 1) := dk_7 (dk_at dksX4_costOf_1 8 rfl rfl)
theorem dX4_costOf_33 : decode cX4_costOf 33 = .ok (.iload_n 1, 1) := dk_27 (dk_at dksX4_costOf_1 9 rfl rfl)
theorem dX4_costOf_34 : decode cX4_costOf 34 = .ok (.imul, 1) := dk_104 (dk_at dksX4_costOf_1 10 rfl rfl)
theorem dX4_costOf_35 : decode cX4_costOf 35 = .ok (.iconst 2, 1) := dk_5 (dk_at dksX4_costOf_1 11 rfl rfl)
theorem dX4_costOf_36 : decode cX4_costOf 36 = .ok (.iload_n 3, 1) := dk_29 (dk_at dksX4_costOf_1 12 rfl rfl)
theorem dX4_costOf_37 : decode cX4_costOf 37 = .ok (.imul, 1) := dk_104 (dk_at dksX4_costOf_1 13 rfl rfl)
theorem dX4_costOf_38 : decode cX4_costOf 38 = .ok (.iadd, 1) := dk_96 (dk_at dksX4_costOf_1 14 rfl rfl)
theorem dX4_costOf_39 : decode cX4_costOf 39 = .ok (.iaload, 1) := dk_46 (dk_at dksX4_costOf_1 15 rfl rfl)
theorem dX4_costOf_40 : decode cX4_costOf 40 = .ok (.aload_n 0, 1) := dk_42 (dk_at dksX4_costOf_1 16 rfl rfl)
theorem dX4_costOf_41 : decode cX4_costOf 41 = .ok (.getfield 81, 3) := dk_180 0 81 (dk_at dksX4_costOf_1 17 rfl rfl)
theorem dX4_costOf_44 : decode cX4_costOf 44 = .ok (.iconst 4, 1) := dk_7 (dk_at dksX4_costOf_1 20 rfl rfl)
theorem dX4_costOf_45 : decode cX4_costOf 45 = .ok (.iload_n 1, 1) := dk_27 (dk_at dksX4_costOf_1 21 rfl rfl)
theorem dX4_costOf_46 : decode cX4_costOf 46 = .ok (.imul, 1) := dk_104 (dk_at dksX4_costOf_1 22 rfl rfl)
theorem dX4_costOf_47 : decode cX4_costOf 47 = .ok (.iconst 2, 1) := dk_5 (dk_at dksX4_costOf_1 23 rfl rfl)
theorem dX4_costOf_48 : decode cX4_costOf 48 = .ok (.iload_n 3, 1) := dk_29 (dk_at dksX4_costOf_2 0 rfl rfl)
theorem dX4_costOf_49 : decode cX4_costOf 49 = .ok (.imul, 1) := dk_104 (dk_at dksX4_costOf_2 1 rfl rfl)
theorem dX4_costOf_50 : decode cX4_costOf 50 = .ok (.iadd, 1) := dk_96 (dk_at dksX4_costOf_2 2 rfl rfl)
theorem dX4_costOf_51 : decode cX4_costOf 51 = .ok (.iconst 1, 1) := dk_4 (dk_at dksX4_costOf_2 3 rfl rfl)
theorem dX4_costOf_52 : decode cX4_costOf 52 = .ok (.iadd, 1) := dk_96 (dk_at dksX4_costOf_2 4 rfl rfl)
theorem dX4_costOf_53 : decode cX4_costOf 53 = .ok (.iaload, 1) := dk_46 (dk_at dksX4_costOf_2 5 rfl rfl)
theorem dX4_costOf_54 : decode cX4_costOf 54 = .ok (.iadd, 1) := dk_96 (dk_at dksX4_costOf_2 6 rfl rfl)
theorem dX4_costOf_55 : decode cX4_costOf 55 = .ok (.ireturn, 1) := dk_172 (dk_at dksX4_costOf_2 7 rfl rfl)
abbrev cX4_lesser : ByteArray := prog_29_method_84_code
def yX4_lesser : MethodName := ⟨RX4, "lesser", "(II)I"⟩
def dkwX4_lesser_0 : List UInt8 := [26, 27, 162, 0, 7, 26, 167, 0, 4, 27, 172]
abbrev dktX4_lesser_0 : List UInt8 := dkwX4_lesser_0 ++ []
theorem dksX4_lesser_0 : cX4_lesser.data.toList.drop 0 = dktX4_lesser_0 := by decide +kernel
theorem dX4_lesser_0 : decode cX4_lesser 0 = .ok (.iload_n 0, 1) := dk_26 (dk_at dksX4_lesser_0 0 rfl rfl)
theorem dX4_lesser_1 : decode cX4_lesser 1 = .ok (.iload_n 1, 1) := dk_27 (dk_at dksX4_lesser_0 1 rfl rfl)
theorem dX4_lesser_2 : decode cX4_lesser 2 = .ok (.if_icmp .ge 7, 3) := dk_162 0 7 (dk_at dksX4_lesser_0 2 rfl rfl)
theorem dX4_lesser_5 : decode cX4_lesser 5 = .ok (.iload_n 0, 1) := dk_26 (dk_at dksX4_lesser_0 5 rfl rfl)
theorem dX4_lesser_6 : decode cX4_lesser 6 = .ok (.goto 4, 3) := dk_167 0 4 (dk_at dksX4_lesser_0 6 rfl rfl)
theorem dX4_lesser_9 : decode cX4_lesser 9 = .ok (.iload_n 1, 1) := dk_27 (dk_at dksX4_lesser_0 9 rfl rfl)
theorem dX4_lesser_10 : decode cX4_lesser 10 = .ok (.ireturn, 1) := dk_172 (dk_at dksX4_lesser_0 10 rfl rfl)
abbrev cX4_level : ByteArray := prog_29_method_89_code
def yX4_level : MethodName := ⟨RX4, "level", "(II)I"⟩
def dkwX4_level_1 : List UInt8 := [182, 1, 157, 42, 180, 0, 87, 28, 46, 172]
abbrev dktX4_level_1 : List UInt8 := dkwX4_level_1 ++ []
def dkwX4_level_0 : List UInt8 := [27, 3, 17, 1, 144, 184, 0, 135, 153, 0, 11, 42, 28, 182, 0, 158, 154, 0, 5, 2, 172, 42, 27]
abbrev dktX4_level_0 : List UInt8 := dkwX4_level_0 ++ dktX4_level_1
theorem dksX4_level_0 : cX4_level.data.toList.drop 0 = dktX4_level_0 := by decide +kernel
theorem dksX4_level_1 : cX4_level.data.toList.drop 23 = dktX4_level_1 := dk_seg dksX4_level_0 23 rfl rfl
theorem dX4_level_0 : decode cX4_level 0 = .ok (.iload_n 1, 1) := dk_27 (dk_at dksX4_level_0 0 rfl rfl)
theorem dX4_level_1 : decode cX4_level 1 = .ok (.iconst 0, 1) := dk_3 (dk_at dksX4_level_0 1 rfl rfl)
theorem dX4_level_2 : decode cX4_level 2 = .ok (.sipush 400, 3) := dk_17 1 144 (dk_at dksX4_level_0 2 rfl rfl)
theorem dX4_level_5 : decode cX4_level 5 = .ok (.invokestatic 135, 3) := dk_184 0 135 (dk_at dksX4_level_0 5 rfl rfl)
theorem dX4_level_8 : decode cX4_level 8 = .ok (.ifCond .eq 11, 3) := dk_153 0 11 (dk_at dksX4_level_0 8 rfl rfl)
theorem dX4_level_11 : decode cX4_level 11 = .ok (.aload_n 0, 1) := dk_42 (dk_at dksX4_level_0 11 rfl rfl)
theorem dX4_level_12 : decode cX4_level 12 = .ok (.iload_n 2, 1) := dk_28 (dk_at dksX4_level_0 12 rfl rfl)
theorem dX4_level_13 : decode cX4_level 13 = .ok (.invokevirtual 158, 3) := dk_182 0 158 (dk_at dksX4_level_0 13 rfl rfl)
theorem dX4_level_16 : decode cX4_level 16 = .ok (.ifCond .ne 5, 3) := dk_154 0 5 (dk_at dksX4_level_0 16 rfl rfl)
theorem dX4_level_19 : decode cX4_level 19 = .ok (.iconst (-1), 1) := dk_2 (dk_at dksX4_level_0 19 rfl rfl)
theorem dX4_level_20 : decode cX4_level 20 = .ok (.ireturn, 1) := dk_172 (dk_at dksX4_level_0 20 rfl rfl)
theorem dX4_level_21 : decode cX4_level 21 = .ok (.aload_n 0, 1) := dk_42 (dk_at dksX4_level_0 21 rfl rfl)
theorem dX4_level_22 : decode cX4_level 22 = .ok (.iload_n 1, 1) := dk_27 (dk_at dksX4_level_0 22 rfl rfl)
theorem dX4_level_23 : decode cX4_level 23 = .ok (.invokevirtual 413, 3) := dk_182 1 157 (dk_at dksX4_level_1 0 rfl rfl)
theorem dX4_level_26 : decode cX4_level 26 = .ok (.aload_n 0, 1) := dk_42 (dk_at dksX4_level_1 3 rfl rfl)
theorem dX4_level_27 : decode cX4_level 27 = .ok (.getfield 87, 3) := dk_180 0 87 (dk_at dksX4_level_1 4 rfl rfl)
theorem dX4_level_30 : decode cX4_level 30 = .ok (.iload_n 2, 1) := dk_28 (dk_at dksX4_level_1 7 rfl rfl)
theorem dX4_level_31 : decode cX4_level 31 = .ok (.iaload, 1) := dk_46 (dk_at dksX4_level_1 8 rfl rfl)
theorem dX4_level_32 : decode cX4_level 32 = .ok (.ireturn, 1) := dk_172 (dk_at dksX4_level_1 9 rfl rfl)
abbrev cX4_firsts : ByteArray := prog_29_method_88_code
def yX4_firsts : MethodName := ⟨RX4, "firsts", "(I)V"⟩
def dkwX4_firsts_11 : List UInt8 := [167, 255, 19, 177]
abbrev dktX4_firsts_11 : List UInt8 := dkwX4_firsts_11 ++ []
def dkwX4_firsts_10 : List UInt8 := [21, 4, 42, 180, 0, 87, 21, 6, 46, 5, 160, 0, 7, 4, 167, 0, 4, 3, 96, 54, 4, 132, 6, 1]
abbrev dktX4_firsts_10 : List UInt8 := dkwX4_firsts_10 ++ dktX4_firsts_11
def dkwX4_firsts_9 : List UInt8 := [182, 1, 131, 61, 29, 42, 180, 0, 87, 21, 6, 46, 4, 160, 0, 7, 4, 167, 0, 4, 3, 96, 62]
abbrev dktX4_firsts_9 : List UInt8 := dkwX4_firsts_9 ++ dktX4_firsts_10
def dkwX4_firsts_8 : List UInt8 := [182, 1, 134, 100, 54, 5, 42, 180, 0, 87, 21, 6, 46, 154, 0, 7, 28, 167, 0, 10, 42, 21, 6, 28]
abbrev dktX4_firsts_8 : List UInt8 := dkwX4_firsts_8 ++ dktX4_firsts_9
def dkwX4_firsts_7 : List UInt8 := [167, 255, 144, 21, 5, 42, 21, 6, 42, 180, 0, 87, 21, 6, 46, 42, 21, 6, 28, 182, 1, 128]
abbrev dktX4_firsts_7 : List UInt8 := dkwX4_firsts_7 ++ dktX4_firsts_8
def dkwX4_firsts_6 : List UInt8 := [21, 5, 21, 8, 100, 182, 1, 153, 153, 0, 12, 42, 180, 0, 87, 21, 6, 21, 7, 79, 132, 7, 1]
abbrev dktX4_firsts_6 : List UInt8 := dkwX4_firsts_6 ++ dktX4_firsts_7
def dkwX4_firsts_5 : List UInt8 := [160, 0, 7, 4, 167, 0, 4, 3, 96, 21, 4, 21, 7, 5, 160, 0, 7, 4, 167, 0, 4, 3, 96]
abbrev dktX4_firsts_5 : List UInt8 := dkwX4_firsts_5 ++ dktX4_firsts_6
def dkwX4_firsts_4 : List UInt8 := [21, 6, 4, 96, 21, 7, 154, 0, 7, 28, 167, 0, 10, 42, 21, 6, 28, 182, 1, 131, 29, 21, 7, 4]
abbrev dktX4_firsts_4 : List UInt8 := dkwX4_firsts_4 ++ dktX4_firsts_5
def dkwX4_firsts_3 : List UInt8 := [21, 6, 21, 7, 42, 21, 6, 28, 182, 1, 128, 182, 1, 134, 54, 8, 21, 8, 21, 5, 163, 0, 71, 42]
abbrev dktX4_firsts_3 : List UInt8 := dkwX4_firsts_3 ++ dktX4_firsts_4
def dkwX4_firsts_2 : List UInt8 := [167, 0, 208, 3, 54, 7, 21, 7, 6, 162, 0, 112, 42, 180, 0, 87, 21, 6, 46, 2, 160, 0, 101, 42]
abbrev dktX4_firsts_2 : List UInt8 := dkwX4_firsts_2 ++ dktX4_firsts_3
def dkwX4_firsts_1 : List UInt8 := [182, 0, 146, 162, 0, 234, 42, 180, 0, 87, 21, 6, 2, 79, 42, 21, 6, 182, 0, 154, 154, 0, 6]
abbrev dktX4_firsts_1 : List UInt8 := dkwX4_firsts_1 ++ dktX4_firsts_2
def dkwX4_firsts_0 : List UInt8 := [42, 27, 182, 1, 150, 3, 61, 3, 62, 3, 54, 4, 42, 180, 1, 147, 54, 5, 3, 54, 6, 21, 6, 42]
abbrev dktX4_firsts_0 : List UInt8 := dkwX4_firsts_0 ++ dktX4_firsts_1
theorem dksX4_firsts_0 : cX4_firsts.data.toList.drop 0 = dktX4_firsts_0 := by decide +kernel
theorem dksX4_firsts_1 : cX4_firsts.data.toList.drop 24 = dktX4_firsts_1 := dk_seg dksX4_firsts_0 24 rfl rfl
theorem dksX4_firsts_2 : cX4_firsts.data.toList.drop 47 = dktX4_firsts_2 := dk_seg dksX4_firsts_1 23 rfl rfl
theorem dksX4_firsts_3 : cX4_firsts.data.toList.drop 71 = dktX4_firsts_3 := dk_seg dksX4_firsts_2 24 rfl rfl
theorem dksX4_firsts_4 : cX4_firsts.data.toList.drop 95 = dktX4_firsts_4 := dk_seg dksX4_firsts_3 24 rfl rfl
theorem dksX4_firsts_5 : cX4_firsts.data.toList.drop 119 = dktX4_firsts_5 := dk_seg dksX4_firsts_4 24 rfl rfl
theorem dksX4_firsts_6 : cX4_firsts.data.toList.drop 142 = dktX4_firsts_6 := dk_seg dksX4_firsts_5 23 rfl rfl
theorem dksX4_firsts_7 : cX4_firsts.data.toList.drop 165 = dktX4_firsts_7 := dk_seg dksX4_firsts_6 23 rfl rfl
theorem dksX4_firsts_8 : cX4_firsts.data.toList.drop 187 = dktX4_firsts_8 := dk_seg dksX4_firsts_7 22 rfl rfl
theorem dksX4_firsts_9 : cX4_firsts.data.toList.drop 211 = dktX4_firsts_9 := dk_seg dksX4_firsts_8 24 rfl rfl
theorem dksX4_firsts_10 : cX4_firsts.data.toList.drop 234 = dktX4_firsts_10 := dk_seg dksX4_firsts_9 23 rfl rfl
theorem dksX4_firsts_11 : cX4_firsts.data.toList.drop 258 = dktX4_firsts_11 := dk_seg dksX4_firsts_10 24 rfl rfl
theorem dX4_firsts_0 : decode cX4_firsts 0 = .ok (.aload_n 0, 1) := dk_42 (dk_at dksX4_firsts_0 0 rfl rfl)
theorem dX4_firsts_1 : decode cX4_firsts 1 = .ok (.iload_n 1, 1) := dk_27 (dk_at dksX4_firsts_0 1 rfl rfl)
theorem dX4_firsts_2 : decode cX4_firsts 2 = .ok (.invokevirtual 406, 3) := dk_182 1 150 (dk_at dksX4_firsts_0 2 rfl rfl)
theorem dX4_firsts_5 : decode cX4_firsts 5 = .ok (.iconst 0, 1) := dk_3 (dk_at dksX4_firsts_0 5 rfl rfl)
theorem dX4_firsts_6 : decode cX4_firsts 6 = .ok (.istore_n 2, 1) := dk_61 (dk_at dksX4_firsts_0 6 rfl rfl)
theorem dX4_firsts_7 : decode cX4_firsts 7 = .ok (.iconst 0, 1) := dk_3 (dk_at dksX4_firsts_0 7 rfl rfl)
theorem dX4_firsts_8 : decode cX4_firsts 8 = .ok (.istore_n 3, 1) := dk_62 (dk_at dksX4_firsts_0 8 rfl rfl)
theorem dX4_firsts_9 : decode cX4_firsts 9 = .ok (.iconst 0, 1) := dk_3 (dk_at dksX4_firsts_0 9 rfl rfl)
theorem dX4_firsts_10 : decode cX4_firsts 10 = .ok (.istore 4, 2) := dk_54 4 (dk_at dksX4_firsts_0 10 rfl rfl)
theorem dX4_firsts_12 : decode cX4_firsts 12 = .ok (.aload_n 0, 1) := dk_42 (dk_at dksX4_firsts_0 12 rfl rfl)
theorem dX4_firsts_13 : decode cX4_firsts 13 = .ok (.getfield 403, 3) := dk_180 1 147 (dk_at dksX4_firsts_0 13 rfl rfl)
theorem dX4_firsts_16 : decode cX4_firsts 16 = .ok (.istore 5, 2) := dk_54 5 (dk_at dksX4_firsts_0 16 rfl rfl)
theorem dX4_firsts_18 : decode cX4_firsts 18 = .ok (.iconst 0, 1) := dk_3 (dk_at dksX4_firsts_0 18 rfl rfl)
theorem dX4_firsts_19 : decode cX4_firsts 19 = .ok (.istore 6, 2) := dk_54 6 (dk_at dksX4_firsts_0 19 rfl rfl)
theorem dX4_firsts_21 : decode cX4_firsts 21 = .ok (.iload 6, 2) := dk_21 6 (dk_at dksX4_firsts_0 21 rfl rfl)
theorem dX4_firsts_23 : decode cX4_firsts 23 = .ok (.aload_n 0, 1) := dk_42 (dk_at dksX4_firsts_0 23 rfl rfl)
theorem dX4_firsts_24 : decode cX4_firsts 24 = .ok (.invokevirtual 146, 3) := dk_182 0 146 (dk_at dksX4_firsts_1 0 rfl rfl)
theorem dX4_firsts_27 : decode cX4_firsts 27 = .ok (.if_icmp .ge 234, 3) := dk_162 0 234 (dk_at dksX4_firsts_1 3 rfl rfl)
theorem dX4_firsts_30 : decode cX4_firsts 30 = .ok (.aload_n 0, 1) := dk_42 (dk_at dksX4_firsts_1 6 rfl rfl)
theorem dX4_firsts_31 : decode cX4_firsts 31 = .ok (.getfield 87, 3) := dk_180 0 87 (dk_at dksX4_firsts_1 7 rfl rfl)
theorem dX4_firsts_34 : decode cX4_firsts 34 = .ok (.iload 6, 2) := dk_21 6 (dk_at dksX4_firsts_1 10 rfl rfl)
theorem dX4_firsts_36 : decode cX4_firsts 36 = .ok (.iconst (-1), 1) := dk_2 (dk_at dksX4_firsts_1 12 rfl rfl)
theorem dX4_firsts_37 : decode cX4_firsts 37 = .ok (.iastore, 1) := dk_79 (dk_at dksX4_firsts_1 13 rfl rfl)
theorem dX4_firsts_38 : decode cX4_firsts 38 = .ok (.aload_n 0, 1) := dk_42 (dk_at dksX4_firsts_1 14 rfl rfl)
theorem dX4_firsts_39 : decode cX4_firsts 39 = .ok (.iload 6, 2) := dk_21 6 (dk_at dksX4_firsts_1 15 rfl rfl)
theorem dX4_firsts_41 : decode cX4_firsts 41 = .ok (.invokevirtual 154, 3) := dk_182 0 154 (dk_at dksX4_firsts_1 17 rfl rfl)
theorem dX4_firsts_44 : decode cX4_firsts 44 = .ok (.ifCond .ne 6, 3) := dk_154 0 6 (dk_at dksX4_firsts_1 20 rfl rfl)
theorem dX4_firsts_47 : decode cX4_firsts 47 = .ok (.goto 208, 3) := dk_167 0 208 (dk_at dksX4_firsts_2 0 rfl rfl)
theorem dX4_firsts_50 : decode cX4_firsts 50 = .ok (.iconst 0, 1) := dk_3 (dk_at dksX4_firsts_2 3 rfl rfl)
theorem dX4_firsts_51 : decode cX4_firsts 51 = .ok (.istore 7, 2) := dk_54 7 (dk_at dksX4_firsts_2 4 rfl rfl)
theorem dX4_firsts_53 : decode cX4_firsts 53 = .ok (.iload 7, 2) := dk_21 7 (dk_at dksX4_firsts_2 6 rfl rfl)
theorem dX4_firsts_55 : decode cX4_firsts 55 = .ok (.iconst 3, 1) := dk_6 (dk_at dksX4_firsts_2 8 rfl rfl)
theorem dX4_firsts_56 : decode cX4_firsts 56 = .ok (.if_icmp .ge 112, 3) := dk_162 0 112 (dk_at dksX4_firsts_2 9 rfl rfl)
theorem dX4_firsts_59 : decode cX4_firsts 59 = .ok (.aload_n 0, 1) := dk_42 (dk_at dksX4_firsts_2 12 rfl rfl)
theorem dX4_firsts_60 : decode cX4_firsts 60 = .ok (.getfield 87, 3) := dk_180 0 87 (dk_at dksX4_firsts_2 13 rfl rfl)
theorem dX4_firsts_63 : decode cX4_firsts 63 = .ok (.iload 6, 2) := dk_21 6 (dk_at dksX4_firsts_2 16 rfl rfl)
theorem dX4_firsts_65 : decode cX4_firsts 65 = .ok (.iaload, 1) := dk_46 (dk_at dksX4_firsts_2 18 rfl rfl)
theorem dX4_firsts_66 : decode cX4_firsts 66 = .ok (.iconst (-1), 1) := dk_2 (dk_at dksX4_firsts_2 19 rfl rfl)
theorem dX4_firsts_67 : decode cX4_firsts 67 = .ok (.if_icmp .ne 101, 3) := dk_160 0 101 (dk_at dksX4_firsts_2 20 rfl rfl)
theorem dX4_firsts_70 : decode cX4_firsts 70 = .ok (.aload_n 0, 1) := dk_42 (dk_at dksX4_firsts_2 23 rfl rfl)
theorem dX4_firsts_71 : decode cX4_firsts 71 = .ok (.iload 6, 2) := dk_21 6 (dk_at dksX4_firsts_3 0 rfl rfl)
theorem dX4_firsts_73 : decode cX4_firsts 73 = .ok (.iload 7, 2) := dk_21 7 (dk_at dksX4_firsts_3 2 rfl rfl)
theorem dX4_firsts_75 : decode cX4_firsts 75 = .ok (.aload_n 0, 1) := dk_42 (dk_at dksX4_firsts_3 4 rfl rfl)
theorem dX4_firsts_76 : decode cX4_firsts 76 = .ok (.iload 6, 2) := dk_21 6 (dk_at dksX4_firsts_3 5 rfl rfl)
theorem dX4_firsts_78 : decode cX4_firsts 78 = .ok (.iload_n 2, 1) := dk_28 (dk_at dksX4_firsts_3 7 rfl rfl)
theorem dX4_firsts_79 : decode cX4_firsts 79 = .ok (.invokevirtual 384, 3) := dk_182 1 128 (dk_at dksX4_firsts_3 8 rfl rfl)
theorem dX4_firsts_82 : decode cX4_firsts 82 = .ok (.invokevirtual 390, 3) := dk_182 1 134 (dk_at dksX4_firsts_3 11 rfl rfl)
theorem dX4_firsts_85 : decode cX4_firsts 85 = .ok (.istore 8, 2) := dk_54 8 (dk_at dksX4_firsts_3 14 rfl rfl)
theorem dX4_firsts_87 : decode cX4_firsts 87 = .ok (.iload 8, 2) := dk_21 8 (dk_at dksX4_firsts_3 16 rfl rfl)
theorem dX4_firsts_89 : decode cX4_firsts 89 = .ok (.iload 5, 2) := dk_21 5 (dk_at dksX4_firsts_3 18 rfl rfl)
theorem dX4_firsts_91 : decode cX4_firsts 91 = .ok (.if_icmp .gt 71, 3) := dk_163 0 71 (dk_at dksX4_firsts_3 20 rfl rfl)
theorem dX4_firsts_94 : decode cX4_firsts 94 = .ok (.aload_n 0, 1) := dk_42 (dk_at dksX4_firsts_3 23 rfl rfl)
theorem dX4_firsts_95 : decode cX4_firsts 95 = .ok (.iload 6, 2) := dk_21 6 (dk_at dksX4_firsts_4 0 rfl rfl)
theorem dX4_firsts_97 : decode cX4_firsts 97 = .ok (.iconst 1, 1) := dk_4 (dk_at dksX4_firsts_4 2 rfl rfl)
theorem dX4_firsts_98 : decode cX4_firsts 98 = .ok (.iadd, 1) := dk_96 (dk_at dksX4_firsts_4 3 rfl rfl)
theorem dX4_firsts_99 : decode cX4_firsts 99 = .ok (.iload 7, 2) := dk_21 7 (dk_at dksX4_firsts_4 4 rfl rfl)
theorem dX4_firsts_101 : decode cX4_firsts 101 = .ok (.ifCond .ne 7, 3) := dk_154 0 7 (dk_at dksX4_firsts_4 6 rfl rfl)
theorem dX4_firsts_104 : decode cX4_firsts 104 = .ok (.iload_n 2, 1) := dk_28 (dk_at dksX4_firsts_4 9 rfl rfl)
theorem dX4_firsts_105 : decode cX4_firsts 105 = .ok (.goto 10, 3) := dk_167 0 10 (dk_at dksX4_firsts_4 10 rfl rfl)
theorem dX4_firsts_108 : decode cX4_firsts 108 = .ok (.aload_n 0, 1) := dk_42 (dk_at dksX4_firsts_4 13 rfl rfl)
theorem dX4_firsts_109 : decode cX4_firsts 109 = .ok (.iload 6, 2) := dk_21 6 (dk_at dksX4_firsts_4 14 rfl rfl)
theorem dX4_firsts_111 : decode cX4_firsts 111 = .ok (.iload_n 2, 1) := dk_28 (dk_at dksX4_firsts_4 16 rfl rfl)
theorem dX4_firsts_112 : decode cX4_firsts 112 = .ok (.invokevirtual 387, 3) := dk_182 1 131 (dk_at dksX4_firsts_4 17 rfl rfl)
theorem dX4_firsts_115 : decode cX4_firsts 115 = .ok (.iload_n 3, 1) := dk_29 (dk_at dksX4_firsts_4 20 rfl rfl)
theorem dX4_firsts_116 : decode cX4_firsts 116 = .ok (.iload 7, 2) := dk_21 7 (dk_at dksX4_firsts_4 21 rfl rfl)
theorem dX4_firsts_118 : decode cX4_firsts 118 = .ok (.iconst 1, 1) := dk_4 (dk_at dksX4_firsts_4 23 rfl rfl)
theorem dX4_firsts_119 : decode cX4_firsts 119 = .ok (.if_icmp .ne 7, 3) := dk_160 0 7 (dk_at dksX4_firsts_5 0 rfl rfl)
theorem dX4_firsts_122 : decode cX4_firsts 122 = .ok (.iconst 1, 1) := dk_4 (dk_at dksX4_firsts_5 3 rfl rfl)
theorem dX4_firsts_123 : decode cX4_firsts 123 = .ok (.goto 4, 3) := dk_167 0 4 (dk_at dksX4_firsts_5 4 rfl rfl)
theorem dX4_firsts_126 : decode cX4_firsts 126 = .ok (.iconst 0, 1) := dk_3 (dk_at dksX4_firsts_5 7 rfl rfl)
theorem dX4_firsts_127 : decode cX4_firsts 127 = .ok (.iadd, 1) := dk_96 (dk_at dksX4_firsts_5 8 rfl rfl)
theorem dX4_firsts_128 : decode cX4_firsts 128 = .ok (.iload 4, 2) := dk_21 4 (dk_at dksX4_firsts_5 9 rfl rfl)
theorem dX4_firsts_130 : decode cX4_firsts 130 = .ok (.iload 7, 2) := dk_21 7 (dk_at dksX4_firsts_5 11 rfl rfl)
theorem dX4_firsts_132 : decode cX4_firsts 132 = .ok (.iconst 2, 1) := dk_5 (dk_at dksX4_firsts_5 13 rfl rfl)
theorem dX4_firsts_133 : decode cX4_firsts 133 = .ok (.if_icmp .ne 7, 3) := dk_160 0 7 (dk_at dksX4_firsts_5 14 rfl rfl)
theorem dX4_firsts_136 : decode cX4_firsts 136 = .ok (.iconst 1, 1) := dk_4 (dk_at dksX4_firsts_5 17 rfl rfl)
theorem dX4_firsts_137 : decode cX4_firsts 137 = .ok (.goto 4, 3) := dk_167 0 4 (dk_at dksX4_firsts_5 18 rfl rfl)
theorem dX4_firsts_140 : decode cX4_firsts 140 = .ok (.iconst 0, 1) := dk_3 (dk_at dksX4_firsts_5 21 rfl rfl)
theorem dX4_firsts_141 : decode cX4_firsts 141 = .ok (.iadd, 1) := dk_96 (dk_at dksX4_firsts_5 22 rfl rfl)
theorem dX4_firsts_142 : decode cX4_firsts 142 = .ok (.iload 5, 2) := dk_21 5 (dk_at dksX4_firsts_6 0 rfl rfl)
theorem dX4_firsts_144 : decode cX4_firsts 144 = .ok (.iload 8, 2) := dk_21 8 (dk_at dksX4_firsts_6 2 rfl rfl)
theorem dX4_firsts_146 : decode cX4_firsts 146 = .ok (.isub, 1) := dk_100 (dk_at dksX4_firsts_6 4 rfl rfl)
theorem dX4_firsts_147 : decode cX4_firsts 147 = .ok (.invokevirtual 409, 3) := dk_182 1 153 (dk_at dksX4_firsts_6 5 rfl rfl)
theorem dX4_firsts_150 : decode cX4_firsts 150 = .ok (.ifCond .eq 12, 3) := dk_153 0 12 (dk_at dksX4_firsts_6 8 rfl rfl)
theorem dX4_firsts_153 : decode cX4_firsts 153 = .ok (.aload_n 0, 1) := dk_42 (dk_at dksX4_firsts_6 11 rfl rfl)
theorem dX4_firsts_154 : decode cX4_firsts 154 = .ok (.getfield 87, 3) := dk_180 0 87 (dk_at dksX4_firsts_6 12 rfl rfl)
theorem dX4_firsts_157 : decode cX4_firsts 157 = .ok (.iload 6, 2) := dk_21 6 (dk_at dksX4_firsts_6 15 rfl rfl)
theorem dX4_firsts_159 : decode cX4_firsts 159 = .ok (.iload 7, 2) := dk_21 7 (dk_at dksX4_firsts_6 17 rfl rfl)
theorem dX4_firsts_161 : decode cX4_firsts 161 = .ok (.iastore, 1) := dk_79 (dk_at dksX4_firsts_6 19 rfl rfl)
theorem dX4_firsts_162 : decode cX4_firsts 162 = .ok (.iinc 7 1, 3) := dk_132 7 1 (dk_at dksX4_firsts_6 20 rfl rfl)
theorem dX4_firsts_165 : decode cX4_firsts 165 = .ok (.goto (-112), 3) := dk_167 255 144 (dk_at dksX4_firsts_7 0 rfl rfl)
theorem dX4_firsts_168 : decode cX4_firsts 168 = .ok (.iload 5, 2) := dk_21 5 (dk_at dksX4_firsts_7 3 rfl rfl)
theorem dX4_firsts_170 : decode cX4_firsts 170 = .ok (.aload_n 0, 1) := dk_42 (dk_at dksX4_firsts_7 5 rfl rfl)
theorem dX4_firsts_171 : decode cX4_firsts 171 = .ok (.iload 6, 2) := dk_21 6 (dk_at dksX4_firsts_7 6 rfl rfl)
theorem dX4_firsts_173 : decode cX4_firsts 173 = .ok (.aload_n 0, 1) := dk_42 (dk_at dksX4_firsts_7 8 rfl rfl)
theorem dX4_firsts_174 : decode cX4_firsts 174 = .ok (.getfield 87, 3) := dk_180 0 87 (dk_at dksX4_firsts_7 9 rfl rfl)
theorem dX4_firsts_177 : decode cX4_firsts 177 = .ok (.iload 6, 2) := dk_21 6 (dk_at dksX4_firsts_7 12 rfl rfl)
theorem dX4_firsts_179 : decode cX4_firsts 179 = .ok (.iaload, 1) := dk_46 (dk_at dksX4_firsts_7 14 rfl rfl)
theorem dX4_firsts_180 : decode cX4_firsts 180 = .ok (.aload_n 0, 1) := dk_42 (dk_at dksX4_firsts_7 15 rfl rfl)
theorem dX4_firsts_181 : decode cX4_firsts 181 = .ok (.iload 6, 2) := dk_21 6 (dk_at dksX4_firsts_7 16 rfl rfl)
theorem dX4_firsts_183 : decode cX4_firsts 183 = .ok (.iload_n 2, 1) := dk_28 (dk_at dksX4_firsts_7 18 rfl rfl)
theorem dX4_firsts_184 : decode cX4_firsts 184 = .ok (.invokevirtual 384, 3) := dk_182 1 128 (dk_at dksX4_firsts_7 19 rfl rfl)
theorem dX4_firsts_187 : decode cX4_firsts 187 = .ok (.invokevirtual 390, 3) := dk_182 1 134 (dk_at dksX4_firsts_8 0 rfl rfl)
theorem dX4_firsts_190 : decode cX4_firsts 190 = .ok (.isub, 1) := dk_100 (dk_at dksX4_firsts_8 3 rfl rfl)
theorem dX4_firsts_191 : decode cX4_firsts 191 = .ok (.istore 5, 2) := dk_54 5 (dk_at dksX4_firsts_8 4 rfl rfl)
theorem dX4_firsts_193 : decode cX4_firsts 193 = .ok (.aload_n 0, 1) := dk_42 (dk_at dksX4_firsts_8 6 rfl rfl)
theorem dX4_firsts_194 : decode cX4_firsts 194 = .ok (.getfield 87, 3) := dk_180 0 87 (dk_at dksX4_firsts_8 7 rfl rfl)
theorem dX4_firsts_197 : decode cX4_firsts 197 = .ok (.iload 6, 2) := dk_21 6 (dk_at dksX4_firsts_8 10 rfl rfl)
theorem dX4_firsts_199 : decode cX4_firsts 199 = .ok (.iaload, 1) := dk_46 (dk_at dksX4_firsts_8 12 rfl rfl)
theorem dX4_firsts_200 : decode cX4_firsts 200 = .ok (.ifCond .ne 7, 3) := dk_154 0 7 (dk_at dksX4_firsts_8 13 rfl rfl)
theorem dX4_firsts_203 : decode cX4_firsts 203 = .ok (.iload_n 2, 1) := dk_28 (dk_at dksX4_firsts_8 16 rfl rfl)
theorem dX4_firsts_204 : decode cX4_firsts 204 = .ok (.goto 10, 3) := dk_167 0 10 (dk_at dksX4_firsts_8 17 rfl rfl)
theorem dX4_firsts_207 : decode cX4_firsts 207 = .ok (.aload_n 0, 1) := dk_42 (dk_at dksX4_firsts_8 20 rfl rfl)
theorem dX4_firsts_208 : decode cX4_firsts 208 = .ok (.iload 6, 2) := dk_21 6 (dk_at dksX4_firsts_8 21 rfl rfl)
theorem dX4_firsts_210 : decode cX4_firsts 210 = .ok (.iload_n 2, 1) := dk_28 (dk_at dksX4_firsts_8 23 rfl rfl)
theorem dX4_firsts_211 : decode cX4_firsts 211 = .ok (.invokevirtual 387, 3) := dk_182 1 131 (dk_at dksX4_firsts_9 0 rfl rfl)
theorem dX4_firsts_214 : decode cX4_firsts 214 = .ok (.istore_n 2, 1) := dk_61 (dk_at dksX4_firsts_9 3 rfl rfl)
theorem dX4_firsts_215 : decode cX4_firsts 215 = .ok (.iload_n 3, 1) := dk_29 (dk_at dksX4_firsts_9 4 rfl rfl)
theorem dX4_firsts_216 : decode cX4_firsts 216 = .ok (.aload_n 0, 1) := dk_42 (dk_at dksX4_firsts_9 5 rfl rfl)
theorem dX4_firsts_217 : decode cX4_firsts 217 = .ok (.getfield 87, 3) := dk_180 0 87 (dk_at dksX4_firsts_9 6 rfl rfl)
theorem dX4_firsts_220 : decode cX4_firsts 220 = .ok (.iload 6, 2) := dk_21 6 (dk_at dksX4_firsts_9 9 rfl rfl)
theorem dX4_firsts_222 : decode cX4_firsts 222 = .ok (.iaload, 1) := dk_46 (dk_at dksX4_firsts_9 11 rfl rfl)
theorem dX4_firsts_223 : decode cX4_firsts 223 = .ok (.iconst 1, 1) := dk_4 (dk_at dksX4_firsts_9 12 rfl rfl)
theorem dX4_firsts_224 : decode cX4_firsts 224 = .ok (.if_icmp .ne 7, 3) := dk_160 0 7 (dk_at dksX4_firsts_9 13 rfl rfl)
theorem dX4_firsts_227 : decode cX4_firsts 227 = .ok (.iconst 1, 1) := dk_4 (dk_at dksX4_firsts_9 16 rfl rfl)
theorem dX4_firsts_228 : decode cX4_firsts 228 = .ok (.goto 4, 3) := dk_167 0 4 (dk_at dksX4_firsts_9 17 rfl rfl)
theorem dX4_firsts_231 : decode cX4_firsts 231 = .ok (.iconst 0, 1) := dk_3 (dk_at dksX4_firsts_9 20 rfl rfl)
theorem dX4_firsts_232 : decode cX4_firsts 232 = .ok (.iadd, 1) := dk_96 (dk_at dksX4_firsts_9 21 rfl rfl)
theorem dX4_firsts_233 : decode cX4_firsts 233 = .ok (.istore_n 3, 1) := dk_62 (dk_at dksX4_firsts_9 22 rfl rfl)
theorem dX4_firsts_234 : decode cX4_firsts 234 = .ok (.iload 4, 2) := dk_21 4 (dk_at dksX4_firsts_10 0 rfl rfl)
theorem dX4_firsts_236 : decode cX4_firsts 236 = .ok (.aload_n 0, 1) := dk_42 (dk_at dksX4_firsts_10 2 rfl rfl)
theorem dX4_firsts_237 : decode cX4_firsts 237 = .ok (.getfield 87, 3) := dk_180 0 87 (dk_at dksX4_firsts_10 3 rfl rfl)
theorem dX4_firsts_240 : decode cX4_firsts 240 = .ok (.iload 6, 2) := dk_21 6 (dk_at dksX4_firsts_10 6 rfl rfl)
theorem dX4_firsts_242 : decode cX4_firsts 242 = .ok (.iaload, 1) := dk_46 (dk_at dksX4_firsts_10 8 rfl rfl)
theorem dX4_firsts_243 : decode cX4_firsts 243 = .ok (.iconst 2, 1) := dk_5 (dk_at dksX4_firsts_10 9 rfl rfl)
theorem dX4_firsts_244 : decode cX4_firsts 244 = .ok (.if_icmp .ne 7, 3) := dk_160 0 7 (dk_at dksX4_firsts_10 10 rfl rfl)
theorem dX4_firsts_247 : decode cX4_firsts 247 = .ok (.iconst 1, 1) := dk_4 (dk_at dksX4_firsts_10 13 rfl rfl)
theorem dX4_firsts_248 : decode cX4_firsts 248 = .ok (.goto 4, 3) := dk_167 0 4 (dk_at dksX4_firsts_10 14 rfl rfl)
theorem dX4_firsts_251 : decode cX4_firsts 251 = .ok (.iconst 0, 1) := dk_3 (dk_at dksX4_firsts_10 17 rfl rfl)
theorem dX4_firsts_252 : decode cX4_firsts 252 = .ok (.iadd, 1) := dk_96 (dk_at dksX4_firsts_10 18 rfl rfl)
theorem dX4_firsts_253 : decode cX4_firsts 253 = .ok (.istore 4, 2) := dk_54 4 (dk_at dksX4_firsts_10 19 rfl rfl)
theorem dX4_firsts_255 : decode cX4_firsts 255 = .ok (.iinc 6 1, 3) := dk_132 6 1 (dk_at dksX4_firsts_10 21 rfl rfl)
theorem dX4_firsts_258 : decode cX4_firsts 258 = .ok (.goto (-237), 3) := dk_167 255 19 (dk_at dksX4_firsts_11 0 rfl rfl)
theorem dX4_firsts_261 : decode cX4_firsts 261 = .ok (.return_, 1) := dk_177 (dk_at dksX4_firsts_11 3 rfl rfl)
abbrev cX4_canBe : ByteArray := prog_29_method_87_code
def yX4_canBe : MethodName := ⟨RX4, "canBe", "(IIIII)Z"⟩
def dkwX4_canBe_4 : List UInt8 := [132, 6, 1, 167, 255, 162, 3, 172]
abbrev dktX4_canBe_4 : List UInt8 := dkwX4_canBe_4 ++ []
def dkwX4_canBe_3 : List UInt8 := [154, 0, 24, 42, 180, 0, 75, 27, 28, 21, 7, 21, 8, 184, 1, 119, 46, 21, 5, 160, 0, 5, 4, 172]
abbrev dktX4_canBe_3 : List UInt8 := dkwX4_canBe_3 ++ dktX4_canBe_4
def dkwX4_canBe_2 : List UInt8 := [16, 21, 112, 96, 42, 182, 1, 106, 163, 0, 39, 42, 180, 0, 78, 21, 6, 47, 42, 180, 1, 144, 148]
abbrev dktX4_canBe_2 : List UInt8 := dkwX4_canBe_2 ++ dktX4_canBe_3
def dkwX4_canBe_1 : List UInt8 := [112, 21, 4, 100, 54, 8, 21, 7, 155, 0, 62, 21, 8, 155, 0, 57, 21, 6, 16, 21, 108, 21, 6]
abbrev dktX4_canBe_1 : List UInt8 := dkwX4_canBe_1 ++ dktX4_canBe_2
def dkwX4_canBe_0 : List UInt8 := [3, 54, 6, 21, 6, 17, 1, 185, 162, 0, 92, 21, 6, 16, 21, 108, 29, 100, 54, 7, 21, 6, 16, 21]
abbrev dktX4_canBe_0 : List UInt8 := dkwX4_canBe_0 ++ dktX4_canBe_1
theorem dksX4_canBe_0 : cX4_canBe.data.toList.drop 0 = dktX4_canBe_0 := by decide +kernel
theorem dksX4_canBe_1 : cX4_canBe.data.toList.drop 24 = dktX4_canBe_1 := dk_seg dksX4_canBe_0 24 rfl rfl
theorem dksX4_canBe_2 : cX4_canBe.data.toList.drop 47 = dktX4_canBe_2 := dk_seg dksX4_canBe_1 23 rfl rfl
theorem dksX4_canBe_3 : cX4_canBe.data.toList.drop 70 = dktX4_canBe_3 := dk_seg dksX4_canBe_2 23 rfl rfl
theorem dksX4_canBe_4 : cX4_canBe.data.toList.drop 94 = dktX4_canBe_4 := dk_seg dksX4_canBe_3 24 rfl rfl
theorem dX4_canBe_0 : decode cX4_canBe 0 = .ok (.iconst 0, 1) := dk_3 (dk_at dksX4_canBe_0 0 rfl rfl)
theorem dX4_canBe_1 : decode cX4_canBe 1 = .ok (.istore 6, 2) := dk_54 6 (dk_at dksX4_canBe_0 1 rfl rfl)
theorem dX4_canBe_3 : decode cX4_canBe 3 = .ok (.iload 6, 2) := dk_21 6 (dk_at dksX4_canBe_0 3 rfl rfl)
theorem dX4_canBe_5 : decode cX4_canBe 5 = .ok (.sipush 441, 3) := dk_17 1 185 (dk_at dksX4_canBe_0 5 rfl rfl)
theorem dX4_canBe_8 : decode cX4_canBe 8 = .ok (.if_icmp .ge 92, 3) := dk_162 0 92 (dk_at dksX4_canBe_0 8 rfl rfl)
theorem dX4_canBe_11 : decode cX4_canBe 11 = .ok (.iload 6, 2) := dk_21 6 (dk_at dksX4_canBe_0 11 rfl rfl)
theorem dX4_canBe_13 : decode cX4_canBe 13 = .ok (.bipush 21, 2) := dk_16 21 (dk_at dksX4_canBe_0 13 rfl rfl)
theorem dX4_canBe_15 : decode cX4_canBe 15 = .ok (.idiv, 1) := dk_108 (dk_at dksX4_canBe_0 15 rfl rfl)
theorem dX4_canBe_16 : decode cX4_canBe 16 = .ok (.iload_n 3, 1) := dk_29 (dk_at dksX4_canBe_0 16 rfl rfl)
theorem dX4_canBe_17 : decode cX4_canBe 17 = .ok (.isub, 1) := dk_100 (dk_at dksX4_canBe_0 17 rfl rfl)
theorem dX4_canBe_18 : decode cX4_canBe 18 = .ok (.istore 7, 2) := dk_54 7 (dk_at dksX4_canBe_0 18 rfl rfl)
theorem dX4_canBe_20 : decode cX4_canBe 20 = .ok (.iload 6, 2) := dk_21 6 (dk_at dksX4_canBe_0 20 rfl rfl)
theorem dX4_canBe_22 : decode cX4_canBe 22 = .ok (.bipush 21, 2) := dk_16 21 (dk_at dksX4_canBe_0 22 rfl rfl)
theorem dX4_canBe_24 : decode cX4_canBe 24 = .ok (.irem, 1) := dk_112 (dk_at dksX4_canBe_1 0 rfl rfl)
theorem dX4_canBe_25 : decode cX4_canBe 25 = .ok (.iload 4, 2) := dk_21 4 (dk_at dksX4_canBe_1 1 rfl rfl)
theorem dX4_canBe_27 : decode cX4_canBe 27 = .ok (.isub, 1) := dk_100 (dk_at dksX4_canBe_1 3 rfl rfl)
theorem dX4_canBe_28 : decode cX4_canBe 28 = .ok (.istore 8, 2) := dk_54 8 (dk_at dksX4_canBe_1 4 rfl rfl)
theorem dX4_canBe_30 : decode cX4_canBe 30 = .ok (.iload 7, 2) := dk_21 7 (dk_at dksX4_canBe_1 6 rfl rfl)
theorem dX4_canBe_32 : decode cX4_canBe 32 = .ok (.ifCond .lt 62, 3) := dk_155 0 62 (dk_at dksX4_canBe_1 8 rfl rfl)
theorem dX4_canBe_35 : decode cX4_canBe 35 = .ok (.iload 8, 2) := dk_21 8 (dk_at dksX4_canBe_1 11 rfl rfl)
theorem dX4_canBe_37 : decode cX4_canBe 37 = .ok (.ifCond .lt 57, 3) := dk_155 0 57 (dk_at dksX4_canBe_1 13 rfl rfl)
theorem dX4_canBe_40 : decode cX4_canBe 40 = .ok (.iload 6, 2) := dk_21 6 (dk_at dksX4_canBe_1 16 rfl rfl)
theorem dX4_canBe_42 : decode cX4_canBe 42 = .ok (.bipush 21, 2) := dk_16 21 (dk_at dksX4_canBe_1 18 rfl rfl)
theorem dX4_canBe_44 : decode cX4_canBe 44 = .ok (.idiv, 1) := dk_108 (dk_at dksX4_canBe_1 20 rfl rfl)
theorem dX4_canBe_45 : decode cX4_canBe 45 = .ok (.iload 6, 2) := dk_21 6 (dk_at dksX4_canBe_1 21 rfl rfl)
theorem dX4_canBe_47 : decode cX4_canBe 47 = .ok (.bipush 21, 2) := dk_16 21 (dk_at dksX4_canBe_2 0 rfl rfl)
theorem dX4_canBe_49 : decode cX4_canBe 49 = .ok (.irem, 1) := dk_112 (dk_at dksX4_canBe_2 2 rfl rfl)
theorem dX4_canBe_50 : decode cX4_canBe 50 = .ok (.iadd, 1) := dk_96 (dk_at dksX4_canBe_2 3 rfl rfl)
theorem dX4_canBe_51 : decode cX4_canBe 51 = .ok (.aload_n 0, 1) := dk_42 (dk_at dksX4_canBe_2 4 rfl rfl)
theorem dX4_canBe_52 : decode cX4_canBe 52 = .ok (.invokevirtual 362, 3) := dk_182 1 106 (dk_at dksX4_canBe_2 5 rfl rfl)
theorem dX4_canBe_55 : decode cX4_canBe 55 = .ok (.if_icmp .gt 39, 3) := dk_163 0 39 (dk_at dksX4_canBe_2 8 rfl rfl)
theorem dX4_canBe_58 : decode cX4_canBe 58 = .ok (.aload_n 0, 1) := dk_42 (dk_at dksX4_canBe_2 11 rfl rfl)
theorem dX4_canBe_59 : decode cX4_canBe 59 = .ok (.getfield 78, 3) := dk_180 0 78 (dk_at dksX4_canBe_2 12 rfl rfl)
theorem dX4_canBe_62 : decode cX4_canBe 62 = .ok (.iload 6, 2) := dk_21 6 (dk_at dksX4_canBe_2 15 rfl rfl)
theorem dX4_canBe_64 : decode cX4_canBe 64 = .ok (.laload, 1) := dk_47 (dk_at dksX4_canBe_2 17 rfl rfl)
theorem dX4_canBe_65 : decode cX4_canBe 65 = .ok (.aload_n 0, 1) := dk_42 (dk_at dksX4_canBe_2 18 rfl rfl)
theorem dX4_canBe_66 : decode cX4_canBe 66 = .ok (.getfield 400, 3) := dk_180 1 144 (dk_at dksX4_canBe_2 19 rfl rfl)
theorem dX4_canBe_69 : decode cX4_canBe 69 = .ok (.lcmp, 1) := dk_148 (dk_at dksX4_canBe_2 22 rfl rfl)
theorem dX4_canBe_70 : decode cX4_canBe 70 = .ok (.ifCond .ne 24, 3) := dk_154 0 24 (dk_at dksX4_canBe_3 0 rfl rfl)
theorem dX4_canBe_73 : decode cX4_canBe 73 = .ok (.aload_n 0, 1) := dk_42 (dk_at dksX4_canBe_3 3 rfl rfl)
theorem dX4_canBe_74 : decode cX4_canBe 74 = .ok (.getfield 75, 3) := dk_180 0 75 (dk_at dksX4_canBe_3 4 rfl rfl)
theorem dX4_canBe_77 : decode cX4_canBe 77 = .ok (.iload_n 1, 1) := dk_27 (dk_at dksX4_canBe_3 7 rfl rfl)
theorem dX4_canBe_78 : decode cX4_canBe 78 = .ok (.iload_n 2, 1) := dk_28 (dk_at dksX4_canBe_3 8 rfl rfl)
theorem dX4_canBe_79 : decode cX4_canBe 79 = .ok (.iload 7, 2) := dk_21 7 (dk_at dksX4_canBe_3 9 rfl rfl)
theorem dX4_canBe_81 : decode cX4_canBe 81 = .ok (.iload 8, 2) := dk_21 8 (dk_at dksX4_canBe_3 11 rfl rfl)
theorem dX4_canBe_83 : decode cX4_canBe 83 = .ok (.invokestatic 375, 3) := dk_184 1 119 (dk_at dksX4_canBe_3 13 rfl rfl)
theorem dX4_canBe_86 : decode cX4_canBe 86 = .ok (.iaload, 1) := dk_46 (dk_at dksX4_canBe_3 16 rfl rfl)
theorem dX4_canBe_87 : decode cX4_canBe 87 = .ok (.iload 5, 2) := dk_21 5 (dk_at dksX4_canBe_3 17 rfl rfl)
theorem dX4_canBe_89 : decode cX4_canBe 89 = .ok (.if_icmp .ne 5, 3) := dk_160 0 5 (dk_at dksX4_canBe_3 19 rfl rfl)
theorem dX4_canBe_92 : decode cX4_canBe 92 = .ok (.iconst 1, 1) := dk_4 (dk_at dksX4_canBe_3 22 rfl rfl)
theorem dX4_canBe_93 : decode cX4_canBe 93 = .ok (.ireturn, 1) := dk_172 (dk_at dksX4_canBe_3 23 rfl rfl)
theorem dX4_canBe_94 : decode cX4_canBe 94 = .ok (.iinc 6 1, 3) := dk_132 6 1 (dk_at dksX4_canBe_4 0 rfl rfl)
theorem dX4_canBe_97 : decode cX4_canBe 97 = .ok (.goto (-94), 3) := dk_167 255 162 (dk_at dksX4_canBe_4 3 rfl rfl)
theorem dX4_canBe_100 : decode cX4_canBe 100 = .ok (.iconst 0, 1) := dk_3 (dk_at dksX4_canBe_4 6 rfl rfl)
theorem dX4_canBe_101 : decode cX4_canBe 101 = .ok (.ireturn, 1) := dk_172 (dk_at dksX4_canBe_4 7 rfl rfl)
abbrev cX4_enough : ByteArray := prog_29_method_90_code
def yX4_enough : MethodName := ⟨RX4, "enough", "(I)I"⟩
def dkwX4_enough_4 : List UInt8 := [167, 0, 4, 28, 172]
abbrev dktX4_enough_4 : List UInt8 := dkwX4_enough_4 ++ []
def dkwX4_enough_3 : List UInt8 := [180, 0, 75, 29, 46, 184, 1, 138, 61, 132, 3, 1, 167, 255, 198, 28, 17, 1, 144, 164, 0, 7, 2]
abbrev dktX4_enough_3 : List UInt8 := dkwX4_enough_3 ++ dktX4_enough_4
def dkwX4_enough_2 : List UInt8 := [180, 0, 78, 29, 47, 20, 1, 72, 105, 42, 180, 1, 125, 27, 133, 105, 148, 155, 0, 14, 28, 42]
abbrev dktX4_enough_2 : List UInt8 := dkwX4_enough_2 ++ dktX4_enough_3
def dkwX4_enough_1 : List UInt8 := [17, 1, 185, 162, 0, 57, 29, 16, 21, 108, 29, 16, 21, 112, 96, 42, 182, 1, 106, 163, 0, 35, 42]
abbrev dktX4_enough_1 : List UInt8 := dkwX4_enough_1 ++ dktX4_enough_2
def dkwX4_enough_0 : List UInt8 := [27, 3, 16, 100, 184, 0, 135, 154, 0, 5, 2, 172, 42, 182, 1, 141, 18, 185, 61, 3, 62, 29]
abbrev dktX4_enough_0 : List UInt8 := dkwX4_enough_0 ++ dktX4_enough_1
theorem dksX4_enough_0 : cX4_enough.data.toList.drop 0 = dktX4_enough_0 := by decide +kernel
theorem dksX4_enough_1 : cX4_enough.data.toList.drop 22 = dktX4_enough_1 := dk_seg dksX4_enough_0 22 rfl rfl
theorem dksX4_enough_2 : cX4_enough.data.toList.drop 45 = dktX4_enough_2 := dk_seg dksX4_enough_1 23 rfl rfl
theorem dksX4_enough_3 : cX4_enough.data.toList.drop 67 = dktX4_enough_3 := dk_seg dksX4_enough_2 22 rfl rfl
theorem dksX4_enough_4 : cX4_enough.data.toList.drop 90 = dktX4_enough_4 := dk_seg dksX4_enough_3 23 rfl rfl
theorem dX4_enough_0 : decode cX4_enough 0 = .ok (.iload_n 1, 1) := dk_27 (dk_at dksX4_enough_0 0 rfl rfl)
theorem dX4_enough_1 : decode cX4_enough 1 = .ok (.iconst 0, 1) := dk_3 (dk_at dksX4_enough_0 1 rfl rfl)
theorem dX4_enough_2 : decode cX4_enough 2 = .ok (.bipush 100, 2) := dk_16 100 (dk_at dksX4_enough_0 2 rfl rfl)
theorem dX4_enough_4 : decode cX4_enough 4 = .ok (.invokestatic 135, 3) := dk_184 0 135 (dk_at dksX4_enough_0 4 rfl rfl)
theorem dX4_enough_7 : decode cX4_enough 7 = .ok (.ifCond .ne 5, 3) := dk_154 0 5 (dk_at dksX4_enough_0 7 rfl rfl)
theorem dX4_enough_10 : decode cX4_enough 10 = .ok (.iconst (-1), 1) := dk_2 (dk_at dksX4_enough_0 10 rfl rfl)
theorem dX4_enough_11 : decode cX4_enough 11 = .ok (.ireturn, 1) := dk_172 (dk_at dksX4_enough_0 11 rfl rfl)
theorem dX4_enough_12 : decode cX4_enough 12 = .ok (.aload_n 0, 1) := dk_42 (dk_at dksX4_enough_0 12 rfl rfl)
theorem dX4_enough_13 : decode cX4_enough 13 = .ok (.invokevirtual 397, 3) := dk_182 1 141 (dk_at dksX4_enough_0 13 rfl rfl)
theorem dX4_enough_16 : decode cX4_enough 16 = .ok (.ldc 185, 2) := dk_18 185 (dk_at dksX4_enough_0 16 rfl rfl)
theorem dX4_enough_18 : decode cX4_enough 18 = .ok (.istore_n 2, 1) := dk_61 (dk_at dksX4_enough_0 18 rfl rfl)
theorem dX4_enough_19 : decode cX4_enough 19 = .ok (.iconst 0, 1) := dk_3 (dk_at dksX4_enough_0 19 rfl rfl)
theorem dX4_enough_20 : decode cX4_enough 20 = .ok (.istore_n 3, 1) := dk_62 (dk_at dksX4_enough_0 20 rfl rfl)
theorem dX4_enough_21 : decode cX4_enough 21 = .ok (.iload_n 3, 1) := dk_29 (dk_at dksX4_enough_0 21 rfl rfl)
theorem dX4_enough_22 : decode cX4_enough 22 = .ok (.sipush 441, 3) := dk_17 1 185 (dk_at dksX4_enough_1 0 rfl rfl)
theorem dX4_enough_25 : decode cX4_enough 25 = .ok (.if_icmp .ge 57, 3) := dk_162 0 57 (dk_at dksX4_enough_1 3 rfl rfl)
theorem dX4_enough_28 : decode cX4_enough 28 = .ok (.iload_n 3, 1) := dk_29 (dk_at dksX4_enough_1 6 rfl rfl)
theorem dX4_enough_29 : decode cX4_enough 29 = .ok (.bipush 21, 2) := dk_16 21 (dk_at dksX4_enough_1 7 rfl rfl)
theorem dX4_enough_31 : decode cX4_enough 31 = .ok (.idiv, 1) := dk_108 (dk_at dksX4_enough_1 9 rfl rfl)
theorem dX4_enough_32 : decode cX4_enough 32 = .ok (.iload_n 3, 1) := dk_29 (dk_at dksX4_enough_1 10 rfl rfl)
theorem dX4_enough_33 : decode cX4_enough 33 = .ok (.bipush 21, 2) := dk_16 21 (dk_at dksX4_enough_1 11 rfl rfl)
theorem dX4_enough_35 : decode cX4_enough 35 = .ok (.irem, 1) := dk_112 (dk_at dksX4_enough_1 13 rfl rfl)
theorem dX4_enough_36 : decode cX4_enough 36 = .ok (.iadd, 1) := dk_96 (dk_at dksX4_enough_1 14 rfl rfl)
theorem dX4_enough_37 : decode cX4_enough 37 = .ok (.aload_n 0, 1) := dk_42 (dk_at dksX4_enough_1 15 rfl rfl)
theorem dX4_enough_38 : decode cX4_enough 38 = .ok (.invokevirtual 362, 3) := dk_182 1 106 (dk_at dksX4_enough_1 16 rfl rfl)
theorem dX4_enough_41 : decode cX4_enough 41 = .ok (.if_icmp .gt 35, 3) := dk_163 0 35 (dk_at dksX4_enough_1 19 rfl rfl)
theorem dX4_enough_44 : decode cX4_enough 44 = .ok (.aload_n 0, 1) := dk_42 (dk_at dksX4_enough_1 22 rfl rfl)
theorem dX4_enough_45 : decode cX4_enough 45 = .ok (.getfield 78, 3) := dk_180 0 78 (dk_at dksX4_enough_2 0 rfl rfl)
theorem dX4_enough_48 : decode cX4_enough 48 = .ok (.iload_n 3, 1) := dk_29 (dk_at dksX4_enough_2 3 rfl rfl)
theorem dX4_enough_49 : decode cX4_enough 49 = .ok (.laload, 1) := dk_47 (dk_at dksX4_enough_2 4 rfl rfl)
theorem dX4_enough_50 : decode cX4_enough 50 = .ok (.ldc2_w 328, 3) := dk_20 1 72 (dk_at dksX4_enough_2 5 rfl rfl)
theorem dX4_enough_53 : decode cX4_enough 53 = .ok (.lmul, 1) := dk_105 (dk_at dksX4_enough_2 8 rfl rfl)
theorem dX4_enough_54 : decode cX4_enough 54 = .ok (.aload_n 0, 1) := dk_42 (dk_at dksX4_enough_2 9 rfl rfl)
theorem dX4_enough_55 : decode cX4_enough 55 = .ok (.getfield 381, 3) := dk_180 1 125 (dk_at dksX4_enough_2 10 rfl rfl)
theorem dX4_enough_58 : decode cX4_enough 58 = .ok (.iload_n 1, 1) := dk_27 (dk_at dksX4_enough_2 13 rfl rfl)
theorem dX4_enough_59 : decode cX4_enough 59 = .ok (.i2l, 1) := dk_133 (dk_at dksX4_enough_2 14 rfl rfl)
theorem dX4_enough_60 : decode cX4_enough 60 = .ok (.lmul, 1) := dk_105 (dk_at dksX4_enough_2 15 rfl rfl)
theorem dX4_enough_61 : decode cX4_enough 61 = .ok (.lcmp, 1) := dk_148 (dk_at dksX4_enough_2 16 rfl rfl)
theorem dX4_enough_62 : decode cX4_enough 62 = .ok (.ifCond .lt 14, 3) := dk_155 0 14 (dk_at dksX4_enough_2 17 rfl rfl)
theorem dX4_enough_65 : decode cX4_enough 65 = .ok (.iload_n 2, 1) := dk_28 (dk_at dksX4_enough_2 20 rfl rfl)
theorem dX4_enough_66 : decode cX4_enough 66 = .ok (.aload_n 0, 1) := dk_42 (dk_at dksX4_enough_2 21 rfl rfl)
theorem dX4_enough_67 : decode cX4_enough 67 = .ok (.getfield 75, 3) := dk_180 0 75 (dk_at dksX4_enough_3 0 rfl rfl)
theorem dX4_enough_70 : decode cX4_enough 70 = .ok (.iload_n 3, 1) := dk_29 (dk_at dksX4_enough_3 3 rfl rfl)
theorem dX4_enough_71 : decode cX4_enough 71 = .ok (.iaload, 1) := dk_46 (dk_at dksX4_enough_3 4 rfl rfl)
theorem dX4_enough_72 : decode cX4_enough 72 = .ok (.invokestatic 394, 3) := dk_184 1 138 (dk_at dksX4_enough_3 5 rfl rfl)
theorem dX4_enough_75 : decode cX4_enough 75 = .ok (.istore_n 2, 1) := dk_61 (dk_at dksX4_enough_3 8 rfl rfl)
theorem dX4_enough_76 : decode cX4_enough 76 = .ok (.iinc 3 1, 3) := dk_132 3 1 (dk_at dksX4_enough_3 9 rfl rfl)
theorem dX4_enough_79 : decode cX4_enough 79 = .ok (.goto (-58), 3) := dk_167 255 198 (dk_at dksX4_enough_3 12 rfl rfl)
theorem dX4_enough_82 : decode cX4_enough 82 = .ok (.iload_n 2, 1) := dk_28 (dk_at dksX4_enough_3 15 rfl rfl)
theorem dX4_enough_83 : decode cX4_enough 83 = .ok (.sipush 400, 3) := dk_17 1 144 (dk_at dksX4_enough_3 16 rfl rfl)
theorem dX4_enough_86 : decode cX4_enough 86 = .ok (.if_icmp .le 7, 3) := dk_164 0 7 (dk_at dksX4_enough_3 19 rfl rfl)
theorem dX4_enough_89 : decode cX4_enough 89 = .ok (.iconst (-1), 1) := dk_2 (dk_at dksX4_enough_3 22 rfl rfl)
theorem dX4_enough_90 : decode cX4_enough 90 = .ok (.goto 4, 3) := dk_167 0 4 (dk_at dksX4_enough_4 0 rfl rfl)
theorem dX4_enough_93 : decode cX4_enough 93 = .ok (.iload_n 2, 1) := dk_28 (dk_at dksX4_enough_4 3 rfl rfl)
theorem dX4_enough_94 : decode cX4_enough 94 = .ok (.ireturn, 1) := dk_172 (dk_at dksX4_enough_4 4 rfl rfl)
abbrev cX4_lesson : ByteArray := prog_29_method_91_code
def yX4_lesson : MethodName := ⟨RX4, "lesson", "(II)I"⟩
def dkwX4_lesson_4 : List UInt8 := [182, 0, 143, 172]
abbrev dktX4_lesson_4 : List UInt8 := dkwX4_lesson_4 ++ []
def dkwX4_lesson_3 : List UInt8 := [5, 29, 104, 96, 4, 96, 28, 79, 42, 180, 0, 20, 17, 1, 135, 92, 46, 4, 96, 79, 42, 29, 4, 96]
abbrev dktX4_lesson_3 : List UInt8 := dkwX4_lesson_3 ++ dktX4_lesson_4
def dkwX4_lesson_2 : List UInt8 := [16, 251, 182, 0, 139, 172, 42, 180, 0, 20, 16, 107, 5, 29, 104, 96, 27, 79, 42, 180, 0, 20, 16, 107]
abbrev dktX4_lesson_2 : List UInt8 := dkwX4_lesson_2 ++ dktX4_lesson_3
def dkwX4_lesson_1 : List UInt8 := [42, 16, 254, 182, 0, 139, 172, 42, 180, 0, 20, 17, 1, 135, 46, 62, 29, 16, 120, 160, 0, 10, 42]
abbrev dktX4_lesson_1 : List UInt8 := dkwX4_lesson_1 ++ dktX4_lesson_2
def dkwX4_lesson_0 : List UInt8 := [27, 3, 16, 19, 184, 0, 135, 154, 0, 9, 42, 2, 182, 0, 139, 172, 42, 28, 182, 0, 158, 154, 0, 10]
abbrev dktX4_lesson_0 : List UInt8 := dkwX4_lesson_0 ++ dktX4_lesson_1
theorem dksX4_lesson_0 : cX4_lesson.data.toList.drop 0 = dktX4_lesson_0 := by decide +kernel
theorem dksX4_lesson_1 : cX4_lesson.data.toList.drop 24 = dktX4_lesson_1 := dk_seg dksX4_lesson_0 24 rfl rfl
theorem dksX4_lesson_2 : cX4_lesson.data.toList.drop 47 = dktX4_lesson_2 := dk_seg dksX4_lesson_1 23 rfl rfl
theorem dksX4_lesson_3 : cX4_lesson.data.toList.drop 71 = dktX4_lesson_3 := dk_seg dksX4_lesson_2 24 rfl rfl
theorem dksX4_lesson_4 : cX4_lesson.data.toList.drop 95 = dktX4_lesson_4 := dk_seg dksX4_lesson_3 24 rfl rfl
theorem dX4_lesson_0 : decode cX4_lesson 0 = .ok (.iload_n 1, 1) := dk_27 (dk_at dksX4_lesson_0 0 rfl rfl)
theorem dX4_lesson_1 : decode cX4_lesson 1 = .ok (.iconst 0, 1) := dk_3 (dk_at dksX4_lesson_0 1 rfl rfl)
theorem dX4_lesson_2 : decode cX4_lesson 2 = .ok (.bipush 19, 2) := dk_16 19 (dk_at dksX4_lesson_0 2 rfl rfl)
theorem dX4_lesson_4 : decode cX4_lesson 4 = .ok (.invokestatic 135, 3) := dk_184 0 135 (dk_at dksX4_lesson_0 4 rfl rfl)
theorem dX4_lesson_7 : decode cX4_lesson 7 = .ok (.ifCond .ne 9, 3) := dk_154 0 9 (dk_at dksX4_lesson_0 7 rfl rfl)
theorem dX4_lesson_10 : decode cX4_lesson 10 = .ok (.aload_n 0, 1) := dk_42 (dk_at dksX4_lesson_0 10 rfl rfl)
theorem dX4_lesson_11 : decode cX4_lesson 11 = .ok (.iconst (-1), 1) := dk_2 (dk_at dksX4_lesson_0 11 rfl rfl)
theorem dX4_lesson_12 : decode cX4_lesson 12 = .ok (.invokevirtual 139, 3) := dk_182 0 139 (dk_at dksX4_lesson_0 12 rfl rfl)
theorem dX4_lesson_15 : decode cX4_lesson 15 = .ok (.ireturn, 1) := dk_172 (dk_at dksX4_lesson_0 15 rfl rfl)
theorem dX4_lesson_16 : decode cX4_lesson 16 = .ok (.aload_n 0, 1) := dk_42 (dk_at dksX4_lesson_0 16 rfl rfl)
theorem dX4_lesson_17 : decode cX4_lesson 17 = .ok (.iload_n 2, 1) := dk_28 (dk_at dksX4_lesson_0 17 rfl rfl)
theorem dX4_lesson_18 : decode cX4_lesson 18 = .ok (.invokevirtual 158, 3) := dk_182 0 158 (dk_at dksX4_lesson_0 18 rfl rfl)
theorem dX4_lesson_21 : decode cX4_lesson 21 = .ok (.ifCond .ne 10, 3) := dk_154 0 10 (dk_at dksX4_lesson_0 21 rfl rfl)
theorem dX4_lesson_24 : decode cX4_lesson 24 = .ok (.aload_n 0, 1) := dk_42 (dk_at dksX4_lesson_1 0 rfl rfl)
theorem dX4_lesson_25 : decode cX4_lesson 25 = .ok (.bipush (-2), 2) := dk_16 254 (dk_at dksX4_lesson_1 1 rfl rfl)
theorem dX4_lesson_27 : decode cX4_lesson 27 = .ok (.invokevirtual 139, 3) := dk_182 0 139 (dk_at dksX4_lesson_1 3 rfl rfl)
theorem dX4_lesson_30 : decode cX4_lesson 30 = .ok (.ireturn, 1) := dk_172 (dk_at dksX4_lesson_1 6 rfl rfl)
theorem dX4_lesson_31 : decode cX4_lesson 31 = .ok (.aload_n 0, 1) := dk_42 (dk_at dksX4_lesson_1 7 rfl rfl)
theorem dX4_lesson_32 : decode cX4_lesson 32 = .ok (.getfield 20, 3) := dk_180 0 20 (dk_at dksX4_lesson_1 8 rfl rfl)
theorem dX4_lesson_35 : decode cX4_lesson 35 = .ok (.sipush 391, 3) := dk_17 1 135 (dk_at dksX4_lesson_1 11 rfl rfl)
theorem dX4_lesson_38 : decode cX4_lesson 38 = .ok (.iaload, 1) := dk_46 (dk_at dksX4_lesson_1 14 rfl rfl)
theorem dX4_lesson_39 : decode cX4_lesson 39 = .ok (.istore_n 3, 1) := dk_62 (dk_at dksX4_lesson_1 15 rfl rfl)
theorem dX4_lesson_40 : decode cX4_lesson 40 = .ok (.iload_n 3, 1) := dk_29 (dk_at dksX4_lesson_1 16 rfl rfl)
theorem dX4_lesson_41 : decode cX4_lesson 41 = .ok (.bipush 120, 2) := dk_16 120 (dk_at dksX4_lesson_1 17 rfl rfl)
theorem dX4_lesson_43 : decode cX4_lesson 43 = .ok (.if_icmp .ne 10, 3) := dk_160 0 10 (dk_at dksX4_lesson_1 19 rfl rfl)
theorem dX4_lesson_46 : decode cX4_lesson 46 = .ok (.aload_n 0, 1) := dk_42 (dk_at dksX4_lesson_1 22 rfl rfl)
theorem dX4_lesson_47 : decode cX4_lesson 47 = .ok (.bipush (-5), 2) := dk_16 251 (dk_at dksX4_lesson_2 0 rfl rfl)
theorem dX4_lesson_49 : decode cX4_lesson 49 = .ok (.invokevirtual 139, 3) := dk_182 0 139 (dk_at dksX4_lesson_2 2 rfl rfl)
theorem dX4_lesson_52 : decode cX4_lesson 52 = .ok (.ireturn, 1) := dk_172 (dk_at dksX4_lesson_2 5 rfl rfl)
theorem dX4_lesson_53 : decode cX4_lesson 53 = .ok (.aload_n 0, 1) := dk_42 (dk_at dksX4_lesson_2 6 rfl rfl)
theorem dX4_lesson_54 : decode cX4_lesson 54 = .ok (.getfield 20, 3) := dk_180 0 20 (dk_at dksX4_lesson_2 7 rfl rfl)
theorem dX4_lesson_57 : decode cX4_lesson 57 = .ok (.bipush 107, 2) := dk_16 107 (dk_at dksX4_lesson_2 10 rfl rfl)
theorem dX4_lesson_59 : decode cX4_lesson 59 = .ok (.iconst 2, 1) := dk_5 (dk_at dksX4_lesson_2 12 rfl rfl)
theorem dX4_lesson_60 : decode cX4_lesson 60 = .ok (.iload_n 3, 1) := dk_29 (dk_at dksX4_lesson_2 13 rfl rfl)
theorem dX4_lesson_61 : decode cX4_lesson 61 = .ok (.imul, 1) := dk_104 (dk_at dksX4_lesson_2 14 rfl rfl)
theorem dX4_lesson_62 : decode cX4_lesson 62 = .ok (.iadd, 1) := dk_96 (dk_at dksX4_lesson_2 15 rfl rfl)
theorem dX4_lesson_63 : decode cX4_lesson 63 = .ok (.iload_n 1, 1) := dk_27 (dk_at dksX4_lesson_2 16 rfl rfl)
theorem dX4_lesson_64 : decode cX4_lesson 64 = .ok (.iastore, 1) := dk_79 (dk_at dksX4_lesson_2 17 rfl rfl)
theorem dX4_lesson_65 : decode cX4_lesson 65 = .ok (.aload_n 0, 1) := dk_42 (dk_at dksX4_lesson_2 18 rfl rfl)
theorem dX4_lesson_66 : decode cX4_lesson 66 = .ok (.getfield 20, 3) := dk_180 0 20 (dk_at dksX4_lesson_2 19 rfl rfl)
theorem dX4_lesson_69 : decode cX4_lesson 69 = .ok (.bipush 107, 2) := dk_16 107 (dk_at dksX4_lesson_2 22 rfl rfl)
theorem dX4_lesson_71 : decode cX4_lesson 71 = .ok (.iconst 2, 1) := dk_5 (dk_at dksX4_lesson_3 0 rfl rfl)
theorem dX4_lesson_72 : decode cX4_lesson 72 = .ok (.iload_n 3, 1) := dk_29 (dk_at dksX4_lesson_3 1 rfl rfl)
theorem dX4_lesson_73 : decode cX4_lesson 73 = .ok (.imul, 1) := dk_104 (dk_at dksX4_lesson_3 2 rfl rfl)
theorem dX4_lesson_74 : decode cX4_lesson 74 = .ok (.iadd, 1) := dk_96 (dk_at dksX4_lesson_3 3 rfl rfl)
theorem dX4_lesson_75 : decode cX4_lesson 75 = .ok (.iconst 1, 1) := dk_4 (dk_at dksX4_lesson_3 4 rfl rfl)
theorem dX4_lesson_76 : decode cX4_lesson 76 = .ok (.iadd, 1) := dk_96 (dk_at dksX4_lesson_3 5 rfl rfl)
theorem dX4_lesson_77 : decode cX4_lesson 77 = .ok (.iload_n 2, 1) := dk_28 (dk_at dksX4_lesson_3 6 rfl rfl)
theorem dX4_lesson_78 : decode cX4_lesson 78 = .ok (.iastore, 1) := dk_79 (dk_at dksX4_lesson_3 7 rfl rfl)
theorem dX4_lesson_79 : decode cX4_lesson 79 = .ok (.aload_n 0, 1) := dk_42 (dk_at dksX4_lesson_3 8 rfl rfl)
theorem dX4_lesson_80 : decode cX4_lesson 80 = .ok (.getfield 20, 3) := dk_180 0 20 (dk_at dksX4_lesson_3 9 rfl rfl)
theorem dX4_lesson_83 : decode cX4_lesson 83 = .ok (.sipush 391, 3) := dk_17 1 135 (dk_at dksX4_lesson_3 12 rfl rfl)
theorem dX4_lesson_86 : decode cX4_lesson 86 = .ok (.dup2, 1) := dk_92 (dk_at dksX4_lesson_3 15 rfl rfl)
theorem dX4_lesson_87 : decode cX4_lesson 87 = .ok (.iaload, 1) := dk_46 (dk_at dksX4_lesson_3 16 rfl rfl)
theorem dX4_lesson_88 : decode cX4_lesson 88 = .ok (.iconst 1, 1) := dk_4 (dk_at dksX4_lesson_3 17 rfl rfl)
theorem dX4_lesson_89 : decode cX4_lesson 89 = .ok (.iadd, 1) := dk_96 (dk_at dksX4_lesson_3 18 rfl rfl)
theorem dX4_lesson_90 : decode cX4_lesson 90 = .ok (.iastore, 1) := dk_79 (dk_at dksX4_lesson_3 19 rfl rfl)
theorem dX4_lesson_91 : decode cX4_lesson 91 = .ok (.aload_n 0, 1) := dk_42 (dk_at dksX4_lesson_3 20 rfl rfl)
theorem dX4_lesson_92 : decode cX4_lesson 92 = .ok (.iload_n 3, 1) := dk_29 (dk_at dksX4_lesson_3 21 rfl rfl)
theorem dX4_lesson_93 : decode cX4_lesson 93 = .ok (.iconst 1, 1) := dk_4 (dk_at dksX4_lesson_3 22 rfl rfl)
theorem dX4_lesson_94 : decode cX4_lesson 94 = .ok (.iadd, 1) := dk_96 (dk_at dksX4_lesson_3 23 rfl rfl)
theorem dX4_lesson_95 : decode cX4_lesson 95 = .ok (.invokevirtual 143, 3) := dk_182 0 143 (dk_at dksX4_lesson_4 0 rfl rfl)
theorem dX4_lesson_98 : decode cX4_lesson 98 = .ok (.ireturn, 1) := dk_172 (dk_at dksX4_lesson_4 3 rfl rfl)
abbrev cX4_clear : ByteArray := prog_29_method_92_code
def yX4_clear : MethodName := ⟨RX4, "clear", "()I"⟩
def dkwX4_clear_1 : List UInt8 := [96, 181, 0, 11, 27, 172]
abbrev dktX4_clear_1 : List UInt8 := dkwX4_clear_1 ++ []
def dkwX4_clear_0 : List UInt8 := [42, 180, 0, 20, 17, 1, 135, 46, 60, 42, 180, 0, 20, 17, 1, 135, 3, 79, 42, 89, 180, 0, 11, 4]
abbrev dktX4_clear_0 : List UInt8 := dkwX4_clear_0 ++ dktX4_clear_1
theorem dksX4_clear_0 : cX4_clear.data.toList.drop 0 = dktX4_clear_0 := by decide +kernel
theorem dksX4_clear_1 : cX4_clear.data.toList.drop 24 = dktX4_clear_1 := dk_seg dksX4_clear_0 24 rfl rfl
theorem dX4_clear_0 : decode cX4_clear 0 = .ok (.aload_n 0, 1) := dk_42 (dk_at dksX4_clear_0 0 rfl rfl)
theorem dX4_clear_1 : decode cX4_clear 1 = .ok (.getfield 20, 3) := dk_180 0 20 (dk_at dksX4_clear_0 1 rfl rfl)
theorem dX4_clear_4 : decode cX4_clear 4 = .ok (.sipush 391, 3) := dk_17 1 135 (dk_at dksX4_clear_0 4 rfl rfl)
theorem dX4_clear_7 : decode cX4_clear 7 = .ok (.iaload, 1) := dk_46 (dk_at dksX4_clear_0 7 rfl rfl)
theorem dX4_clear_8 : decode cX4_clear 8 = .ok (.istore_n 1, 1) := dk_60 (dk_at dksX4_clear_0 8 rfl rfl)
theorem dX4_clear_9 : decode cX4_clear 9 = .ok (.aload_n 0, 1) := dk_42 (dk_at dksX4_clear_0 9 rfl rfl)
theorem dX4_clear_10 : decode cX4_clear 10 = .ok (.getfield 20, 3) := dk_180 0 20 (dk_at dksX4_clear_0 10 rfl rfl)
theorem dX4_clear_13 : decode cX4_clear 13 = .ok (.sipush 391, 3) := dk_17 1 135 (dk_at dksX4_clear_0 13 rfl rfl)
theorem dX4_clear_16 : decode cX4_clear 16 = .ok (.iconst 0, 1) := dk_3 (dk_at dksX4_clear_0 16 rfl rfl)
theorem dX4_clear_17 : decode cX4_clear 17 = .ok (.iastore, 1) := dk_79 (dk_at dksX4_clear_0 17 rfl rfl)
theorem dX4_clear_18 : decode cX4_clear 18 = .ok (.aload_n 0, 1) := dk_42 (dk_at dksX4_clear_0 18 rfl rfl)
theorem dX4_clear_19 : decode cX4_clear 19 = .ok (.dup, 1) := dk_89 (dk_at dksX4_clear_0 19 rfl rfl)
theorem dX4_clear_20 : decode cX4_clear 20 = .ok (.getfield 11, 3) := dk_180 0 11 (dk_at dksX4_clear_0 20 rfl rfl)
theorem dX4_clear_23 : decode cX4_clear 23 = .ok (.iconst 1, 1) := dk_4 (dk_at dksX4_clear_0 23 rfl rfl)
theorem dX4_clear_24 : decode cX4_clear 24 = .ok (.iadd, 1) := dk_96 (dk_at dksX4_clear_1 0 rfl rfl)
theorem dX4_clear_25 : decode cX4_clear 25 = .ok (.putfield 11, 3) := dk_181 0 11 (dk_at dksX4_clear_1 1 rfl rfl)
theorem dX4_clear_28 : decode cX4_clear 28 = .ok (.iload_n 1, 1) := dk_27 (dk_at dksX4_clear_1 4 rfl rfl)
theorem dX4_clear_29 : decode cX4_clear 29 = .ok (.ireturn, 1) := dk_172 (dk_at dksX4_clear_1 5 rfl rfl)
abbrev cX4_behind : ByteArray := prog_29_method_96_code
def yX4_behind : MethodName := ⟨RX4, "behind", "(II)I"⟩
def dkwX4_behind_2 : List UInt8 := [167, 0, 14, 42, 180, 0, 90, 16, 20, 28, 104, 27, 96, 46, 172]
abbrev dktX4_behind_2 : List UInt8 := dkwX4_behind_2 ++ []
def dkwX4_behind_1 : List UInt8 := [182, 0, 158, 154, 0, 5, 2, 172, 42, 182, 1, 175, 28, 2, 160, 0, 12, 42, 180, 0, 93, 27, 46]
abbrev dktX4_behind_1 : List UInt8 := dkwX4_behind_1 ++ dktX4_behind_2
def dkwX4_behind_0 : List UInt8 := [27, 3, 42, 8, 182, 1, 62, 4, 100, 184, 0, 135, 153, 0, 16, 28, 2, 159, 0, 13, 42, 28]
abbrev dktX4_behind_0 : List UInt8 := dkwX4_behind_0 ++ dktX4_behind_1
theorem dksX4_behind_0 : cX4_behind.data.toList.drop 0 = dktX4_behind_0 := by decide +kernel
theorem dksX4_behind_1 : cX4_behind.data.toList.drop 22 = dktX4_behind_1 := dk_seg dksX4_behind_0 22 rfl rfl
theorem dksX4_behind_2 : cX4_behind.data.toList.drop 45 = dktX4_behind_2 := dk_seg dksX4_behind_1 23 rfl rfl
theorem dX4_behind_0 : decode cX4_behind 0 = .ok (.iload_n 1, 1) := dk_27 (dk_at dksX4_behind_0 0 rfl rfl)
theorem dX4_behind_1 : decode cX4_behind 1 = .ok (.iconst 0, 1) := dk_3 (dk_at dksX4_behind_0 1 rfl rfl)
theorem dX4_behind_2 : decode cX4_behind 2 = .ok (.aload_n 0, 1) := dk_42 (dk_at dksX4_behind_0 2 rfl rfl)
theorem dX4_behind_3 : decode cX4_behind 3 = .ok (.iconst 5, 1) := dk_8 (dk_at dksX4_behind_0 3 rfl rfl)
theorem dX4_behind_4 : decode cX4_behind 4 = .ok (.invokevirtual 318, 3) := dk_182 1 62 (dk_at dksX4_behind_0 4 rfl rfl)
theorem dX4_behind_7 : decode cX4_behind 7 = .ok (.iconst 1, 1) := dk_4 (dk_at dksX4_behind_0 7 rfl rfl)
theorem dX4_behind_8 : decode cX4_behind 8 = .ok (.isub, 1) := dk_100 (dk_at dksX4_behind_0 8 rfl rfl)
theorem dX4_behind_9 : decode cX4_behind 9 = .ok (.invokestatic 135, 3) := dk_184 0 135 (dk_at dksX4_behind_0 9 rfl rfl)
theorem dX4_behind_12 : decode cX4_behind 12 = .ok (.ifCond .eq 16, 3) := dk_153 0 16 (dk_at dksX4_behind_0 12 rfl rfl)
theorem dX4_behind_15 : decode cX4_behind 15 = .ok (.iload_n 2, 1) := dk_28 (dk_at dksX4_behind_0 15 rfl rfl)
theorem dX4_behind_16 : decode cX4_behind 16 = .ok (.iconst (-1), 1) := dk_2 (dk_at dksX4_behind_0 16 rfl rfl)
theorem dX4_behind_17 : decode cX4_behind 17 = .ok (.if_icmp .eq 13, 3) := dk_159 0 13 (dk_at dksX4_behind_0 17 rfl rfl)
theorem dX4_behind_20 : decode cX4_behind 20 = .ok (.aload_n 0, 1) := dk_42 (dk_at dksX4_behind_0 20 rfl rfl)
theorem dX4_behind_21 : decode cX4_behind 21 = .ok (.iload_n 2, 1) := dk_28 (dk_at dksX4_behind_0 21 rfl rfl)
theorem dX4_behind_22 : decode cX4_behind 22 = .ok (.invokevirtual 158, 3) := dk_182 0 158 (dk_at dksX4_behind_1 0 rfl rfl)
theorem dX4_behind_25 : decode cX4_behind 25 = .ok (.ifCond .ne 5, 3) := dk_154 0 5 (dk_at dksX4_behind_1 3 rfl rfl)
theorem dX4_behind_28 : decode cX4_behind 28 = .ok (.iconst (-1), 1) := dk_2 (dk_at dksX4_behind_1 6 rfl rfl)
theorem dX4_behind_29 : decode cX4_behind 29 = .ok (.ireturn, 1) := dk_172 (dk_at dksX4_behind_1 7 rfl rfl)
theorem dX4_behind_30 : decode cX4_behind 30 = .ok (.aload_n 0, 1) := dk_42 (dk_at dksX4_behind_1 8 rfl rfl)
theorem dX4_behind_31 : decode cX4_behind 31 = .ok (.invokevirtual 431, 3) := dk_182 1 175 (dk_at dksX4_behind_1 9 rfl rfl)
theorem dX4_behind_34 : decode cX4_behind 34 = .ok (.iload_n 2, 1) := dk_28 (dk_at dksX4_behind_1 12 rfl rfl)
theorem dX4_behind_35 : decode cX4_behind 35 = .ok (.iconst (-1), 1) := dk_2 (dk_at dksX4_behind_1 13 rfl rfl)
theorem dX4_behind_36 : decode cX4_behind 36 = .ok (.if_icmp .ne 12, 3) := dk_160 0 12 (dk_at dksX4_behind_1 14 rfl rfl)
theorem dX4_behind_39 : decode cX4_behind 39 = .ok (.aload_n 0, 1) := dk_42 (dk_at dksX4_behind_1 17 rfl rfl)
theorem dX4_behind_40 : decode cX4_behind 40 = .ok (.getfield 93, 3) := dk_180 0 93 (dk_at dksX4_behind_1 18 rfl rfl)
theorem dX4_behind_43 : decode cX4_behind 43 = .ok (.iload_n 1, 1) := dk_27 (dk_at dksX4_behind_1 21 rfl rfl)
theorem dX4_behind_44 : decode cX4_behind 44 = .ok (.iaload, 1) := dk_46 (dk_at dksX4_behind_1 22 rfl rfl)
theorem dX4_behind_45 : decode cX4_behind 45 = .ok (.goto 14, 3) := dk_167 0 14 (dk_at dksX4_behind_2 0 rfl rfl)
theorem dX4_behind_48 : decode cX4_behind 48 = .ok (.aload_n 0, 1) := dk_42 (dk_at dksX4_behind_2 3 rfl rfl)
theorem dX4_behind_49 : decode cX4_behind 49 = .ok (.getfield 90, 3) := dk_180 0 90 (dk_at dksX4_behind_2 4 rfl rfl)
theorem dX4_behind_52 : decode cX4_behind 52 = .ok (.bipush 20, 2) := dk_16 20 (dk_at dksX4_behind_2 7 rfl rfl)
theorem dX4_behind_54 : decode cX4_behind 54 = .ok (.iload_n 2, 1) := dk_28 (dk_at dksX4_behind_2 9 rfl rfl)
theorem dX4_behind_55 : decode cX4_behind 55 = .ok (.imul, 1) := dk_104 (dk_at dksX4_behind_2 10 rfl rfl)
theorem dX4_behind_56 : decode cX4_behind 56 = .ok (.iload_n 1, 1) := dk_27 (dk_at dksX4_behind_2 11 rfl rfl)
theorem dX4_behind_57 : decode cX4_behind 57 = .ok (.iadd, 1) := dk_96 (dk_at dksX4_behind_2 12 rfl rfl)
theorem dX4_behind_58 : decode cX4_behind 58 = .ok (.iaload, 1) := dk_46 (dk_at dksX4_behind_2 13 rfl rfl)
theorem dX4_behind_59 : decode cX4_behind 59 = .ok (.ireturn, 1) := dk_172 (dk_at dksX4_behind_2 14 rfl rfl)
abbrev cX4_lives : ByteArray := prog_29_method_94_code
def yX4_lives : MethodName := ⟨RX4, "lives", "()V"⟩
def dkwX4_lives_6 : List UInt8 := [79, 132, 2, 1, 167, 255, 170, 132, 1, 1, 167, 255, 148, 177]
abbrev dktX4_lives_6 : List UInt8 := dkwX4_lives_6 ++ []
def dkwX4_lives_5 : List UInt8 := [180, 1, 166, 4, 96, 181, 1, 166, 42, 180, 0, 90, 16, 20, 28, 104, 27, 96, 42, 180, 0, 96, 28, 46]
abbrev dktX4_lives_5 : List UInt8 := dkwX4_lives_5 ++ dktX4_lives_6
def dkwX4_lives_4 : List UInt8 := [161, 0, 30, 42, 180, 0, 96, 28, 92, 46, 4, 100, 79, 42, 180, 0, 99, 28, 27, 79, 42, 89]
abbrev dktX4_lives_4 : List UInt8 := dkwX4_lives_4 ++ dktX4_lives_5
def dkwX4_lives_3 : List UInt8 := [158, 0, 52, 27, 42, 180, 0, 99, 28, 46, 100, 42, 28, 42, 180, 0, 96, 28, 46, 182, 1, 46]
abbrev dktX4_lives_3 : List UInt8 := dkwX4_lives_3 ++ dktX4_lives_4
def dkwX4_lives_2 : List UInt8 := [162, 0, 105, 42, 27, 182, 1, 169, 3, 61, 28, 42, 182, 0, 146, 162, 0, 84, 42, 180, 0, 96, 28, 46]
abbrev dktX4_lives_2 : List UInt8 := dkwX4_lives_2 ++ dktX4_lives_3
def dkwX4_lives_1 : List UInt8 := [162, 0, 16, 42, 180, 0, 96, 27, 3, 79, 132, 1, 1, 167, 255, 238, 3, 60, 27, 42, 8, 182, 1, 62]
abbrev dktX4_lives_1 : List UInt8 := dkwX4_lives_1 ++ dktX4_lives_2
def dkwX4_lives_0 : List UInt8 := [42, 3, 181, 1, 160, 42, 2, 181, 1, 163, 42, 3, 181, 1, 166, 3, 60, 27, 42, 182, 0, 146]
abbrev dktX4_lives_0 : List UInt8 := dkwX4_lives_0 ++ dktX4_lives_1
theorem dksX4_lives_0 : cX4_lives.data.toList.drop 0 = dktX4_lives_0 := by decide +kernel
theorem dksX4_lives_1 : cX4_lives.data.toList.drop 22 = dktX4_lives_1 := dk_seg dksX4_lives_0 22 rfl rfl
theorem dksX4_lives_2 : cX4_lives.data.toList.drop 46 = dktX4_lives_2 := dk_seg dksX4_lives_1 24 rfl rfl
theorem dksX4_lives_3 : cX4_lives.data.toList.drop 70 = dktX4_lives_3 := dk_seg dksX4_lives_2 24 rfl rfl
theorem dksX4_lives_4 : cX4_lives.data.toList.drop 92 = dktX4_lives_4 := dk_seg dksX4_lives_3 22 rfl rfl
theorem dksX4_lives_5 : cX4_lives.data.toList.drop 114 = dktX4_lives_5 := dk_seg dksX4_lives_4 22 rfl rfl
theorem dksX4_lives_6 : cX4_lives.data.toList.drop 138 = dktX4_lives_6 := dk_seg dksX4_lives_5 24 rfl rfl
theorem dX4_lives_0 : decode cX4_lives 0 = .ok (.aload_n 0, 1) := dk_42 (dk_at dksX4_lives_0 0 rfl rfl)
theorem dX4_lives_1 : decode cX4_lives 1 = .ok (.iconst 0, 1) := dk_3 (dk_at dksX4_lives_0 1 rfl rfl)
theorem dX4_lives_2 : decode cX4_lives 2 = .ok (.putfield 416, 3) := dk_181 1 160 (dk_at dksX4_lives_0 2 rfl rfl)
theorem dX4_lives_5 : decode cX4_lives 5 = .ok (.aload_n 0, 1) := dk_42 (dk_at dksX4_lives_0 5 rfl rfl)
theorem dX4_lives_6 : decode cX4_lives 6 = .ok (.iconst (-1), 1) := dk_2 (dk_at dksX4_lives_0 6 rfl rfl)
theorem dX4_lives_7 : decode cX4_lives 7 = .ok (.putfield 419, 3) := dk_181 1 163 (dk_at dksX4_lives_0 7 rfl rfl)
theorem dX4_lives_10 : decode cX4_lives 10 = .ok (.aload_n 0, 1) := dk_42 (dk_at dksX4_lives_0 10 rfl rfl)
theorem dX4_lives_11 : decode cX4_lives 11 = .ok (.iconst 0, 1) := dk_3 (dk_at dksX4_lives_0 11 rfl rfl)
theorem dX4_lives_12 : decode cX4_lives 12 = .ok (.putfield 422, 3) := dk_181 1 166 (dk_at dksX4_lives_0 12 rfl rfl)
theorem dX4_lives_15 : decode cX4_lives 15 = .ok (.iconst 0, 1) := dk_3 (dk_at dksX4_lives_0 15 rfl rfl)
theorem dX4_lives_16 : decode cX4_lives 16 = .ok (.istore_n 1, 1) := dk_60 (dk_at dksX4_lives_0 16 rfl rfl)
theorem dX4_lives_17 : decode cX4_lives 17 = .ok (.iload_n 1, 1) := dk_27 (dk_at dksX4_lives_0 17 rfl rfl)
theorem dX4_lives_18 : decode cX4_lives 18 = .ok (.aload_n 0, 1) := dk_42 (dk_at dksX4_lives_0 18 rfl rfl)
theorem dX4_lives_19 : decode cX4_lives 19 = .ok (.invokevirtual 146, 3) := dk_182 0 146 (dk_at dksX4_lives_0 19 rfl rfl)
theorem dX4_lives_22 : decode cX4_lives 22 = .ok (.if_icmp .ge 16, 3) := dk_162 0 16 (dk_at dksX4_lives_1 0 rfl rfl)
theorem dX4_lives_25 : decode cX4_lives 25 = .ok (.aload_n 0, 1) := dk_42 (dk_at dksX4_lives_1 3 rfl rfl)
theorem dX4_lives_26 : decode cX4_lives 26 = .ok (.getfield 96, 3) := dk_180 0 96 (dk_at dksX4_lives_1 4 rfl rfl)
theorem dX4_lives_29 : decode cX4_lives 29 = .ok (.iload_n 1, 1) := dk_27 (dk_at dksX4_lives_1 7 rfl rfl)
theorem dX4_lives_30 : decode cX4_lives 30 = .ok (.iconst 0, 1) := dk_3 (dk_at dksX4_lives_1 8 rfl rfl)
theorem dX4_lives_31 : decode cX4_lives 31 = .ok (.iastore, 1) := dk_79 (dk_at dksX4_lives_1 9 rfl rfl)
theorem dX4_lives_32 : decode cX4_lives 32 = .ok (.iinc 1 1, 3) := dk_132 1 1 (dk_at dksX4_lives_1 10 rfl rfl)
theorem dX4_lives_35 : decode cX4_lives 35 = .ok (.goto (-18), 3) := dk_167 255 238 (dk_at dksX4_lives_1 13 rfl rfl)
theorem dX4_lives_38 : decode cX4_lives 38 = .ok (.iconst 0, 1) := dk_3 (dk_at dksX4_lives_1 16 rfl rfl)
theorem dX4_lives_39 : decode cX4_lives 39 = .ok (.istore_n 1, 1) := dk_60 (dk_at dksX4_lives_1 17 rfl rfl)
theorem dX4_lives_40 : decode cX4_lives 40 = .ok (.iload_n 1, 1) := dk_27 (dk_at dksX4_lives_1 18 rfl rfl)
theorem dX4_lives_41 : decode cX4_lives 41 = .ok (.aload_n 0, 1) := dk_42 (dk_at dksX4_lives_1 19 rfl rfl)
theorem dX4_lives_42 : decode cX4_lives 42 = .ok (.iconst 5, 1) := dk_8 (dk_at dksX4_lives_1 20 rfl rfl)
theorem dX4_lives_43 : decode cX4_lives 43 = .ok (.invokevirtual 318, 3) := dk_182 1 62 (dk_at dksX4_lives_1 21 rfl rfl)
theorem dX4_lives_46 : decode cX4_lives 46 = .ok (.if_icmp .ge 105, 3) := dk_162 0 105 (dk_at dksX4_lives_2 0 rfl rfl)
theorem dX4_lives_49 : decode cX4_lives 49 = .ok (.aload_n 0, 1) := dk_42 (dk_at dksX4_lives_2 3 rfl rfl)
theorem dX4_lives_50 : decode cX4_lives 50 = .ok (.iload_n 1, 1) := dk_27 (dk_at dksX4_lives_2 4 rfl rfl)
theorem dX4_lives_51 : decode cX4_lives 51 = .ok (.invokevirtual 425, 3) := dk_182 1 169 (dk_at dksX4_lives_2 5 rfl rfl)
theorem dX4_lives_54 : decode cX4_lives 54 = .ok (.iconst 0, 1) := dk_3 (dk_at dksX4_lives_2 8 rfl rfl)
theorem dX4_lives_55 : decode cX4_lives 55 = .ok (.istore_n 2, 1) := dk_61 (dk_at dksX4_lives_2 9 rfl rfl)
theorem dX4_lives_56 : decode cX4_lives 56 = .ok (.iload_n 2, 1) := dk_28 (dk_at dksX4_lives_2 10 rfl rfl)
theorem dX4_lives_57 : decode cX4_lives 57 = .ok (.aload_n 0, 1) := dk_42 (dk_at dksX4_lives_2 11 rfl rfl)
theorem dX4_lives_58 : decode cX4_lives 58 = .ok (.invokevirtual 146, 3) := dk_182 0 146 (dk_at dksX4_lives_2 12 rfl rfl)
theorem dX4_lives_61 : decode cX4_lives 61 = .ok (.if_icmp .ge 84, 3) := dk_162 0 84 (dk_at dksX4_lives_2 15 rfl rfl)
theorem dX4_lives_64 : decode cX4_lives 64 = .ok (.aload_n 0, 1) := dk_42 (dk_at dksX4_lives_2 18 rfl rfl)
theorem dX4_lives_65 : decode cX4_lives 65 = .ok (.getfield 96, 3) := dk_180 0 96 (dk_at dksX4_lives_2 19 rfl rfl)
theorem dX4_lives_68 : decode cX4_lives 68 = .ok (.iload_n 2, 1) := dk_28 (dk_at dksX4_lives_2 22 rfl rfl)
theorem dX4_lives_69 : decode cX4_lives 69 = .ok (.iaload, 1) := dk_46 (dk_at dksX4_lives_2 23 rfl rfl)
theorem dX4_lives_70 : decode cX4_lives 70 = .ok (.ifCond .le 52, 3) := dk_158 0 52 (dk_at dksX4_lives_3 0 rfl rfl)
theorem dX4_lives_73 : decode cX4_lives 73 = .ok (.iload_n 1, 1) := dk_27 (dk_at dksX4_lives_3 3 rfl rfl)
theorem dX4_lives_74 : decode cX4_lives 74 = .ok (.aload_n 0, 1) := dk_42 (dk_at dksX4_lives_3 4 rfl rfl)
theorem dX4_lives_75 : decode cX4_lives 75 = .ok (.getfield 99, 3) := dk_180 0 99 (dk_at dksX4_lives_3 5 rfl rfl)
theorem dX4_lives_78 : decode cX4_lives 78 = .ok (.iload_n 2, 1) := dk_28 (dk_at dksX4_lives_3 8 rfl rfl)
theorem dX4_lives_79 : decode cX4_lives 79 = .ok (.iaload, 1) := dk_46 (dk_at dksX4_lives_3 9 rfl rfl)
theorem dX4_lives_80 : decode cX4_lives 80 = .ok (.isub, 1) := dk_100 (dk_at dksX4_lives_3 10 rfl rfl)
theorem dX4_lives_81 : decode cX4_lives 81 = .ok (.aload_n 0, 1) := dk_42 (dk_at dksX4_lives_3 11 rfl rfl)
theorem dX4_lives_82 : decode cX4_lives 82 = .ok (.iload_n 2, 1) := dk_28 (dk_at dksX4_lives_3 12 rfl rfl)
theorem dX4_lives_83 : decode cX4_lives 83 = .ok (.aload_n 0, 1) := dk_42 (dk_at dksX4_lives_3 13 rfl rfl)
theorem dX4_lives_84 : decode cX4_lives 84 = .ok (.getfield 96, 3) := dk_180 0 96 (dk_at dksX4_lives_3 14 rfl rfl)
theorem dX4_lives_87 : decode cX4_lives 87 = .ok (.iload_n 2, 1) := dk_28 (dk_at dksX4_lives_3 17 rfl rfl)
theorem dX4_lives_88 : decode cX4_lives 88 = .ok (.iaload, 1) := dk_46 (dk_at dksX4_lives_3 18 rfl rfl)
theorem dX4_lives_89 : decode cX4_lives 89 = .ok (.invokevirtual 302, 3) := dk_182 1 46 (dk_at dksX4_lives_3 19 rfl rfl)
theorem dX4_lives_92 : decode cX4_lives 92 = .ok (.if_icmp .lt 30, 3) := dk_161 0 30 (dk_at dksX4_lives_4 0 rfl rfl)
theorem dX4_lives_95 : decode cX4_lives 95 = .ok (.aload_n 0, 1) := dk_42 (dk_at dksX4_lives_4 3 rfl rfl)
theorem dX4_lives_96 : decode cX4_lives 96 = .ok (.getfield 96, 3) := dk_180 0 96 (dk_at dksX4_lives_4 4 rfl rfl)
theorem dX4_lives_99 : decode cX4_lives 99 = .ok (.iload_n 2, 1) := dk_28 (dk_at dksX4_lives_4 7 rfl rfl)
theorem dX4_lives_100 : decode cX4_lives 100 = .ok (.dup2, 1) := dk_92 (dk_at dksX4_lives_4 8 rfl rfl)
theorem dX4_lives_101 : decode cX4_lives 101 = .ok (.iaload, 1) := dk_46 (dk_at dksX4_lives_4 9 rfl rfl)
theorem dX4_lives_102 : decode cX4_lives 102 = .ok (.iconst 1, 1) := dk_4 (dk_at dksX4_lives_4 10 rfl rfl)
theorem dX4_lives_103 : decode cX4_lives 103 = .ok (.isub, 1) := dk_100 (dk_at dksX4_lives_4 11 rfl rfl)
theorem dX4_lives_104 : decode cX4_lives 104 = .ok (.iastore, 1) := dk_79 (dk_at dksX4_lives_4 12 rfl rfl)
theorem dX4_lives_105 : decode cX4_lives 105 = .ok (.aload_n 0, 1) := dk_42 (dk_at dksX4_lives_4 13 rfl rfl)
theorem dX4_lives_106 : decode cX4_lives 106 = .ok (.getfield 99, 3) := dk_180 0 99 (dk_at dksX4_lives_4 14 rfl rfl)
theorem dX4_lives_109 : decode cX4_lives 109 = .ok (.iload_n 2, 1) := dk_28 (dk_at dksX4_lives_4 17 rfl rfl)
theorem dX4_lives_110 : decode cX4_lives 110 = .ok (.iload_n 1, 1) := dk_27 (dk_at dksX4_lives_4 18 rfl rfl)
theorem dX4_lives_111 : decode cX4_lives 111 = .ok (.iastore, 1) := dk_79 (dk_at dksX4_lives_4 19 rfl rfl)
theorem dX4_lives_112 : decode cX4_lives 112 = .ok (.aload_n 0, 1) := dk_42 (dk_at dksX4_lives_4 20 rfl rfl)
theorem dX4_lives_113 : decode cX4_lives 113 = .ok (.dup, 1) := dk_89 (dk_at dksX4_lives_4 21 rfl rfl)
theorem dX4_lives_114 : decode cX4_lives 114 = .ok (.getfield 422, 3) := dk_180 1 166 (dk_at dksX4_lives_5 0 rfl rfl)
theorem dX4_lives_117 : decode cX4_lives 117 = .ok (.iconst 1, 1) := dk_4 (dk_at dksX4_lives_5 3 rfl rfl)
theorem dX4_lives_118 : decode cX4_lives 118 = .ok (.iadd, 1) := dk_96 (dk_at dksX4_lives_5 4 rfl rfl)
theorem dX4_lives_119 : decode cX4_lives 119 = .ok (.putfield 422, 3) := dk_181 1 166 (dk_at dksX4_lives_5 5 rfl rfl)
theorem dX4_lives_122 : decode cX4_lives 122 = .ok (.aload_n 0, 1) := dk_42 (dk_at dksX4_lives_5 8 rfl rfl)
theorem dX4_lives_123 : decode cX4_lives 123 = .ok (.getfield 90, 3) := dk_180 0 90 (dk_at dksX4_lives_5 9 rfl rfl)
theorem dX4_lives_126 : decode cX4_lives 126 = .ok (.bipush 20, 2) := dk_16 20 (dk_at dksX4_lives_5 12 rfl rfl)
theorem dX4_lives_128 : decode cX4_lives 128 = .ok (.iload_n 2, 1) := dk_28 (dk_at dksX4_lives_5 14 rfl rfl)
theorem dX4_lives_129 : decode cX4_lives 129 = .ok (.imul, 1) := dk_104 (dk_at dksX4_lives_5 15 rfl rfl)
theorem dX4_lives_130 : decode cX4_lives 130 = .ok (.iload_n 1, 1) := dk_27 (dk_at dksX4_lives_5 16 rfl rfl)
theorem dX4_lives_131 : decode cX4_lives 131 = .ok (.iadd, 1) := dk_96 (dk_at dksX4_lives_5 17 rfl rfl)
theorem dX4_lives_132 : decode cX4_lives 132 = .ok (.aload_n 0, 1) := dk_42 (dk_at dksX4_lives_5 18 rfl rfl)
theorem dX4_lives_133 : decode cX4_lives 133 = .ok (.getfield 96, 3) := dk_180 0 96 (dk_at dksX4_lives_5 19 rfl rfl)
theorem dX4_lives_136 : decode cX4_lives 136 = .ok (.iload_n 2, 1) := dk_28 (dk_at dksX4_lives_5 22 rfl rfl)
theorem dX4_lives_137 : decode cX4_lives 137 = .ok (.iaload, 1) := dk_46 (dk_at dksX4_lives_5 23 rfl rfl)
theorem dX4_lives_138 : decode cX4_lives 138 = .ok (.iastore, 1) := dk_79 (dk_at dksX4_lives_6 0 rfl rfl)
theorem dX4_lives_139 : decode cX4_lives 139 = .ok (.iinc 2 1, 3) := dk_132 2 1 (dk_at dksX4_lives_6 1 rfl rfl)
theorem dX4_lives_142 : decode cX4_lives 142 = .ok (.goto (-86), 3) := dk_167 255 170 (dk_at dksX4_lives_6 4 rfl rfl)
theorem dX4_lives_145 : decode cX4_lives 145 = .ok (.iinc 1 1, 3) := dk_132 1 1 (dk_at dksX4_lives_6 7 rfl rfl)
theorem dX4_lives_148 : decode cX4_lives 148 = .ok (.goto (-108), 3) := dk_167 255 148 (dk_at dksX4_lives_6 10 rfl rfl)
theorem dX4_lives_151 : decode cX4_lives 151 = .ok (.return_, 1) := dk_177 (dk_at dksX4_lives_6 13 rfl rfl)
abbrev cX4_learns : ByteArray := prog_29_method_95_code
def yX4_learns : MethodName := ⟨RX4, "learns", "(I)V"⟩
def dkwX4_learns_9 : List UInt8 := [177]
abbrev dktX4_learns_9 : List UInt8 := dkwX4_learns_9 ++ []
def dkwX4_learns_8 : List UInt8 := [21, 5, 27, 79, 132, 4, 1, 167, 255, 76, 42, 180, 0, 93, 27, 42, 16, 6, 182, 1, 62, 28, 100, 79]
abbrev dktX4_learns_8 : List UInt8 := dkwX4_learns_8 ++ dktX4_learns_9
def dkwX4_learns_7 : List UInt8 := [46, 5, 160, 0, 7, 5, 167, 0, 12, 42, 180, 0, 96, 21, 5, 46, 4, 96, 79, 42, 180, 0, 99]
abbrev dktX4_learns_7 : List UInt8 := dkwX4_learns_7 ++ dktX4_learns_8
def dkwX4_learns_6 : List UInt8 := [27, 181, 1, 163, 167, 0, 47, 28, 21, 6, 100, 61, 42, 180, 0, 96, 21, 5, 42, 180, 0, 96, 21, 5]
abbrev dktX4_learns_6 : List UInt8 := dkwX4_learns_6 ++ dktX4_learns_7
def dkwX4_learns_5 : List UInt8 := [62, 29, 153, 0, 29, 42, 89, 180, 1, 160, 4, 96, 181, 1, 160, 42, 180, 1, 163, 2, 160, 0, 55, 42]
abbrev dktX4_learns_5 : List UInt8 := dkwX4_learns_5 ++ dktX4_learns_6
def dkwX4_learns_4 : List UInt8 := [182, 1, 172, 27, 182, 1, 42, 54, 6, 29, 154, 0, 9, 21, 6, 28, 164, 0, 7, 4, 167, 0, 4, 3]
abbrev dktX4_learns_4 : List UInt8 := dkwX4_learns_4 ++ dktX4_learns_5
def dkwX4_learns_3 : List UInt8 := [160, 0, 7, 4, 167, 0, 25, 42, 21, 5, 42, 180, 0, 96, 21, 5, 46, 4, 96, 42, 21, 5]
abbrev dktX4_learns_3 : List UInt8 := dkwX4_learns_3 ++ dktX4_learns_4
def dkwX4_learns_2 : List UInt8 := [180, 0, 20, 16, 107, 5, 21, 4, 104, 96, 4, 96, 46, 54, 5, 42, 180, 0, 96, 21, 5, 46, 5]
abbrev dktX4_learns_2 : List UInt8 := dkwX4_learns_2 ++ dktX4_learns_3
def dkwX4_learns_1 : List UInt8 := [162, 0, 173, 42, 180, 0, 20, 16, 107, 5, 21, 4, 104, 96, 46, 27, 159, 0, 6, 167, 0, 148, 42]
abbrev dktX4_learns_1 : List UInt8 := dkwX4_learns_1 ++ dktX4_learns_2
def dkwX4_learns_0 : List UInt8 := [42, 16, 6, 182, 1, 62, 61, 3, 62, 3, 54, 4, 21, 4, 42, 180, 0, 20, 17, 1, 135, 46]
abbrev dktX4_learns_0 : List UInt8 := dkwX4_learns_0 ++ dktX4_learns_1
theorem dksX4_learns_0 : cX4_learns.data.toList.drop 0 = dktX4_learns_0 := by decide +kernel
theorem dksX4_learns_1 : cX4_learns.data.toList.drop 22 = dktX4_learns_1 := dk_seg dksX4_learns_0 22 rfl rfl
theorem dksX4_learns_2 : cX4_learns.data.toList.drop 45 = dktX4_learns_2 := dk_seg dksX4_learns_1 23 rfl rfl
theorem dksX4_learns_3 : cX4_learns.data.toList.drop 68 = dktX4_learns_3 := dk_seg dksX4_learns_2 23 rfl rfl
theorem dksX4_learns_4 : cX4_learns.data.toList.drop 90 = dktX4_learns_4 := dk_seg dksX4_learns_3 22 rfl rfl
theorem dksX4_learns_5 : cX4_learns.data.toList.drop 114 = dktX4_learns_5 := dk_seg dksX4_learns_4 24 rfl rfl
theorem dksX4_learns_6 : cX4_learns.data.toList.drop 138 = dktX4_learns_6 := dk_seg dksX4_learns_5 24 rfl rfl
theorem dksX4_learns_7 : cX4_learns.data.toList.drop 162 = dktX4_learns_7 := dk_seg dksX4_learns_6 24 rfl rfl
theorem dksX4_learns_8 : cX4_learns.data.toList.drop 185 = dktX4_learns_8 := dk_seg dksX4_learns_7 23 rfl rfl
theorem dksX4_learns_9 : cX4_learns.data.toList.drop 209 = dktX4_learns_9 := dk_seg dksX4_learns_8 24 rfl rfl
theorem dX4_learns_0 : decode cX4_learns 0 = .ok (.aload_n 0, 1) := dk_42 (dk_at dksX4_learns_0 0 rfl rfl)
theorem dX4_learns_1 : decode cX4_learns 1 = .ok (.bipush 6, 2) := dk_16 6 (dk_at dksX4_learns_0 1 rfl rfl)
theorem dX4_learns_3 : decode cX4_learns 3 = .ok (.invokevirtual 318, 3) := dk_182 1 62 (dk_at dksX4_learns_0 3 rfl rfl)
theorem dX4_learns_6 : decode cX4_learns 6 = .ok (.istore_n 2, 1) := dk_61 (dk_at dksX4_learns_0 6 rfl rfl)
theorem dX4_learns_7 : decode cX4_learns 7 = .ok (.iconst 0, 1) := dk_3 (dk_at dksX4_learns_0 7 rfl rfl)
theorem dX4_learns_8 : decode cX4_learns 8 = .ok (.istore_n 3, 1) := dk_62 (dk_at dksX4_learns_0 8 rfl rfl)
theorem dX4_learns_9 : decode cX4_learns 9 = .ok (.iconst 0, 1) := dk_3 (dk_at dksX4_learns_0 9 rfl rfl)
theorem dX4_learns_10 : decode cX4_learns 10 = .ok (.istore 4, 2) := dk_54 4 (dk_at dksX4_learns_0 10 rfl rfl)
theorem dX4_learns_12 : decode cX4_learns 12 = .ok (.iload 4, 2) := dk_21 4 (dk_at dksX4_learns_0 12 rfl rfl)
theorem dX4_learns_14 : decode cX4_learns 14 = .ok (.aload_n 0, 1) := dk_42 (dk_at dksX4_learns_0 14 rfl rfl)
theorem dX4_learns_15 : decode cX4_learns 15 = .ok (.getfield 20, 3) := dk_180 0 20 (dk_at dksX4_learns_0 15 rfl rfl)
theorem dX4_learns_18 : decode cX4_learns 18 = .ok (.sipush 391, 3) := dk_17 1 135 (dk_at dksX4_learns_0 18 rfl rfl)
theorem dX4_learns_21 : decode cX4_learns 21 = .ok (.iaload, 1) := dk_46 (dk_at dksX4_learns_0 21 rfl rfl)
theorem dX4_learns_22 : decode cX4_learns 22 = .ok (.if_icmp .ge 173, 3) := dk_162 0 173 (dk_at dksX4_learns_1 0 rfl rfl)
theorem dX4_learns_25 : decode cX4_learns 25 = .ok (.aload_n 0, 1) := dk_42 (dk_at dksX4_learns_1 3 rfl rfl)
theorem dX4_learns_26 : decode cX4_learns 26 = .ok (.getfield 20, 3) := dk_180 0 20 (dk_at dksX4_learns_1 4 rfl rfl)
theorem dX4_learns_29 : decode cX4_learns 29 = .ok (.bipush 107, 2) := dk_16 107 (dk_at dksX4_learns_1 7 rfl rfl)
theorem dX4_learns_31 : decode cX4_learns 31 = .ok (.iconst 2, 1) := dk_5 (dk_at dksX4_learns_1 9 rfl rfl)
theorem dX4_learns_32 : decode cX4_learns 32 = .ok (.iload 4, 2) := dk_21 4 (dk_at dksX4_learns_1 10 rfl rfl)
theorem dX4_learns_34 : decode cX4_learns 34 = .ok (.imul, 1) := dk_104 (dk_at dksX4_learns_1 12 rfl rfl)
theorem dX4_learns_35 : decode cX4_learns 35 = .ok (.iadd, 1) := dk_96 (dk_at dksX4_learns_1 13 rfl rfl)
theorem dX4_learns_36 : decode cX4_learns 36 = .ok (.iaload, 1) := dk_46 (dk_at dksX4_learns_1 14 rfl rfl)
theorem dX4_learns_37 : decode cX4_learns 37 = .ok (.iload_n 1, 1) := dk_27 (dk_at dksX4_learns_1 15 rfl rfl)
theorem dX4_learns_38 : decode cX4_learns 38 = .ok (.if_icmp .eq 6, 3) := dk_159 0 6 (dk_at dksX4_learns_1 16 rfl rfl)
theorem dX4_learns_41 : decode cX4_learns 41 = .ok (.goto 148, 3) := dk_167 0 148 (dk_at dksX4_learns_1 19 rfl rfl)
theorem dX4_learns_44 : decode cX4_learns 44 = .ok (.aload_n 0, 1) := dk_42 (dk_at dksX4_learns_1 22 rfl rfl)
theorem dX4_learns_45 : decode cX4_learns 45 = .ok (.getfield 20, 3) := dk_180 0 20 (dk_at dksX4_learns_2 0 rfl rfl)
theorem dX4_learns_48 : decode cX4_learns 48 = .ok (.bipush 107, 2) := dk_16 107 (dk_at dksX4_learns_2 3 rfl rfl)
theorem dX4_learns_50 : decode cX4_learns 50 = .ok (.iconst 2, 1) := dk_5 (dk_at dksX4_learns_2 5 rfl rfl)
theorem dX4_learns_51 : decode cX4_learns 51 = .ok (.iload 4, 2) := dk_21 4 (dk_at dksX4_learns_2 6 rfl rfl)
theorem dX4_learns_53 : decode cX4_learns 53 = .ok (.imul, 1) := dk_104 (dk_at dksX4_learns_2 8 rfl rfl)
theorem dX4_learns_54 : decode cX4_learns 54 = .ok (.iadd, 1) := dk_96 (dk_at dksX4_learns_2 9 rfl rfl)
theorem dX4_learns_55 : decode cX4_learns 55 = .ok (.iconst 1, 1) := dk_4 (dk_at dksX4_learns_2 10 rfl rfl)
theorem dX4_learns_56 : decode cX4_learns 56 = .ok (.iadd, 1) := dk_96 (dk_at dksX4_learns_2 11 rfl rfl)
theorem dX4_learns_57 : decode cX4_learns 57 = .ok (.iaload, 1) := dk_46 (dk_at dksX4_learns_2 12 rfl rfl)
theorem dX4_learns_58 : decode cX4_learns 58 = .ok (.istore 5, 2) := dk_54 5 (dk_at dksX4_learns_2 13 rfl rfl)
theorem dX4_learns_60 : decode cX4_learns 60 = .ok (.aload_n 0, 1) := dk_42 (dk_at dksX4_learns_2 15 rfl rfl)
theorem dX4_learns_61 : decode cX4_learns 61 = .ok (.getfield 96, 3) := dk_180 0 96 (dk_at dksX4_learns_2 16 rfl rfl)
theorem dX4_learns_64 : decode cX4_learns 64 = .ok (.iload 5, 2) := dk_21 5 (dk_at dksX4_learns_2 19 rfl rfl)
theorem dX4_learns_66 : decode cX4_learns 66 = .ok (.iaload, 1) := dk_46 (dk_at dksX4_learns_2 21 rfl rfl)
theorem dX4_learns_67 : decode cX4_learns 67 = .ok (.iconst 2, 1) := dk_5 (dk_at dksX4_learns_2 22 rfl rfl)
theorem dX4_learns_68 : decode cX4_learns 68 = .ok (.if_icmp .ne 7, 3) := dk_160 0 7 (dk_at dksX4_learns_3 0 rfl rfl)
theorem dX4_learns_71 : decode cX4_learns 71 = .ok (.iconst 1, 1) := dk_4 (dk_at dksX4_learns_3 3 rfl rfl)
theorem dX4_learns_72 : decode cX4_learns 72 = .ok (.goto 25, 3) := dk_167 0 25 (dk_at dksX4_learns_3 4 rfl rfl)
theorem dX4_learns_75 : decode cX4_learns 75 = .ok (.aload_n 0, 1) := dk_42 (dk_at dksX4_learns_3 7 rfl rfl)
theorem dX4_learns_76 : decode cX4_learns 76 = .ok (.iload 5, 2) := dk_21 5 (dk_at dksX4_learns_3 8 rfl rfl)
theorem dX4_learns_78 : decode cX4_learns 78 = .ok (.aload_n 0, 1) := dk_42 (dk_at dksX4_learns_3 10 rfl rfl)
theorem dX4_learns_79 : decode cX4_learns 79 = .ok (.getfield 96, 3) := dk_180 0 96 (dk_at dksX4_learns_3 11 rfl rfl)
theorem dX4_learns_82 : decode cX4_learns 82 = .ok (.iload 5, 2) := dk_21 5 (dk_at dksX4_learns_3 14 rfl rfl)
theorem dX4_learns_84 : decode cX4_learns 84 = .ok (.iaload, 1) := dk_46 (dk_at dksX4_learns_3 16 rfl rfl)
theorem dX4_learns_85 : decode cX4_learns 85 = .ok (.iconst 1, 1) := dk_4 (dk_at dksX4_learns_3 17 rfl rfl)
theorem dX4_learns_86 : decode cX4_learns 86 = .ok (.iadd, 1) := dk_96 (dk_at dksX4_learns_3 18 rfl rfl)
theorem dX4_learns_87 : decode cX4_learns 87 = .ok (.aload_n 0, 1) := dk_42 (dk_at dksX4_learns_3 19 rfl rfl)
theorem dX4_learns_88 : decode cX4_learns 88 = .ok (.iload 5, 2) := dk_21 5 (dk_at dksX4_learns_3 20 rfl rfl)
theorem dX4_learns_90 : decode cX4_learns 90 = .ok (.invokevirtual 428, 3) := dk_182 1 172 (dk_at dksX4_learns_4 0 rfl rfl)
theorem dX4_learns_93 : decode cX4_learns 93 = .ok (.iload_n 1, 1) := dk_27 (dk_at dksX4_learns_4 3 rfl rfl)
theorem dX4_learns_94 : decode cX4_learns 94 = .ok (.invokevirtual 298, 3) := dk_182 1 42 (dk_at dksX4_learns_4 4 rfl rfl)
theorem dX4_learns_97 : decode cX4_learns 97 = .ok (.istore 6, 2) := dk_54 6 (dk_at dksX4_learns_4 7 rfl rfl)
theorem dX4_learns_99 : decode cX4_learns 99 = .ok (.iload_n 3, 1) := dk_29 (dk_at dksX4_learns_4 9 rfl rfl)
theorem dX4_learns_100 : decode cX4_learns 100 = .ok (.ifCond .ne 9, 3) := dk_154 0 9 (dk_at dksX4_learns_4 10 rfl rfl)
theorem dX4_learns_103 : decode cX4_learns 103 = .ok (.iload 6, 2) := dk_21 6 (dk_at dksX4_learns_4 13 rfl rfl)
theorem dX4_learns_105 : decode cX4_learns 105 = .ok (.iload_n 2, 1) := dk_28 (dk_at dksX4_learns_4 15 rfl rfl)
theorem dX4_learns_106 : decode cX4_learns 106 = .ok (.if_icmp .le 7, 3) := dk_164 0 7 (dk_at dksX4_learns_4 16 rfl rfl)
theorem dX4_learns_109 : decode cX4_learns 109 = .ok (.iconst 1, 1) := dk_4 (dk_at dksX4_learns_4 19 rfl rfl)
theorem dX4_learns_110 : decode cX4_learns 110 = .ok (.goto 4, 3) := dk_167 0 4 (dk_at dksX4_learns_4 20 rfl rfl)
theorem dX4_learns_113 : decode cX4_learns 113 = .ok (.iconst 0, 1) := dk_3 (dk_at dksX4_learns_4 23 rfl rfl)
theorem dX4_learns_114 : decode cX4_learns 114 = .ok (.istore_n 3, 1) := dk_62 (dk_at dksX4_learns_5 0 rfl rfl)
theorem dX4_learns_115 : decode cX4_learns 115 = .ok (.iload_n 3, 1) := dk_29 (dk_at dksX4_learns_5 1 rfl rfl)
theorem dX4_learns_116 : decode cX4_learns 116 = .ok (.ifCond .eq 29, 3) := dk_153 0 29 (dk_at dksX4_learns_5 2 rfl rfl)
theorem dX4_learns_119 : decode cX4_learns 119 = .ok (.aload_n 0, 1) := dk_42 (dk_at dksX4_learns_5 5 rfl rfl)
theorem dX4_learns_120 : decode cX4_learns 120 = .ok (.dup, 1) := dk_89 (dk_at dksX4_learns_5 6 rfl rfl)
theorem dX4_learns_121 : decode cX4_learns 121 = .ok (.getfield 416, 3) := dk_180 1 160 (dk_at dksX4_learns_5 7 rfl rfl)
theorem dX4_learns_124 : decode cX4_learns 124 = .ok (.iconst 1, 1) := dk_4 (dk_at dksX4_learns_5 10 rfl rfl)
theorem dX4_learns_125 : decode cX4_learns 125 = .ok (.iadd, 1) := dk_96 (dk_at dksX4_learns_5 11 rfl rfl)
theorem dX4_learns_126 : decode cX4_learns 126 = .ok (.putfield 416, 3) := dk_181 1 160 (dk_at dksX4_learns_5 12 rfl rfl)
theorem dX4_learns_129 : decode cX4_learns 129 = .ok (.aload_n 0, 1) := dk_42 (dk_at dksX4_learns_5 15 rfl rfl)
theorem dX4_learns_130 : decode cX4_learns 130 = .ok (.getfield 419, 3) := dk_180 1 163 (dk_at dksX4_learns_5 16 rfl rfl)
theorem dX4_learns_133 : decode cX4_learns 133 = .ok (.iconst (-1), 1) := dk_2 (dk_at dksX4_learns_5 19 rfl rfl)
theorem dX4_learns_134 : decode cX4_learns 134 = .ok (.if_icmp .ne 55, 3) := dk_160 0 55 (dk_at dksX4_learns_5 20 rfl rfl)
theorem dX4_learns_137 : decode cX4_learns 137 = .ok (.aload_n 0, 1) := dk_42 (dk_at dksX4_learns_5 23 rfl rfl)
theorem dX4_learns_138 : decode cX4_learns 138 = .ok (.iload_n 1, 1) := dk_27 (dk_at dksX4_learns_6 0 rfl rfl)
theorem dX4_learns_139 : decode cX4_learns 139 = .ok (.putfield 419, 3) := dk_181 1 163 (dk_at dksX4_learns_6 1 rfl rfl)
theorem dX4_learns_142 : decode cX4_learns 142 = .ok (.goto 47, 3) := dk_167 0 47 (dk_at dksX4_learns_6 4 rfl rfl)
theorem dX4_learns_145 : decode cX4_learns 145 = .ok (.iload_n 2, 1) := dk_28 (dk_at dksX4_learns_6 7 rfl rfl)
theorem dX4_learns_146 : decode cX4_learns 146 = .ok (.iload 6, 2) := dk_21 6 (dk_at dksX4_learns_6 8 rfl rfl)
theorem dX4_learns_148 : decode cX4_learns 148 = .ok (.isub, 1) := dk_100 (dk_at dksX4_learns_6 10 rfl rfl)
theorem dX4_learns_149 : decode cX4_learns 149 = .ok (.istore_n 2, 1) := dk_61 (dk_at dksX4_learns_6 11 rfl rfl)
theorem dX4_learns_150 : decode cX4_learns 150 = .ok (.aload_n 0, 1) := dk_42 (dk_at dksX4_learns_6 12 rfl rfl)
theorem dX4_learns_151 : decode cX4_learns 151 = .ok (.getfield 96, 3) := dk_180 0 96 (dk_at dksX4_learns_6 13 rfl rfl)
theorem dX4_learns_154 : decode cX4_learns 154 = .ok (.iload 5, 2) := dk_21 5 (dk_at dksX4_learns_6 16 rfl rfl)
theorem dX4_learns_156 : decode cX4_learns 156 = .ok (.aload_n 0, 1) := dk_42 (dk_at dksX4_learns_6 18 rfl rfl)
theorem dX4_learns_157 : decode cX4_learns 157 = .ok (.getfield 96, 3) := dk_180 0 96 (dk_at dksX4_learns_6 19 rfl rfl)
theorem dX4_learns_160 : decode cX4_learns 160 = .ok (.iload 5, 2) := dk_21 5 (dk_at dksX4_learns_6 22 rfl rfl)
theorem dX4_learns_162 : decode cX4_learns 162 = .ok (.iaload, 1) := dk_46 (dk_at dksX4_learns_7 0 rfl rfl)
theorem dX4_learns_163 : decode cX4_learns 163 = .ok (.iconst 2, 1) := dk_5 (dk_at dksX4_learns_7 1 rfl rfl)
theorem dX4_learns_164 : decode cX4_learns 164 = .ok (.if_icmp .ne 7, 3) := dk_160 0 7 (dk_at dksX4_learns_7 2 rfl rfl)
theorem dX4_learns_167 : decode cX4_learns 167 = .ok (.iconst 2, 1) := dk_5 (dk_at dksX4_learns_7 5 rfl rfl)
theorem dX4_learns_168 : decode cX4_learns 168 = .ok (.goto 12, 3) := dk_167 0 12 (dk_at dksX4_learns_7 6 rfl rfl)
theorem dX4_learns_171 : decode cX4_learns 171 = .ok (.aload_n 0, 1) := dk_42 (dk_at dksX4_learns_7 9 rfl rfl)
theorem dX4_learns_172 : decode cX4_learns 172 = .ok (.getfield 96, 3) := dk_180 0 96 (dk_at dksX4_learns_7 10 rfl rfl)
theorem dX4_learns_175 : decode cX4_learns 175 = .ok (.iload 5, 2) := dk_21 5 (dk_at dksX4_learns_7 13 rfl rfl)
theorem dX4_learns_177 : decode cX4_learns 177 = .ok (.iaload, 1) := dk_46 (dk_at dksX4_learns_7 15 rfl rfl)
theorem dX4_learns_178 : decode cX4_learns 178 = .ok (.iconst 1, 1) := dk_4 (dk_at dksX4_learns_7 16 rfl rfl)
theorem dX4_learns_179 : decode cX4_learns 179 = .ok (.iadd, 1) := dk_96 (dk_at dksX4_learns_7 17 rfl rfl)
theorem dX4_learns_180 : decode cX4_learns 180 = .ok (.iastore, 1) := dk_79 (dk_at dksX4_learns_7 18 rfl rfl)
theorem dX4_learns_181 : decode cX4_learns 181 = .ok (.aload_n 0, 1) := dk_42 (dk_at dksX4_learns_7 19 rfl rfl)
theorem dX4_learns_182 : decode cX4_learns 182 = .ok (.getfield 99, 3) := dk_180 0 99 (dk_at dksX4_learns_7 20 rfl rfl)
theorem dX4_learns_185 : decode cX4_learns 185 = .ok (.iload 5, 2) := dk_21 5 (dk_at dksX4_learns_8 0 rfl rfl)
theorem dX4_learns_187 : decode cX4_learns 187 = .ok (.iload_n 1, 1) := dk_27 (dk_at dksX4_learns_8 2 rfl rfl)
theorem dX4_learns_188 : decode cX4_learns 188 = .ok (.iastore, 1) := dk_79 (dk_at dksX4_learns_8 3 rfl rfl)
theorem dX4_learns_189 : decode cX4_learns 189 = .ok (.iinc 4 1, 3) := dk_132 4 1 (dk_at dksX4_learns_8 4 rfl rfl)
theorem dX4_learns_192 : decode cX4_learns 192 = .ok (.goto (-180), 3) := dk_167 255 76 (dk_at dksX4_learns_8 7 rfl rfl)
theorem dX4_learns_195 : decode cX4_learns 195 = .ok (.aload_n 0, 1) := dk_42 (dk_at dksX4_learns_8 10 rfl rfl)
theorem dX4_learns_196 : decode cX4_learns 196 = .ok (.getfield 93, 3) := dk_180 0 93 (dk_at dksX4_learns_8 11 rfl rfl)
theorem dX4_learns_199 : decode cX4_learns 199 = .ok (.iload_n 1, 1) := dk_27 (dk_at dksX4_learns_8 14 rfl rfl)
theorem dX4_learns_200 : decode cX4_learns 200 = .ok (.aload_n 0, 1) := dk_42 (dk_at dksX4_learns_8 15 rfl rfl)
theorem dX4_learns_201 : decode cX4_learns 201 = .ok (.bipush 6, 2) := dk_16 6 (dk_at dksX4_learns_8 16 rfl rfl)
theorem dX4_learns_203 : decode cX4_learns 203 = .ok (.invokevirtual 318, 3) := dk_182 1 62 (dk_at dksX4_learns_8 18 rfl rfl)
theorem dX4_learns_206 : decode cX4_learns 206 = .ok (.iload_n 2, 1) := dk_28 (dk_at dksX4_learns_8 21 rfl rfl)
theorem dX4_learns_207 : decode cX4_learns 207 = .ok (.isub, 1) := dk_100 (dk_at dksX4_learns_8 22 rfl rfl)
theorem dX4_learns_208 : decode cX4_learns 208 = .ok (.iastore, 1) := dk_79 (dk_at dksX4_learns_8 23 rfl rfl)
theorem dX4_learns_209 : decode cX4_learns 209 = .ok (.return_, 1) := dk_177 (dk_at dksX4_learns_9 0 rfl rfl)
