/-! printed by tools/genm.py: the model's methods as pure functions, and their walks -/
set_option maxRecDepth 100000
set_option maxHeartbeats 4000000
noncomputable def M_asksOf (x1 : Int) (x2 : Int) (x3 : Int) (x4 : Int) (V : VV) : Option (Int × VV) := mb (M_factOf x1 0 V) fun r1 V2 => nm (vup V2 21 0 r1) fun V3 => mb (M_factOf x1 1 V3) fun r4 V5 => nm (vup V5 21 1 r4) fun V6 => nm (vup V6 21 2 x2) fun V7 => nm (vup V7 21 3 x3) fun V8 => mb (M_factOf x1 3 V8) fun r9 V10 => nm (vup V10 21 4 r9) fun V11 => nm (vup V11 21 5 x4) fun V12 => nm (vup V12 21 6 x1) fun V13 => some (0, V13)
theorem WM_asksOf (l : Launch) {d : Nat} (hdd : 2 ≤ d) (x1 : Int) (x2 : Int) (x3 : Int) (x4 : Int) (V : VV) (hV : okV V) (ho : oks [(0, x1), (0, x2), (0, x3), (0, x4)]) (fin : Int × VV) (hf : M_asksOf x1 x2 x3 x4 V = some fin) : mSpec l yX4_asksOf cX4_asksOf 5 none d 2 [(3, 0), (0, x1), (0, x2), (0, x3), (0, x4)] V fin := by
  refine m_enter (lv := [(0, (3, 0)), (1, (0, x1)), (2, (0, x2)), (3, (0, x3)), (4, (0, x4))]) (by decide) rfl (Nat.le_of_ble_eq_true rfl) rfl (fun Z hZ hX => ?_) hV (ho.c (okA.t 0)) fin hf
  unfold M_asksOf
  refine m_aload_n hX 0 dX4_asksOf_0 rfl rfl ?_
  refine fg_21 hX dX4_asksOf_1 ?_
  refine m_ic hX dX4_asksOf_4 (by decide) (by decide) ?_
  refine m_aload_n hX 0 dX4_asksOf_5 rfl rfl ?_
  refine m_iload_n hX 1 dX4_asksOf_6 rfl rfl ?_
  refine m_ic hX dX4_asksOf_7 (by decide) (by decide) ?_
  refine cl_factOf hX (by omega) (Nat.le_of_ble_eq_true rfl) dX4_asksOf_8 fun r1 V2 => ?_
  refine m_in (by decide) (by decide) (as_21 hX dX4_asksOf_11 fun V3 => ?_)
  refine m_aload_n hX 0 dX4_asksOf_12 rfl rfl ?_
  refine fg_21 hX dX4_asksOf_13 ?_
  refine m_ic hX dX4_asksOf_16 (by decide) (by decide) ?_
  refine m_aload_n hX 0 dX4_asksOf_17 rfl rfl ?_
  refine m_iload_n hX 1 dX4_asksOf_18 rfl rfl ?_
  refine m_ic hX dX4_asksOf_19 (by decide) (by decide) ?_
  refine cl_factOf hX (by omega) (Nat.le_of_ble_eq_true rfl) dX4_asksOf_20 fun r4 V5 => ?_
  refine m_in (by decide) (by decide) (as_21 hX dX4_asksOf_23 fun V6 => ?_)
  refine m_aload_n hX 0 dX4_asksOf_24 rfl rfl ?_
  refine fg_21 hX dX4_asksOf_25 ?_
  refine m_ic hX dX4_asksOf_28 (by decide) (by decide) ?_
  refine m_iload_n hX 2 dX4_asksOf_29 rfl rfl ?_
  refine m_in (by decide) (by decide) (as_21 hX dX4_asksOf_30 fun V7 => ?_)
  refine m_aload_n hX 0 dX4_asksOf_31 rfl rfl ?_
  refine fg_21 hX dX4_asksOf_32 ?_
  refine m_ic hX dX4_asksOf_35 (by decide) (by decide) ?_
  refine m_iload_n hX 3 dX4_asksOf_36 rfl rfl ?_
  refine m_in (by decide) (by decide) (as_21 hX dX4_asksOf_37 fun V8 => ?_)
  refine m_aload_n hX 0 dX4_asksOf_38 rfl rfl ?_
  refine fg_21 hX dX4_asksOf_39 ?_
  refine m_ic hX dX4_asksOf_42 (by decide) (by decide) ?_
  refine m_aload_n hX 0 dX4_asksOf_43 rfl rfl ?_
  refine m_iload_n hX 1 dX4_asksOf_44 rfl rfl ?_
  refine m_ic hX dX4_asksOf_45 (by decide) (by decide) ?_
  refine cl_factOf hX (by omega) (Nat.le_of_ble_eq_true rfl) dX4_asksOf_46 fun r9 V10 => ?_
  refine m_in (by decide) (by decide) (as_21 hX dX4_asksOf_49 fun V11 => ?_)
  refine m_aload_n hX 0 dX4_asksOf_50 rfl rfl ?_
  refine fg_21 hX dX4_asksOf_51 ?_
  refine m_ic hX dX4_asksOf_54 (by decide) (by decide) ?_
  refine m_iload hX 4 dX4_asksOf_55 rfl ?_
  refine m_in (by decide) (by decide) (as_21 hX dX4_asksOf_57 fun V12 => ?_)
  refine m_aload_n hX 0 dX4_asksOf_58 rfl rfl ?_
  refine fg_21 hX dX4_asksOf_59 ?_
  refine m_bp hX dX4_asksOf_62 (by decide) (by decide) ?_
  refine m_iload_n hX 1 dX4_asksOf_64 rfl rfl ?_
  refine m_in (by decide) (by decide) (as_21 hX dX4_asksOf_65 fun V13 => ?_)
  exact m_vret hX rfl dX4_asksOf_66
theorem cl_asksOf {Z : MZ} {cc : ByteArray} {nL : Nat} {ret : Option FieldType} {d rk : Nat} {pc : Nat} {lv : List (Nat × AV)} {st : List AV} {V : VV} {g : Int → VV → Option (Int × VV)} (hX : MX Z cc nL ret d rk) {a0 a1 a2 a3 : Int} (hdd : 3 ≤ d) (hcat : (st.map fun v => if v.1 = 1 then 2 else 1).sum ≤ 8) (hdg : decode cc pc = .ok (.invokevirtual 290, 3)) (kk : ∀ r V1, MG Z (pc + 3) lv st V1 (g r V1)) : MG Z pc lv ((0, a3) :: (0, a2) :: (0, a1) :: (0, a0) :: (3, 0) :: st) V (mb (M_asksOf a0 a1 a2 a3 V) g) :=
  m_callVv hX [(0, a0), (0, a1), (0, a2), (0, a3)] 4 (fun hV ho fin hf => WM_asksOf (zL Z) (Nat.le_refl 2) a0 a1 a2 a3 V hV ho fin hf) (lw_V q2031 q2033 qs81 q131 q2034) (by decide +kernel) rfl (by omega) (by decide) rfl hcat hdg kk
noncomputable def M_takesOf (x1 : Int) (x2 : Int) (x3 : Int) (x4 : Int) (V : VV) : Option (Int × VV) := nm (α := Int) (if x3 = 0 then 0 else 1) fun v1 => mb (M_asksOf x1 x2 v1 x4 V) fun r2 V3 => mb (M_told 1 1 20 4 V3) fun r4 V5 => some (r4, V5)
theorem WM_takesOf (l : Launch) {d : Nat} (hdd : 126 ≤ d) (x1 : Int) (x2 : Int) (x3 : Int) (x4 : Int) (V : VV) (hV : okV V) (ho : oks [(0, x1), (0, x2), (0, x3), (0, x4)]) (fin : Int × VV) (hf : M_takesOf x1 x2 x3 x4 V = some fin) : mSpec l yX4_takesOf cX4_takesOf 5 (some .int) d 0 [(3, 0), (0, x1), (0, x2), (0, x3), (0, x4)] V fin := by
  refine m_enter (lv := [(0, (3, 0)), (1, (0, x1)), (2, (0, x2)), (3, (0, x3)), (4, (0, x4))]) (by decide) rfl (Nat.le_of_ble_eq_true rfl) rfl (fun Z hZ hX => ?_) hV (ho.c (okA.t 0)) fin hf
  unfold M_takesOf
  refine m_aload_n hX 0 dX4_takesOf_0 rfl rfl ?_
  refine m_iload_n hX 1 dX4_takesOf_1 rfl rfl ?_
  refine m_iload_n hX 2 dX4_takesOf_2 rfl rfl ?_
  refine m_iload_n hX 3 dX4_takesOf_3 rfl rfl ?_
  refine m_join 12 (fun v1 => [(0, v1), (0, x2), (0, x1), (3, 0)]) (fun v1 => ?_) (fun hJ => ?_)
  · refine m_iload hX 4 dX4_takesOf_12 rfl ?_
    refine cl_asksOf hX (by omega) (Nat.le_of_ble_eq_true rfl) dX4_takesOf_14 fun r2 V3 => ?_
    refine m_aload_n hX 0 dX4_takesOf_17 rfl rfl ?_
    refine m_ic hX dX4_takesOf_18 (by decide) (by decide) ?_
    refine m_ic hX dX4_takesOf_19 (by decide) (by decide) ?_
    refine m_bp hX dX4_takesOf_20 (by decide) (by decide) ?_
    refine m_ic hX dX4_takesOf_22 (by decide) (by decide) ?_
    refine cl_told hX (by omega) (Nat.le_of_ble_eq_true rfl) dX4_takesOf_23 fun r4 V5 => ?_
    exact m_iret hX rfl dX4_takesOf_26
  · refine m_if_eqF hX 11 dX4_takesOf_4 (by decide) (fun _ => ?_) (fun _ => ?_)
    · refine m_ic hX dX4_takesOf_11 (by decide) (by decide) ?_
      exact hJ _
    · refine m_ic hX dX4_takesOf_7 (by decide) (by decide) ?_
      refine m_goto hX 12 dX4_takesOf_8 (by decide) ?_
      exact hJ _
theorem cl_takesOf {Z : MZ} {cc : ByteArray} {nL : Nat} {ret : Option FieldType} {d rk : Nat} {pc : Nat} {lv : List (Nat × AV)} {st : List AV} {V : VV} {g : Int → VV → Option (Int × VV)} (hX : MX Z cc nL ret d rk) {a0 a1 a2 a3 : Int} (hdd : 127 ≤ d) (hcat : (st.map fun v => if v.1 = 1 then 2 else 1).sum ≤ 8) (hdg : decode cc pc = .ok (.invokevirtual 298, 3)) (kk : ∀ r V1, MG Z (pc + 3) lv ((0, r) :: st) V1 (g r V1)) : MG Z pc lv ((0, a3) :: (0, a2) :: (0, a1) :: (0, a0) :: (3, 0) :: st) V (mb (M_takesOf a0 a1 a2 a3 V) g) :=
  m_callVi hX [(0, a0), (0, a1), (0, a2), (0, a3)] 4 (fun hV ho fin hf => WM_takesOf (zL Z) (Nat.le_refl 126) a0 a1 a2 a3 V hV ho fin hf) (lw_V q2027 q2029 qs80 q131 q2030) (by decide +kernel) rfl (by omega) (by decide) rfl hcat hdg kk
noncomputable def M_takes (x1 : Int) (x2 : Int) (x3 : Int) (V : VV) : Option (Int × VV) := mb (M_isQuestion x1 V) fun r1 V2 => if r1 = 0 then (some ((-1), V2)) else (mb (M_lies x2 1 3 V2) fun r3 V4 => if r3 = 0 then (some ((-1), V4)) else (mb (M_lies x3 0 1 V4) fun r5 V6 => if r5 = 0 then (some ((-1), V6)) else (if x2 = 3 then (some (1, V6)) else (nm (α := Int) (if x3 = 1 then 1 else 0) fun v7 => mb (M_takesOf x1 x2 v7 0 V6) fun r8 V9 => some (r8, V9)))))
theorem WM_takes (l : Launch) {d : Nat} (hdd : 127 ≤ d) (x1 : Int) (x2 : Int) (x3 : Int) (V : VV) (hV : okV V) (ho : oks [(0, x1), (0, x2), (0, x3)]) (fin : Int × VV) (hf : M_takes x1 x2 x3 V = some fin) : mSpec l yX4_takes cX4_takes 4 (some .int) d 0 [(3, 0), (0, x1), (0, x2), (0, x3)] V fin := by
  refine m_enter (lv := [(0, (3, 0)), (1, (0, x1)), (2, (0, x2)), (3, (0, x3))]) (by decide) rfl (Nat.le_of_ble_eq_true rfl) rfl (fun Z hZ hX => ?_) hV (ho.c (okA.t 0)) fin hf
  unfold M_takes
  refine m_aload_n hX 0 dX4_takes_0 rfl rfl ?_
  refine m_iload_n hX 1 dX4_takes_1 rfl rfl ?_
  refine cl_isQuestion hX (by omega) (Nat.le_of_ble_eq_true rfl) dX4_takes_2 fun r1 V2 => ?_
  refine m_if_eq hX 26 dX4_takes_5 (by decide) (fun _ => ?_) (fun _ => ?_)
  · refine m_ic hX dX4_takes_26 (by decide) (by decide) ?_
    exact m_iret hX rfl dX4_takes_27
  · refine m_iload_n hX 2 dX4_takes_8 rfl rfl ?_
    refine m_ic hX dX4_takes_9 (by decide) (by decide) ?_
    refine m_ic hX dX4_takes_10 (by decide) (by decide) ?_
    refine cl_lies hX (by omega) (Nat.le_of_ble_eq_true rfl) dX4_takes_11 fun r3 V4 => ?_
    refine m_if_eq hX 26 dX4_takes_14 (by decide) (fun _ => ?_) (fun _ => ?_)
    · refine m_ic hX dX4_takes_26 (by decide) (by decide) ?_
      exact m_iret hX rfl dX4_takes_27
    · refine m_iload_n hX 3 dX4_takes_17 rfl rfl ?_
      refine m_ic hX dX4_takes_18 (by decide) (by decide) ?_
      refine m_ic hX dX4_takes_19 (by decide) (by decide) ?_
      refine cl_lies hX (by omega) (Nat.le_of_ble_eq_true rfl) dX4_takes_20 fun r5 V6 => ?_
      refine m_if_ne hX 28 dX4_takes_23 (by decide) (fun _ => ?_) (fun _ => ?_)
      · refine m_iload_n hX 2 dX4_takes_28 rfl rfl ?_
        refine m_ic hX dX4_takes_29 (by decide) (by decide) ?_
        refine m_icmp_ne hX 37 dX4_takes_30 (by decide) (fun _ => ?_) (fun _ => ?_)
        · refine m_aload_n hX 0 dX4_takes_37 rfl rfl ?_
          refine m_iload_n hX 1 dX4_takes_38 rfl rfl ?_
          refine m_iload_n hX 2 dX4_takes_39 rfl rfl ?_
          refine m_iload_n hX 3 dX4_takes_40 rfl rfl ?_
          refine m_ic hX dX4_takes_41 (by decide) (by decide) ?_
          refine m_join 50 (fun v7 => [(0, v7), (0, x2), (0, x1), (3, 0)]) (fun v7 => ?_) (fun hJ => ?_)
          · refine m_ic hX dX4_takes_50 (by decide) (by decide) ?_
            refine cl_takesOf hX (by omega) (Nat.le_of_ble_eq_true rfl) dX4_takes_51 fun r8 V9 => ?_
            exact m_iret hX rfl dX4_takes_54
          · refine m_icmp_neF hX 49 dX4_takes_42 (by decide) (fun _ => ?_) (fun _ => ?_)
            · refine m_ic hX dX4_takes_49 (by decide) (by decide) ?_
              exact hJ _
            · refine m_ic hX dX4_takes_45 (by decide) (by decide) ?_
              refine m_goto hX 50 dX4_takes_46 (by decide) ?_
              exact hJ _
        · refine m_ic hX dX4_takes_33 (by decide) (by decide) ?_
          refine m_goto hX 54 dX4_takes_34 (by decide) ?_
          exact m_iret hX rfl dX4_takes_54
      · refine m_ic hX dX4_takes_26 (by decide) (by decide) ?_
        exact m_iret hX rfl dX4_takes_27
-- takes: not called inside
noncomputable def M_keepsOf (x1 : Int) (x2 : Int) (V : VV) : Option (Int × VV) := mb (M_asksOf x1 x2 0 0 V) fun r1 V2 => mb (M_told 2 1 30 10 V2) fun r3 V4 => some (r3, V4)
theorem WM_keepsOf (l : Launch) {d : Nat} (hdd : 126 ≤ d) (x1 : Int) (x2 : Int) (V : VV) (hV : okV V) (ho : oks [(0, x1), (0, x2)]) (fin : Int × VV) (hf : M_keepsOf x1 x2 V = some fin) : mSpec l yX4_keepsOf cX4_keepsOf 3 (some .int) d 0 [(3, 0), (0, x1), (0, x2)] V fin := by
  refine m_enter (lv := [(0, (3, 0)), (1, (0, x1)), (2, (0, x2))]) (by decide) rfl (Nat.le_of_ble_eq_true rfl) rfl (fun Z hZ hX => ?_) hV (ho.c (okA.t 0)) fin hf
  unfold M_keepsOf
  refine m_aload_n hX 0 dX4_keepsOf_0 rfl rfl ?_
  refine m_iload_n hX 1 dX4_keepsOf_1 rfl rfl ?_
  refine m_iload_n hX 2 dX4_keepsOf_2 rfl rfl ?_
  refine m_ic hX dX4_keepsOf_3 (by decide) (by decide) ?_
  refine m_ic hX dX4_keepsOf_4 (by decide) (by decide) ?_
  refine cl_asksOf hX (by omega) (Nat.le_of_ble_eq_true rfl) dX4_keepsOf_5 fun r1 V2 => ?_
  refine m_aload_n hX 0 dX4_keepsOf_8 rfl rfl ?_
  refine m_ic hX dX4_keepsOf_9 (by decide) (by decide) ?_
  refine m_ic hX dX4_keepsOf_10 (by decide) (by decide) ?_
  refine m_bp hX dX4_keepsOf_11 (by decide) (by decide) ?_
  refine m_bp hX dX4_keepsOf_13 (by decide) (by decide) ?_
  refine cl_told hX (by omega) (Nat.le_of_ble_eq_true rfl) dX4_keepsOf_15 fun r3 V4 => ?_
  exact m_iret hX rfl dX4_keepsOf_18
theorem cl_keepsOf {Z : MZ} {cc : ByteArray} {nL : Nat} {ret : Option FieldType} {d rk : Nat} {pc : Nat} {lv : List (Nat × AV)} {st : List AV} {V : VV} {g : Int → VV → Option (Int × VV)} (hX : MX Z cc nL ret d rk) {a0 a1 : Int} (hdd : 127 ≤ d) (hcat : (st.map fun v => if v.1 = 1 then 2 else 1).sum ≤ 8) (hdg : decode cc pc = .ok (.invokevirtual 302, 3)) (kk : ∀ r V1, MG Z (pc + 3) lv ((0, r) :: st) V1 (g r V1)) : MG Z pc lv ((0, a1) :: (0, a0) :: (3, 0) :: st) V (mb (M_keepsOf a0 a1 V) g) :=
  m_callVi hX [(0, a0), (0, a1)] 2 (fun hV ho fin hf => WM_keepsOf (zL Z) (Nat.le_refl 126) a0 a1 V hV ho fin hf) (lw_V q2085 q2087 qs93 q131 q2088) (by decide +kernel) rfl (by omega) (by decide) rfl hcat hdg kk
noncomputable def M_keeps (x1 : Int) (x2 : Int) (V : VV) : Option (Int × VV) := mb (M_isQuestion x1 V) fun r1 V2 => if r1 = 0 then (some ((-1), V2)) else (mb (M_lies x2 1 2 V2) fun r3 V4 => if r3 = 0 then (some ((-1), V4)) else (mb (M_keepsOf x1 x2 V4) fun r5 V6 => some (r5, V6)))
theorem WM_keeps (l : Launch) {d : Nat} (hdd : 127 ≤ d) (x1 : Int) (x2 : Int) (V : VV) (hV : okV V) (ho : oks [(0, x1), (0, x2)]) (fin : Int × VV) (hf : M_keeps x1 x2 V = some fin) : mSpec l yX4_keeps cX4_keeps 3 (some .int) d 0 [(3, 0), (0, x1), (0, x2)] V fin := by
  refine m_enter (lv := [(0, (3, 0)), (1, (0, x1)), (2, (0, x2))]) (by decide) rfl (Nat.le_of_ble_eq_true rfl) rfl (fun Z hZ hX => ?_) hV (ho.c (okA.t 0)) fin hf
  unfold M_keeps
  refine m_aload_n hX 0 dX4_keeps_0 rfl rfl ?_
  refine m_iload_n hX 1 dX4_keeps_1 rfl rfl ?_
  refine cl_isQuestion hX (by omega) (Nat.le_of_ble_eq_true rfl) dX4_keeps_2 fun r1 V2 => ?_
  refine m_if_eq hX 26 dX4_keeps_5 (by decide) (fun _ => ?_) (fun _ => ?_)
  · refine m_ic hX dX4_keeps_26 (by decide) (by decide) ?_
    exact m_iret hX rfl dX4_keeps_27
  · refine m_iload_n hX 2 dX4_keeps_8 rfl rfl ?_
    refine m_ic hX dX4_keeps_9 (by decide) (by decide) ?_
    refine m_ic hX dX4_keeps_10 (by decide) (by decide) ?_
    refine cl_lies hX (by omega) (Nat.le_of_ble_eq_true rfl) dX4_keeps_11 fun r3 V4 => ?_
    refine m_if_eq hX 26 dX4_keeps_14 (by decide) (fun _ => ?_) (fun _ => ?_)
    · refine m_ic hX dX4_keeps_26 (by decide) (by decide) ?_
      exact m_iret hX rfl dX4_keeps_27
    · refine m_aload_n hX 0 dX4_keeps_17 rfl rfl ?_
      refine m_iload_n hX 1 dX4_keeps_18 rfl rfl ?_
      refine m_iload_n hX 2 dX4_keeps_19 rfl rfl ?_
      refine cl_keepsOf hX (by omega) (Nat.le_of_ble_eq_true rfl) dX4_keeps_20 fun r5 V6 => ?_
      refine m_goto hX 27 dX4_keeps_23 (by decide) ?_
      exact m_iret hX rfl dX4_keeps_27
-- keeps: not called inside
noncomputable def M_chanceOf_21 (x1 : Int) (V : VV) : Option (Int × VV) := nm (vup V 21 2 x1) fun V1 => mb (M_told 3 0 100 (w32 (50 * x1)) V1) fun r2 V3 => some (r2, V3)
theorem WM_chanceOf_21 {Z : MZ} {d : Nat} (hX : MX Z cX4_chanceOf 3 (some .int) d 0) (hdd : 126 ≤ d) : ∀ x1 V, MG Z 21 [(0, (3, 0)), (1, (0, x1))] [] V (M_chanceOf_21 x1 V) := by
  intro x1 V
  unfold M_chanceOf_21
  refine m_aload_n hX 0 dX4_chanceOf_21 rfl rfl ?_
  refine fg_21 hX dX4_chanceOf_22 ?_
  refine m_ic hX dX4_chanceOf_25 (by decide) (by decide) ?_
  refine m_iload_n hX 1 dX4_chanceOf_26 rfl rfl ?_
  refine m_in (by decide) (by decide) (as_21 hX dX4_chanceOf_27 fun V1 => ?_)
  refine m_aload_n hX 0 dX4_chanceOf_28 rfl rfl ?_
  refine m_ic hX dX4_chanceOf_29 (by decide) (by decide) ?_
  refine m_ic hX dX4_chanceOf_30 (by decide) (by decide) ?_
  refine m_bp hX dX4_chanceOf_31 (by decide) (by decide) ?_
  refine m_bp hX dX4_chanceOf_33 (by decide) (by decide) ?_
  refine m_iload_n hX 1 dX4_chanceOf_35 rfl rfl ?_
  refine m_imul hX dX4_chanceOf_36 ?_
  refine cl_told hX (by omega) (Nat.le_of_ble_eq_true rfl) dX4_chanceOf_37 fun r2 V3 => ?_
  exact m_iret hX rfl dX4_chanceOf_40
noncomputable def M_chanceOf_2 : Nat → Int → Int → VV → Option (Int × VV)
  | 0, _, _, _ => none
  | n + 1, x1, x2, V => if 7 ≤ x2 then (M_chanceOf_21 x1 V) else (ck x2 7 <| nm (vup V 21 x2 0) fun V1 => nm (w32 (x2 + 1)) fun v2 => M_chanceOf_2 n x1 v2 V1)
theorem WM_chanceOf_2 {Z : MZ} {d : Nat} (hX : MX Z cX4_chanceOf 3 (some .int) d 0) (hdd : 126 ≤ d) : ∀ n x1 x2 V, MG Z 2 [(0, (3, 0)), (1, (0, x1)), (2, (0, x2))] [] V (M_chanceOf_2 n x1 x2 V) := by
  intro n
  induction n with
  | zero => intro x1 x2 V; exact m_none
  | succ n ih =>
    intro x1 x2 V
    rw [M_chanceOf_2]
    refine m_iload_n hX 2 dX4_chanceOf_2 rfl rfl ?_
    refine m_bp hX dX4_chanceOf_3 (by decide) (by decide) ?_
    refine m_icmp_ge hX 21 dX4_chanceOf_5 (by decide) (fun _ => ?_) (fun _ => ?_)
    · exact m_sub [0, 1] rfl (WM_chanceOf_21 hX hdd x1 V)
    · refine m_aload_n hX 0 dX4_chanceOf_8 rfl rfl ?_
      refine fg_21 hX dX4_chanceOf_9 ?_
      refine m_iload_n hX 2 dX4_chanceOf_12 rfl rfl ?_
      refine m_ic hX dX4_chanceOf_13 (by decide) (by decide) ?_
      refine as_21 hX dX4_chanceOf_14 fun V1 => ?_
      refine m_iinc hX 2 dX4_chanceOf_15 rfl (by decide) fun v2 => m_lv (lv' := [(2, (0, v2)), (0, (3, 0)), (1, (0, x1))]) rfl ?_
      refine m_goto hX 2 dX4_chanceOf_18 (by decide) ?_
      exact m_sub [1, 2, 0] rfl (ih x1 v2 V1)
noncomputable def M_chanceOf (x1 : Int) (V : VV) : Option (Int × VV) := M_chanceOf_2 FU x1 0 V
theorem WM_chanceOf (l : Launch) {d : Nat} (hdd : 126 ≤ d) (x1 : Int) (V : VV) (hV : okV V) (ho : oks [(0, x1)]) (fin : Int × VV) (hf : M_chanceOf x1 V = some fin) : mSpec l yX4_chanceOf cX4_chanceOf 3 (some .int) d 0 [(3, 0), (0, x1)] V fin := by
  refine m_enter (lv := [(0, (3, 0)), (1, (0, x1))]) (by decide) rfl (Nat.le_of_ble_eq_true rfl) rfl (fun Z hZ hX => ?_) hV (ho.c (okA.t 0)) fin hf
  unfold M_chanceOf
  refine m_ic hX dX4_chanceOf_0 (by decide) (by decide) ?_
  refine m_istore_n hX (lv' := [(2, (0, 0)), (0, (3, 0)), (1, (0, x1))]) dX4_chanceOf_1 rfl (by decide) rfl ?_
  exact m_sub [1, 2, 0] rfl (WM_chanceOf_2 hX hdd FU x1 0 V)
theorem cl_chanceOf {Z : MZ} {cc : ByteArray} {nL : Nat} {ret : Option FieldType} {d rk : Nat} {pc : Nat} {lv : List (Nat × AV)} {st : List AV} {V : VV} {g : Int → VV → Option (Int × VV)} (hX : MX Z cc nL ret d rk) {a0 : Int} (hdd : 127 ≤ d) (hcat : (st.map fun v => if v.1 = 1 then 2 else 1).sum ≤ 8) (hdg : decode cc pc = .ok (.invokevirtual 305, 3)) (kk : ∀ r V1, MG Z (pc + 3) lv ((0, r) :: st) V1 (g r V1)) : MG Z pc lv ((0, a0) :: (3, 0) :: st) V (mb (M_chanceOf a0 V) g) :=
  m_callVi hX [(0, a0)] 1 (fun hV ho fin hf => WM_chanceOf (zL Z) (Nat.le_refl 126) a0 V hV ho fin hf) (lw_V q2093 q2095 qs94 q131 q2096) (by decide +kernel) rfl (by omega) (by decide) rfl hcat hdg kk
noncomputable def M_chance (x1 : Int) (V : VV) : Option (Int × VV) := mb (M_lies x1 0 2 V) fun r1 V2 => if r1 = 0 then (some ((-1), V2)) else (mb (M_chanceOf x1 V2) fun r3 V4 => some (r3, V4))
theorem WM_chance (l : Launch) {d : Nat} (hdd : 127 ≤ d) (x1 : Int) (V : VV) (hV : okV V) (ho : oks [(0, x1)]) (fin : Int × VV) (hf : M_chance x1 V = some fin) : mSpec l yX4_chance cX4_chance 2 (some .int) d 0 [(3, 0), (0, x1)] V fin := by
  refine m_enter (lv := [(0, (3, 0)), (1, (0, x1))]) (by decide) rfl (Nat.le_of_ble_eq_true rfl) rfl (fun Z hZ hX => ?_) hV (ho.c (okA.t 0)) fin hf
  unfold M_chance
  refine m_iload_n hX 1 dX4_chance_0 rfl rfl ?_
  refine m_ic hX dX4_chance_1 (by decide) (by decide) ?_
  refine m_ic hX dX4_chance_2 (by decide) (by decide) ?_
  refine cl_lies hX (by omega) (Nat.le_of_ble_eq_true rfl) dX4_chance_3 fun r1 V2 => ?_
  refine m_if_eq hX 17 dX4_chance_6 (by decide) (fun _ => ?_) (fun _ => ?_)
  · refine m_ic hX dX4_chance_17 (by decide) (by decide) ?_
    exact m_iret hX rfl dX4_chance_18
  · refine m_aload_n hX 0 dX4_chance_9 rfl rfl ?_
    refine m_iload_n hX 1 dX4_chance_10 rfl rfl ?_
    refine cl_chanceOf hX (by omega) (Nat.le_of_ble_eq_true rfl) dX4_chance_11 fun r3 V4 => ?_
    refine m_goto hX 18 dX4_chance_14 (by decide) ?_
    exact m_iret hX rfl dX4_chance_18
-- chance: not called inside
noncomputable def M_choose_16 : Nat → Int → Int → Int → Int → VV → Option (Int × VV)
  | 0, _, _, _, _, _ => none
  | n + 1, x0, x1, x2, x4, V => if x1 < x4 then (some (x2, V)) else (cz x4 <| nm (α := Int) (w64 ((w64 (x2 * (w32 ((w32 (x0 - x1)) + x4)))).tdiv x4)) fun v1 => nm (w32 (x4 + 1)) fun v2 => M_choose_16 n x0 x1 v1 v2 V)
theorem WM_choose_16 {Z : MZ} {d : Nat} (hX : MX Z cX4_choose 5 (some .long) d 1) (hdd : 1 ≤ d) : ∀ n x0 x1 x2 x4 V, MG Z 16 [(0, (0, x0)), (1, (0, x1)), (2, (1, x2)), (4, (0, x4))] [] V (M_choose_16 n x0 x1 x2 x4 V) := by
  intro n
  induction n with
  | zero => intro x0 x1 x2 x4 V; exact m_none
  | succ n ih =>
    intro x0 x1 x2 x4 V
    rw [M_choose_16]
    refine m_iload hX 3 dX4_choose_16 rfl ?_
    refine m_iload_n hX 1 dX4_choose_18 rfl rfl ?_
    refine m_icmp_gt hX 42 dX4_choose_19 (by decide) (fun _ => ?_) (fun _ => ?_)
    · refine m_lload_n hX 2 dX4_choose_42 rfl rfl ?_
      exact m_lret hX rfl dX4_choose_43
    · refine m_lload_n hX 2 dX4_choose_22 rfl rfl ?_
      refine m_iload_n hX 0 dX4_choose_23 rfl rfl ?_
      refine m_iload_n hX 1 dX4_choose_24 rfl rfl ?_
      refine m_isub hX dX4_choose_25 ?_
      refine m_iload hX 3 dX4_choose_26 rfl ?_
      refine m_iadd hX dX4_choose_28 ?_
      refine m_i2l hX dX4_choose_29 ?_
      refine m_lmul hX dX4_choose_30 ?_
      refine m_iload hX 3 dX4_choose_31 rfl ?_
      refine m_i2l hX dX4_choose_33 ?_
      refine m_ldiv hX dX4_choose_34 ?_
      refine m_nmT fun v1 => ?_
      refine m_lstore_n hX (lv' := [(2, (1, v1)), (0, (0, x0)), (1, (0, x1)), (4, (0, x4))]) dX4_choose_35 rfl (by decide) rfl ?_
      refine m_iinc hX 3 dX4_choose_36 rfl (by decide) fun v2 => m_lv (lv' := [(4, (0, v2)), (2, (1, v1)), (0, (0, x0)), (1, (0, x1))]) rfl ?_
      refine m_goto hX 16 dX4_choose_39 (by decide) ?_
      exact m_sub [2, 3, 1, 0] rfl (ih x0 x1 v1 v2 V)
noncomputable def M_choose (x0 : Int) (x1 : Int) (V : VV) : Option (Int × VV) := if x1 < 0 then (some (0, V)) else (if x1 ≤ x0 then (M_choose_16 FU x0 x1 1 1 V) else (some (0, V)))
theorem WM_choose (l : Launch) {d : Nat} (hdd : 1 ≤ d) (x0 : Int) (x1 : Int) (V : VV) (hV : okV V) (ho : oks [(0, x0), (0, x1)]) (fin : Int × VV) (hf : M_choose x0 x1 V = some fin) : mSpec l yX4_choose cX4_choose 5 (some .long) d 1 [(0, x0), (0, x1)] V fin := by
  refine m_enter (lv := [(0, (0, x0)), (1, (0, x1))]) (by decide) rfl (Nat.le_of_ble_eq_true rfl) rfl (fun Z hZ hX => ?_) hV ho fin hf
  unfold M_choose
  refine m_iload_n hX 1 dX4_choose_0 rfl rfl ?_
  refine m_if_lt hX 9 dX4_choose_1 (by decide) (fun _ => ?_) (fun _ => ?_)
  · refine m_l0 hX dX4_choose_9 ?_
    exact m_lret hX rfl dX4_choose_10
  · refine m_iload_n hX 1 dX4_choose_4 rfl rfl ?_
    refine m_iload_n hX 0 dX4_choose_5 rfl rfl ?_
    refine m_icmp_le hX 11 dX4_choose_6 (by decide) (fun _ => ?_) (fun _ => ?_)
    · refine m_l1 hX dX4_choose_11 ?_
      refine m_lstore_n hX (lv' := [(2, (1, 1)), (0, (0, x0)), (1, (0, x1))]) dX4_choose_12 rfl (by decide) rfl ?_
      refine m_ic hX dX4_choose_13 (by decide) (by decide) ?_
      refine m_istore hX (lv' := [(4, (0, 1)), (2, (1, 1)), (0, (0, x0)), (1, (0, x1))]) dX4_choose_14 (by decide) rfl ?_
      exact m_sub [2, 3, 1, 0] rfl (WM_choose_16 hX hdd FU x0 x1 1 1 V)
    · refine m_l0 hX dX4_choose_9 ?_
      exact m_lret hX rfl dX4_choose_10
theorem cl_choose {Z : MZ} {cc : ByteArray} {nL : Nat} {ret : Option FieldType} {d rk : Nat} {pc : Nat} {lv : List (Nat × AV)} {st : List AV} {V : VV} {g : Int → VV → Option (Int × VV)} (hX : MX Z cc nL ret d rk) {a0 a1 : Int} (hdd : 2 ≤ d) (hcat : (st.map fun v => if v.1 = 1 then 2 else 1).sum ≤ 8) (hdg : decode cc pc = .ok (.invokestatic 311, 3)) (kk : ∀ r V1, MG Z (pc + 3) lv ((1, r) :: st) V1 (g r V1)) : MG Z pc lv ((0, a1) :: (0, a0) :: st) V (mb (M_choose a0 a1 V) g) :=
  m_callSl hX [(0, a0), (0, a1)] 2 (fun hV ho fin hf => WM_choose (zL Z) (Nat.le_refl 1) a0 a1 V hV ho fin hf) (lw_S q2122 q2123 q131 q2124) (by decide +kernel) rfl (by omega) (by decide) rfl hcat hdg kk
noncomputable def M_laysChances_2 : Nat → Int → VV → Option (Int × VV)
  | 0, _, _ => none
  | n + 1, x1, V => if 3 ≤ x1 then (some (0, V)) else (mb (M_chanceOf x1 V) fun r1 V2 => ck x1 3 <| nm (vup V2 22 x1 r1) fun V3 => nm (w32 (x1 + 1)) fun v4 => M_laysChances_2 n v4 V3)
theorem WM_laysChances_2 {Z : MZ} {d : Nat} (hX : MX Z cX4_laysChances 2 none d 2) (hdd : 127 ≤ d) : ∀ n x1 V, MG Z 2 [(0, (3, 0)), (1, (0, x1))] [] V (M_laysChances_2 n x1 V) := by
  intro n
  induction n with
  | zero => intro x1 V; exact m_none
  | succ n ih =>
    intro x1 V
    rw [M_laysChances_2]
    refine m_iload_n hX 1 dX4_laysChances_2 rfl rfl ?_
    refine m_ic hX dX4_laysChances_3 (by decide) (by decide) ?_
    refine m_icmp_ge hX 24 dX4_laysChances_4 (by decide) (fun _ => ?_) (fun _ => ?_)
    · exact m_vret hX rfl dX4_laysChances_24
    · refine m_aload_n hX 0 dX4_laysChances_7 rfl rfl ?_
      refine fg_22 hX dX4_laysChances_8 ?_
      refine m_iload_n hX 1 dX4_laysChances_11 rfl rfl ?_
      refine m_aload_n hX 0 dX4_laysChances_12 rfl rfl ?_
      refine m_iload_n hX 1 dX4_laysChances_13 rfl rfl ?_
      refine cl_chanceOf hX (by omega) (Nat.le_of_ble_eq_true rfl) dX4_laysChances_14 fun r1 V2 => ?_
      refine as_22 hX dX4_laysChances_17 fun V3 => ?_
      refine m_iinc hX 1 dX4_laysChances_18 rfl (by decide) fun v4 => m_lv (lv' := [(1, (0, v4)), (0, (3, 0))]) rfl ?_
      refine m_goto hX 2 dX4_laysChances_21 (by decide) ?_
      exact m_sub [1, 0] rfl (ih v4 V3)
noncomputable def M_laysChances (V : VV) : Option (Int × VV) := M_laysChances_2 FU 0 V
theorem WM_laysChances (l : Launch) {d : Nat} (hdd : 127 ≤ d) (V : VV) (hV : okV V) (ho : oks []) (fin : Int × VV) (hf : M_laysChances V = some fin) : mSpec l yX4_laysChances cX4_laysChances 2 none d 2 [(3, 0)] V fin := by
  refine m_enter (lv := [(0, (3, 0))]) (by decide) rfl (Nat.le_of_ble_eq_true rfl) rfl (fun Z hZ hX => ?_) hV (ho.c (okA.t 0)) fin hf
  unfold M_laysChances
  refine m_ic hX dX4_laysChances_0 (by decide) (by decide) ?_
  refine m_istore_n hX (lv' := [(1, (0, 0)), (0, (3, 0))]) dX4_laysChances_1 rfl (by decide) rfl ?_
  exact m_sub [1, 0] rfl (WM_laysChances_2 hX hdd FU 0 V)
theorem cl_laysChances {Z : MZ} {cc : ByteArray} {nL : Nat} {ret : Option FieldType} {d rk : Nat} {pc : Nat} {lv : List (Nat × AV)} {st : List AV} {V : VV} {g : Int → VV → Option (Int × VV)} (hX : MX Z cc nL ret d rk) (hdd : 128 ≤ d) (hcat : (st.map fun v => if v.1 = 1 then 2 else 1).sum ≤ 8) (hdg : decode cc pc = .ok (.invokevirtual 334, 3)) (kk : ∀ r V1, MG Z (pc + 3) lv st V1 (g r V1)) : MG Z pc lv ((3, 0) :: st) V (mb (M_laysChances V) g) :=
  m_callVv hX [] 0 (fun hV ho fin hf => WM_laysChances (zL Z) (Nat.le_refl 127) V hV ho fin hf) (lw_V q2106 q2108 qs96 q131 q2109) (by decide +kernel) rfl (by omega) (by decide) rfl hcat hdg kk
noncomputable def M_answers_83 (K35 : Int → Int → VV → Option (Int × VV)) (K44 : Int → Int → Int → Int → VV → Option (Int × VV)) (x1 : Int) (x2 : Int) (x3 : Int) (x4 : Int) (V : VV) : Option (Int × VV) := nm (w32 (x4 + 1)) fun v1 => K44 x1 x2 x3 v1 V
theorem WM_answers_83 {Z : MZ} {d : Nat} (hX : MX Z cX4_answers 6 none d 2) (hdd : 1 ≤ d) {K35 : Int → Int → VV → Option (Int × VV)} (hK35 : ∀ x1 x2 V, MG Z 35 [(0, (3, 0)), (1, (0, x1)), (2, (0, x2))] [] V (K35 x1 x2 V)) {K44 : Int → Int → Int → Int → VV → Option (Int × VV)} (hK44 : ∀ x1 x2 x3 x4 V, MG Z 44 [(0, (3, 0)), (1, (0, x1)), (2, (0, x2)), (3, (0, x3)), (4, (0, x4))] [] V (K44 x1 x2 x3 x4 V)) : ∀ x1 x2 x3 x4 V, MG Z 83 [(0, (3, 0)), (1, (0, x1)), (2, (0, x2)), (3, (0, x3)), (4, (0, x4))] [] V (M_answers_83 K35 K44 x1 x2 x3 x4 V) := by
  intro x1 x2 x3 x4 V
  unfold M_answers_83
  refine m_iinc hX 4 dX4_answers_83 rfl (by decide) fun v1 => m_lv (lv' := [(4, (0, v1)), (0, (3, 0)), (1, (0, x1)), (2, (0, x2)), (3, (0, x3))]) rfl ?_
  refine m_goto hX 44 dX4_answers_86 (by decide) ?_
  exact m_sub [1, 2, 3, 4, 0] rfl (hK44 x1 x2 x3 v1 V)
noncomputable def M_answers_80 (K35 : Int → Int → VV → Option (Int × VV)) (K44 : Int → Int → Int → Int → VV → Option (Int × VV)) (x1 : Int) (x2 : Int) (x4 : Int) (V : VV) : Option (Int × VV) := M_answers_83 K35 K44 x1 x2 x4 x4 V
theorem WM_answers_80 {Z : MZ} {d : Nat} (hX : MX Z cX4_answers 6 none d 2) (hdd : 1 ≤ d) {K35 : Int → Int → VV → Option (Int × VV)} (hK35 : ∀ x1 x2 V, MG Z 35 [(0, (3, 0)), (1, (0, x1)), (2, (0, x2))] [] V (K35 x1 x2 V)) {K44 : Int → Int → Int → Int → VV → Option (Int × VV)} (hK44 : ∀ x1 x2 x3 x4 V, MG Z 44 [(0, (3, 0)), (1, (0, x1)), (2, (0, x2)), (3, (0, x3)), (4, (0, x4))] [] V (K44 x1 x2 x3 x4 V)) : ∀ x1 x2 x4 V, MG Z 80 [(0, (3, 0)), (1, (0, x1)), (2, (0, x2)), (4, (0, x4))] [] V (M_answers_80 K35 K44 x1 x2 x4 V) := by
  intro x1 x2 x4 V
  unfold M_answers_80
  refine m_iload hX 3 dX4_answers_80 rfl ?_
  refine m_istore_n hX (lv' := [(3, (0, x4)), (0, (3, 0)), (1, (0, x1)), (2, (0, x2)), (4, (0, x4))]) dX4_answers_82 rfl (by decide) rfl ?_
  exact m_sub [1, 2, 3, 0, 4] rfl (WM_answers_83 hX hdd hK35 hK44 x1 x2 x4 x4 V)
noncomputable def M_answers_171 (K35 : Int → Int → VV → Option (Int × VV)) (K98 : Int → Int → Int → Int → VV → Option (Int × VV)) (K116 : Int → Int → Int → Int → Int → VV → Option (Int × VV)) (s1 : Int) (s2 : Int) (s3 : Int) (x1 : Int) (x2 : Int) (x3 : Int) (x4 : Int) (x5 : Int) (V : VV) : Option (Int × VV) := ck s1 4 <| nm (vup V 26 s1 (w64 (s2 + s3))) fun V1 => nm (w32 (x5 + (-1))) fun v2 => K116 x1 x2 x3 x4 v2 V1
theorem WM_answers_171 {Z : MZ} {d : Nat} (hX : MX Z cX4_answers 6 none d 2) (hdd : 1 ≤ d) {K35 : Int → Int → VV → Option (Int × VV)} (hK35 : ∀ x1 x2 V, MG Z 35 [(0, (3, 0)), (1, (0, x1)), (2, (0, x2))] [] V (K35 x1 x2 V)) {K98 : Int → Int → Int → Int → VV → Option (Int × VV)} (hK98 : ∀ x1 x2 x3 x4 V, MG Z 98 [(0, (3, 0)), (1, (0, x1)), (2, (0, x2)), (3, (0, x3)), (4, (0, x4))] [] V (K98 x1 x2 x3 x4 V)) {K116 : Int → Int → Int → Int → Int → VV → Option (Int × VV)} (hK116 : ∀ x1 x2 x3 x4 x5 V, MG Z 116 [(0, (3, 0)), (1, (0, x1)), (2, (0, x2)), (3, (0, x3)), (4, (0, x4)), (5, (0, x5))] [] V (K116 x1 x2 x3 x4 x5 V)) : ∀ s1 s2 s3 x1 x2 x3 x4 x5 V, MG Z 171 [(0, (3, 0)), (1, (0, x1)), (2, (0, x2)), (3, (0, x3)), (4, (0, x4)), (5, (0, x5))] [(1, s3), (1, s2), (0, s1), (2, ((26 : Nat) : Int))] V (M_answers_171 K35 K98 K116 s1 s2 s3 x1 x2 x3 x4 x5 V) := by
  intro s1 s2 s3 x1 x2 x3 x4 x5 V
  unfold M_answers_171
  refine m_ladd hX dX4_answers_171 ?_
  refine as_26 hX dX4_answers_172 fun V1 => ?_
  refine m_iinc hX 5 dX4_answers_173 rfl (by decide) fun v2 => m_lv (lv' := [(5, (0, v2)), (0, (3, 0)), (1, (0, x1)), (2, (0, x2)), (3, (0, x3)), (4, (0, x4))]) rfl ?_
  refine m_goto hX 116 dX4_answers_176 (by decide) ?_
  exact m_sub [1, 2, 3, 4, 5, 0] rfl (hK116 x1 x2 x3 x4 v2 V1)
noncomputable def M_answers_179 (K35 : Int → Int → VV → Option (Int × VV)) (K98 : Int → Int → Int → Int → VV → Option (Int × VV)) (x1 : Int) (x2 : Int) (x3 : Int) (x4 : Int) (V : VV) : Option (Int × VV) := nm (w32 (x1 + (-1))) fun v1 => nm (w32 (x4 + 1)) fun v2 => K98 v1 x2 x3 v2 V
theorem WM_answers_179 {Z : MZ} {d : Nat} (hX : MX Z cX4_answers 6 none d 2) (hdd : 1 ≤ d) {K35 : Int → Int → VV → Option (Int × VV)} (hK35 : ∀ x1 x2 V, MG Z 35 [(0, (3, 0)), (1, (0, x1)), (2, (0, x2))] [] V (K35 x1 x2 V)) {K98 : Int → Int → Int → Int → VV → Option (Int × VV)} (hK98 : ∀ x1 x2 x3 x4 V, MG Z 98 [(0, (3, 0)), (1, (0, x1)), (2, (0, x2)), (3, (0, x3)), (4, (0, x4))] [] V (K98 x1 x2 x3 x4 V)) : ∀ x1 x2 x3 x4 V, MG Z 179 [(0, (3, 0)), (1, (0, x1)), (2, (0, x2)), (3, (0, x3)), (4, (0, x4))] [] V (M_answers_179 K35 K98 x1 x2 x3 x4 V) := by
  intro x1 x2 x3 x4 V
  unfold M_answers_179
  refine m_iinc hX 1 dX4_answers_179 rfl (by decide) fun v1 => m_lv (lv' := [(1, (0, v1)), (0, (3, 0)), (2, (0, x2)), (3, (0, x3)), (4, (0, x4))]) rfl ?_
  refine m_iinc hX 4 dX4_answers_182 rfl (by decide) fun v2 => m_lv (lv' := [(4, (0, v2)), (1, (0, v1)), (0, (3, 0)), (2, (0, x2)), (3, (0, x3))]) rfl ?_
  refine m_goto hX 98 dX4_answers_185 (by decide) ?_
  exact m_sub [2, 1, 3, 4, 0] rfl (hK98 v1 x2 x3 v2 V)
noncomputable def M_answers_116 (K35 : Int → Int → VV → Option (Int × VV)) (K98 : Int → Int → Int → Int → VV → Option (Int × VV)) : Nat → Int → Int → Int → Int → Int → VV → Option (Int × VV)
  | 0, _, _, _, _, _, _ => none
  | n + 1, x1, x2, x3, x4, x5, V => if x5 < 0 then (M_answers_179 K35 K98 x1 x2 x3 x4 V) else (ck x5 4 <| ck x3 3 <| if x5 ≤ 0 then (M_answers_171 K35 K98 (M_answers_116 K35 K98 n) x5 (w64 ((V 26 x5) * (w32 (100 - (V 22 x3))))) 0 x1 x2 x3 x4 x5 V) else (ck (w32 (x5 - 1)) 4 <| ck x3 3 <| M_answers_171 K35 K98 (M_answers_116 K35 K98 n) x5 (w64 ((V 26 x5) * (w32 (100 - (V 22 x3))))) (w64 ((V 26 (w32 (x5 - 1))) * (V 22 x3))) x1 x2 x3 x4 x5 V))
theorem WM_answers_116 {Z : MZ} {d : Nat} (hX : MX Z cX4_answers 6 none d 2) (hdd : 1 ≤ d) {K35 : Int → Int → VV → Option (Int × VV)} (hK35 : ∀ x1 x2 V, MG Z 35 [(0, (3, 0)), (1, (0, x1)), (2, (0, x2))] [] V (K35 x1 x2 V)) {K98 : Int → Int → Int → Int → VV → Option (Int × VV)} (hK98 : ∀ x1 x2 x3 x4 V, MG Z 98 [(0, (3, 0)), (1, (0, x1)), (2, (0, x2)), (3, (0, x3)), (4, (0, x4))] [] V (K98 x1 x2 x3 x4 V)) : ∀ n x1 x2 x3 x4 x5 V, MG Z 116 [(0, (3, 0)), (1, (0, x1)), (2, (0, x2)), (3, (0, x3)), (4, (0, x4)), (5, (0, x5))] [] V (M_answers_116 K35 K98 n x1 x2 x3 x4 x5 V) := by
  intro n
  induction n with
  | zero => intro x1 x2 x3 x4 x5 V; exact m_none
  | succ n ih =>
    intro x1 x2 x3 x4 x5 V
    rw [M_answers_116]
    refine m_iload hX 5 dX4_answers_116 rfl ?_
    refine m_if_lt hX 179 dX4_answers_118 (by decide) (fun _ => ?_) (fun _ => ?_)
    · exact m_sub [0, 1, 2, 3, 4] rfl (WM_answers_179 hX hdd hK35 hK98 x1 x2 x3 x4 V)
    · refine m_aload_n hX 0 dX4_answers_121 rfl rfl ?_
      refine fg_26 hX dX4_answers_122 ?_
      refine m_iload hX 5 dX4_answers_125 rfl ?_
      refine m_aload_n hX 0 dX4_answers_127 rfl rfl ?_
      refine fg_26 hX dX4_answers_128 ?_
      refine m_iload hX 5 dX4_answers_131 rfl ?_
      refine al_26 hX dX4_answers_133 ?_
      refine m_bp hX dX4_answers_134 (by decide) (by decide) ?_
      refine m_aload_n hX 0 dX4_answers_136 rfl rfl ?_
      refine fg_22 hX dX4_answers_137 ?_
      refine m_iload_n hX 3 dX4_answers_140 rfl rfl ?_
      refine al_22 hX dX4_answers_141 ?_
      refine m_isub hX dX4_answers_142 ?_
      refine m_i2l hX dX4_answers_143 ?_
      refine m_lmul hX dX4_answers_144 ?_
      refine m_iload hX 5 dX4_answers_145 rfl ?_
      refine m_if_le hX 170 dX4_answers_147 (by decide) (fun _ => ?_) (fun _ => ?_)
      · refine m_l0 hX dX4_answers_170 ?_
        exact m_sub [0, 1, 2, 3, 4, 5] rfl (WM_answers_171 hX hdd hK35 hK98 ih x5 (w64 ((V 26 x5) * (w32 (100 - (V 22 x3))))) 0 x1 x2 x3 x4 x5 V)
      · refine m_aload_n hX 0 dX4_answers_150 rfl rfl ?_
        refine fg_26 hX dX4_answers_151 ?_
        refine m_iload hX 5 dX4_answers_154 rfl ?_
        refine m_ic hX dX4_answers_156 (by decide) (by decide) ?_
        refine m_isub hX dX4_answers_157 ?_
        refine al_26 hX dX4_answers_158 ?_
        refine m_aload_n hX 0 dX4_answers_159 rfl rfl ?_
        refine fg_22 hX dX4_answers_160 ?_
        refine m_iload_n hX 3 dX4_answers_163 rfl rfl ?_
        refine al_22 hX dX4_answers_164 ?_
        refine m_i2l hX dX4_answers_165 ?_
        refine m_lmul hX dX4_answers_166 ?_
        refine m_goto hX 171 dX4_answers_167 (by decide) ?_
        exact m_sub [0, 1, 2, 3, 4, 5] rfl (WM_answers_171 hX hdd hK35 hK98 ih x5 (w64 ((V 26 x5) * (w32 (100 - (V 22 x3))))) (w64 ((V 26 (w32 (x5 - 1))) * (V 22 x3))) x1 x2 x3 x4 x5 V)
noncomputable def M_answers_188 (K35 : Int → Int → VV → Option (Int × VV)) (x1 : Int) (x2 : Int) (V : VV) : Option (Int × VV) := K35 x1 x2 V
theorem WM_answers_188 {Z : MZ} {d : Nat} (hX : MX Z cX4_answers 6 none d 2) (hdd : 1 ≤ d) {K35 : Int → Int → VV → Option (Int × VV)} (hK35 : ∀ x1 x2 V, MG Z 35 [(0, (3, 0)), (1, (0, x1)), (2, (0, x2))] [] V (K35 x1 x2 V)) : ∀ x1 x2 V, MG Z 188 [(0, (3, 0)), (1, (0, x1)), (2, (0, x2))] [] V (M_answers_188 K35 x1 x2 V) := by
  intro x1 x2 V
  unfold M_answers_188
  refine m_goto hX 35 dX4_answers_188 (by decide) ?_
  exact m_sub [0, 1, 2] rfl (hK35 x1 x2 V)
noncomputable def M_answers_98 (K35 : Int → Int → VV → Option (Int × VV)) : Nat → Int → Int → Int → Int → VV → Option (Int × VV)
  | 0, _, _, _, _, _ => none
  | n + 1, x1, x2, x3, x4, V => ck x3 3 <| if V 25 x3 ≤ x4 then (M_answers_188 K35 x1 x2 V) else (if x1 ≤ 0 then (M_answers_188 K35 x1 x2 V) else (M_answers_116 K35 (M_answers_98 K35 n) FU x1 x2 x3 x4 3 V))
theorem WM_answers_98 {Z : MZ} {d : Nat} (hX : MX Z cX4_answers 6 none d 2) (hdd : 1 ≤ d) {K35 : Int → Int → VV → Option (Int × VV)} (hK35 : ∀ x1 x2 V, MG Z 35 [(0, (3, 0)), (1, (0, x1)), (2, (0, x2))] [] V (K35 x1 x2 V)) : ∀ n x1 x2 x3 x4 V, MG Z 98 [(0, (3, 0)), (1, (0, x1)), (2, (0, x2)), (3, (0, x3)), (4, (0, x4))] [] V (M_answers_98 K35 n x1 x2 x3 x4 V) := by
  intro n
  induction n with
  | zero => intro x1 x2 x3 x4 V; exact m_none
  | succ n ih =>
    intro x1 x2 x3 x4 V
    rw [M_answers_98]
    refine m_iload hX 4 dX4_answers_98 rfl ?_
    refine m_aload_n hX 0 dX4_answers_100 rfl rfl ?_
    refine fg_25 hX dX4_answers_101 ?_
    refine m_iload_n hX 3 dX4_answers_104 rfl rfl ?_
    refine al_25 hX dX4_answers_105 ?_
    refine m_icmp_ge hX 188 dX4_answers_106 (by decide) (fun _ => ?_) (fun _ => ?_)
    · exact m_sub [0, 1, 2] rfl (WM_answers_188 hX hdd hK35 x1 x2 V)
    · refine m_iload_n hX 1 dX4_answers_109 rfl rfl ?_
      refine m_if_le hX 188 dX4_answers_110 (by decide) (fun _ => ?_) (fun _ => ?_)
      · exact m_sub [0, 1, 2] rfl (WM_answers_188 hX hdd hK35 x1 x2 V)
      · refine m_ic hX dX4_answers_113 (by decide) (by decide) ?_
        refine m_istore hX (lv' := [(5, (0, 3)), (0, (3, 0)), (1, (0, x1)), (2, (0, x2)), (3, (0, x3)), (4, (0, x4))]) dX4_answers_114 (by decide) rfl ?_
        exact m_sub [1, 2, 3, 4, 5, 0] rfl (WM_answers_116 hX hdd hK35 ih FU x1 x2 x3 x4 3 V)
noncomputable def M_answers_89 (K35 : Int → Int → VV → Option (Int × VV)) (x1 : Int) (x2 : Int) (x3 : Int) (V : VV) : Option (Int × VV) := nm (α := Int) (ior x2 (ishl 1 x3)) fun v1 => M_answers_98 K35 FU x1 v1 x3 0 V
theorem WM_answers_89 {Z : MZ} {d : Nat} (hX : MX Z cX4_answers 6 none d 2) (hdd : 1 ≤ d) {K35 : Int → Int → VV → Option (Int × VV)} (hK35 : ∀ x1 x2 V, MG Z 35 [(0, (3, 0)), (1, (0, x1)), (2, (0, x2))] [] V (K35 x1 x2 V)) : ∀ x1 x2 x3 V, MG Z 89 [(0, (3, 0)), (1, (0, x1)), (2, (0, x2)), (3, (0, x3))] [] V (M_answers_89 K35 x1 x2 x3 V) := by
  intro x1 x2 x3 V
  unfold M_answers_89
  refine m_iload_n hX 2 dX4_answers_89 rfl rfl ?_
  refine m_ic hX dX4_answers_90 (by decide) (by decide) ?_
  refine m_iload_n hX 3 dX4_answers_91 rfl rfl ?_
  refine m_ishl hX dX4_answers_92 ?_
  refine m_ior hX dX4_answers_93 ?_
  refine m_nmT fun v1 => ?_
  refine m_istore_n hX (lv' := [(2, (0, v1)), (0, (3, 0)), (1, (0, x1)), (3, (0, x3))]) dX4_answers_94 rfl (by decide) rfl ?_
  refine m_ic hX dX4_answers_95 (by decide) (by decide) ?_
  refine m_istore hX (lv' := [(4, (0, 0)), (2, (0, v1)), (0, (3, 0)), (1, (0, x1)), (3, (0, x3))]) dX4_answers_96 (by decide) rfl ?_
  exact m_sub [2, 3, 1, 4, 0] rfl (WM_answers_98 hX hdd hK35 FU x1 v1 x3 0 V)
noncomputable def M_answers_44 (K35 : Int → Int → VV → Option (Int × VV)) : Nat → Int → Int → Int → Int → VV → Option (Int × VV)
  | 0, _, _, _, _, _ => none
  | n + 1, x1, x2, x3, x4, V => if 3 ≤ x4 then (M_answers_89 K35 x1 x2 x3 V) else (if iand (ishr x2 x4) 1 = 0 then (if x3 = (-1) then (M_answers_80 K35 (M_answers_44 K35 n) x1 x2 x4 V) else (ck x4 3 <| ck x3 3 <| if V 22 x4 ≤ V 22 x3 then (M_answers_83 K35 (M_answers_44 K35 n) x1 x2 x3 x4 V) else (M_answers_80 K35 (M_answers_44 K35 n) x1 x2 x4 V))) else (M_answers_83 K35 (M_answers_44 K35 n) x1 x2 x3 x4 V))
theorem WM_answers_44 {Z : MZ} {d : Nat} (hX : MX Z cX4_answers 6 none d 2) (hdd : 1 ≤ d) {K35 : Int → Int → VV → Option (Int × VV)} (hK35 : ∀ x1 x2 V, MG Z 35 [(0, (3, 0)), (1, (0, x1)), (2, (0, x2))] [] V (K35 x1 x2 V)) : ∀ n x1 x2 x3 x4 V, MG Z 44 [(0, (3, 0)), (1, (0, x1)), (2, (0, x2)), (3, (0, x3)), (4, (0, x4))] [] V (M_answers_44 K35 n x1 x2 x3 x4 V) := by
  intro n
  induction n with
  | zero => intro x1 x2 x3 x4 V; exact m_none
  | succ n ih =>
    intro x1 x2 x3 x4 V
    rw [M_answers_44]
    refine m_iload hX 4 dX4_answers_44 rfl ?_
    refine m_ic hX dX4_answers_46 (by decide) (by decide) ?_
    refine m_icmp_ge hX 89 dX4_answers_47 (by decide) (fun _ => ?_) (fun _ => ?_)
    · exact m_sub [0, 1, 2, 3] rfl (WM_answers_89 hX hdd hK35 x1 x2 x3 V)
    · refine m_iload_n hX 2 dX4_answers_50 rfl rfl ?_
      refine m_iload hX 4 dX4_answers_51 rfl ?_
      refine m_ishr hX dX4_answers_53 ?_
      refine m_ic hX dX4_answers_54 (by decide) (by decide) ?_
      refine m_iand hX dX4_answers_55 ?_
      refine m_if_ne hX 83 dX4_answers_56 (by decide) (fun _ => ?_) (fun _ => ?_)
      · exact m_sub [0, 1, 2, 3, 4] rfl (WM_answers_83 hX hdd hK35 ih x1 x2 x3 x4 V)
      · refine m_iload_n hX 3 dX4_answers_59 rfl rfl ?_
        refine m_ic hX dX4_answers_60 (by decide) (by decide) ?_
        refine m_icmp_eq hX 80 dX4_answers_61 (by decide) (fun _ => ?_) (fun _ => ?_)
        · exact m_sub [0, 1, 2, 4] rfl (WM_answers_80 hX hdd hK35 ih x1 x2 x4 V)
        · refine m_aload_n hX 0 dX4_answers_64 rfl rfl ?_
          refine fg_22 hX dX4_answers_65 ?_
          refine m_iload hX 4 dX4_answers_68 rfl ?_
          refine al_22 hX dX4_answers_70 ?_
          refine m_aload_n hX 0 dX4_answers_71 rfl rfl ?_
          refine fg_22 hX dX4_answers_72 ?_
          refine m_iload_n hX 3 dX4_answers_75 rfl rfl ?_
          refine al_22 hX dX4_answers_76 ?_
          refine m_icmp_le hX 83 dX4_answers_77 (by decide) (fun _ => ?_) (fun _ => ?_)
          · exact m_sub [0, 1, 2, 3, 4] rfl (WM_answers_83 hX hdd hK35 ih x1 x2 x3 x4 V)
          · exact m_sub [0, 1, 2, 4] rfl (WM_answers_80 hX hdd hK35 ih x1 x2 x4 V)
noncomputable def M_answers_35 : Nat → Int → Int → VV → Option (Int × VV)
  | 0, _, _, _ => none
  | n + 1, x1, x2, V => if x1 ≤ 0 then (some (0, V)) else (M_answers_44 (M_answers_35 n) FU x1 x2 (-1) 0 V)
theorem WM_answers_35 {Z : MZ} {d : Nat} (hX : MX Z cX4_answers 6 none d 2) (hdd : 1 ≤ d) : ∀ n x1 x2 V, MG Z 35 [(0, (3, 0)), (1, (0, x1)), (2, (0, x2))] [] V (M_answers_35 n x1 x2 V) := by
  intro n
  induction n with
  | zero => intro x1 x2 V; exact m_none
  | succ n ih =>
    intro x1 x2 V
    rw [M_answers_35]
    refine m_iload_n hX 1 dX4_answers_35 rfl rfl ?_
    refine m_if_le hX 191 dX4_answers_36 (by decide) (fun _ => ?_) (fun _ => ?_)
    · exact m_vret hX rfl dX4_answers_191
    · refine m_ic hX dX4_answers_39 (by decide) (by decide) ?_
      refine m_istore_n hX (lv' := [(3, (0, (-1))), (0, (3, 0)), (1, (0, x1)), (2, (0, x2))]) dX4_answers_40 rfl (by decide) rfl ?_
      refine m_ic hX dX4_answers_41 (by decide) (by decide) ?_
      refine m_istore hX (lv' := [(4, (0, 0)), (3, (0, (-1))), (0, (3, 0)), (1, (0, x1)), (2, (0, x2))]) dX4_answers_42 (by decide) rfl ?_
      exact m_sub [2, 3, 4, 1, 0] rfl (WM_answers_44 hX hdd ih FU x1 x2 (-1) 0 V)
noncomputable def M_answers_28 (V : VV) : Option (Int × VV) := nm (α := Int) (V 29 0) fun v1 => M_answers_35 FU v1 0 V
theorem WM_answers_28 {Z : MZ} {d : Nat} (hX : MX Z cX4_answers 6 none d 2) (hdd : 1 ≤ d) : ∀ V, MG Z 28 [(0, (3, 0))] [] V (M_answers_28 V) := by
  intro V
  unfold M_answers_28
  refine m_aload_n hX 0 dX4_answers_28 rfl rfl ?_
  refine fg_29 hX dX4_answers_29 ?_
  refine m_nmT fun v1 => ?_
  refine m_istore_n hX (lv' := [(1, (0, v1)), (0, (3, 0))]) dX4_answers_32 rfl (by decide) rfl ?_
  refine m_ic hX dX4_answers_33 (by decide) (by decide) ?_
  refine m_istore_n hX (lv' := [(2, (0, 0)), (1, (0, v1)), (0, (3, 0))]) dX4_answers_34 rfl (by decide) rfl ?_
  exact m_sub [2, 1, 0] rfl (WM_answers_35 hX hdd FU v1 0 V)
noncomputable def M_answers_2 : Nat → Int → VV → Option (Int × VV)
  | 0, _, _ => none
  | n + 1, x1, V => if 4 ≤ x1 then (M_answers_28 V) else (nm (α := Int) (if x1 = 0 then 1 else 0) fun v1 => ck x1 4 <| nm (vup V 26 x1 v1) fun V2 => nm (w32 (x1 + 1)) fun v3 => M_answers_2 n v3 V2)
theorem WM_answers_2 {Z : MZ} {d : Nat} (hX : MX Z cX4_answers 6 none d 2) (hdd : 1 ≤ d) : ∀ n x1 V, MG Z 2 [(0, (3, 0)), (1, (0, x1))] [] V (M_answers_2 n x1 V) := by
  intro n
  induction n with
  | zero => intro x1 V; exact m_none
  | succ n ih =>
    intro x1 V
    rw [M_answers_2]
    refine m_iload_n hX 1 dX4_answers_2 rfl rfl ?_
    refine m_ic hX dX4_answers_3 (by decide) (by decide) ?_
    refine m_icmp_ge hX 28 dX4_answers_4 (by decide) (fun _ => ?_) (fun _ => ?_)
    · exact m_sub [0] rfl (WM_answers_28 hX hdd V)
    · refine m_aload_n hX 0 dX4_answers_7 rfl rfl ?_
      refine fg_26 hX dX4_answers_8 ?_
      refine m_iload_n hX 1 dX4_answers_11 rfl rfl ?_
      refine m_iload_n hX 1 dX4_answers_12 rfl rfl ?_
      refine m_join 21 (fun v1 => [(1, v1), (0, x1), (2, ((26 : Nat) : Int))]) (fun v1 => ?_) (fun hJ => ?_)
      · refine as_26 hX dX4_answers_21 fun V2 => ?_
        refine m_iinc hX 1 dX4_answers_22 rfl (by decide) fun v3 => m_lv (lv' := [(1, (0, v3)), (0, (3, 0))]) rfl ?_
        refine m_goto hX 2 dX4_answers_25 (by decide) ?_
        exact m_sub [1, 0] rfl (ih v3 V2)
      · refine m_if_neF hX 20 dX4_answers_13 (by decide) (fun _ => ?_) (fun _ => ?_)
        · refine m_l0 hX dX4_answers_20 ?_
          exact hJ _
        · refine m_l1 hX dX4_answers_16 ?_
          refine m_goto hX 21 dX4_answers_17 (by decide) ?_
          exact hJ _
noncomputable def M_answers (V : VV) : Option (Int × VV) := M_answers_2 FU 0 V
theorem WM_answers (l : Launch) {d : Nat} (hdd : 1 ≤ d) (V : VV) (hV : okV V) (ho : oks []) (fin : Int × VV) (hf : M_answers V = some fin) : mSpec l yX4_answers cX4_answers 6 none d 2 [(3, 0)] V fin := by
  refine m_enter (lv := [(0, (3, 0))]) (by decide) rfl (Nat.le_of_ble_eq_true rfl) rfl (fun Z hZ hX => ?_) hV (ho.c (okA.t 0)) fin hf
  unfold M_answers
  refine m_ic hX dX4_answers_0 (by decide) (by decide) ?_
  refine m_istore_n hX (lv' := [(1, (0, 0)), (0, (3, 0))]) dX4_answers_1 rfl (by decide) rfl ?_
  exact m_sub [1, 0] rfl (WM_answers_2 hX hdd FU 0 V)
theorem cl_answers {Z : MZ} {cc : ByteArray} {nL : Nat} {ret : Option FieldType} {d rk : Nat} {pc : Nat} {lv : List (Nat × AV)} {st : List AV} {V : VV} {g : Int → VV → Option (Int × VV)} (hX : MX Z cc nL ret d rk) (hdd : 2 ≤ d) (hcat : (st.map fun v => if v.1 = 1 then 2 else 1).sum ≤ 8) (hdg : decode cc pc = .ok (.invokevirtual 315, 3)) (kk : ∀ r V1, MG Z (pc + 3) lv st V1 (g r V1)) : MG Z pc lv ((3, 0) :: st) V (mb (M_answers V) g) :=
  m_callVv hX [] 0 (fun hV ho fin hf => WM_answers (zL Z) (Nat.le_refl 1) V hV ho fin hf) (lw_V q2130 q2132 qs101 q131 q2133) (by decide +kernel) rfl (by omega) (by decide) rfl hcat hdg kk
noncomputable def M_lots_157 (K3 : Int → Int → Int → Int → VV → Option (Int × VV)) (K12 : Int → Int → Int → Int → Int → VV → Option (Int × VV)) (x1 : Int) (x2 : Int) (x3 : Int) (x5 : Int) (x6 : Int) (V : VV) : Option (Int × VV) := nm (w32 (x6 + 1)) fun v1 => K12 x1 x2 x3 x5 v1 V
theorem WM_lots_157 {Z : MZ} {d : Nat} (hX : MX Z cX4_lots 11 none d 2) (hdd : 2 ≤ d) {K3 : Int → Int → Int → Int → VV → Option (Int × VV)} (hK3 : ∀ x1 x2 x3 x5 V, MG Z 3 [(0, (3, 0)), (1, (0, x1)), (2, (0, x2)), (3, (1, x3)), (5, (0, x5))] [] V (K3 x1 x2 x3 x5 V)) {K12 : Int → Int → Int → Int → Int → VV → Option (Int × VV)} (hK12 : ∀ x1 x2 x3 x5 x6 V, MG Z 12 [(0, (3, 0)), (1, (0, x1)), (2, (0, x2)), (3, (1, x3)), (5, (0, x5)), (6, (0, x6))] [] V (K12 x1 x2 x3 x5 x6 V)) : ∀ x1 x2 x3 x5 x6 V, MG Z 157 [(0, (3, 0)), (1, (0, x1)), (2, (0, x2)), (3, (1, x3)), (5, (0, x5)), (6, (0, x6))] [] V (M_lots_157 K3 K12 x1 x2 x3 x5 x6 V) := by
  intro x1 x2 x3 x5 x6 V
  unfold M_lots_157
  refine m_iinc hX 5 dX4_lots_157 rfl (by decide) fun v1 => m_lv (lv' := [(6, (0, v1)), (0, (3, 0)), (1, (0, x1)), (2, (0, x2)), (3, (1, x3)), (5, (0, x5))]) rfl ?_
  refine m_goto hX 12 dX4_lots_160 (by decide) ?_
  exact m_sub [1, 2, 3, 4, 5, 0] rfl (hK12 x1 x2 x3 x5 v1 V)
noncomputable def M_lots_123 (K3 : Int → Int → Int → Int → VV → Option (Int × VV)) (K12 : Int → Int → Int → Int → Int → VV → Option (Int × VV)) : Nat → Int → Int → Int → Int → Int → Int → Int → VV → Option (Int × VV)
  | 0, _, _, _, _, _, _, _, _ => none
  | n + 1, x1, x2, x3, x5, x6, x8, x10, V => if 4 ≤ x10 then (M_lots_157 K3 K12 x1 x2 x3 x5 x6 V) else (ck x10 4 <| ck x10 4 <| ck x10 4 <| nm (vup V 27 x10 (w64 ((V 27 x10) + (w64 ((w64 (x3 * x8)) * (V 26 x10)))))) fun V1 => nm (w32 (x10 + 1)) fun v2 => M_lots_123 K3 K12 n x1 x2 x3 x5 x6 x8 v2 V1)
theorem WM_lots_123 {Z : MZ} {d : Nat} (hX : MX Z cX4_lots 11 none d 2) (hdd : 2 ≤ d) {K3 : Int → Int → Int → Int → VV → Option (Int × VV)} (hK3 : ∀ x1 x2 x3 x5 V, MG Z 3 [(0, (3, 0)), (1, (0, x1)), (2, (0, x2)), (3, (1, x3)), (5, (0, x5))] [] V (K3 x1 x2 x3 x5 V)) {K12 : Int → Int → Int → Int → Int → VV → Option (Int × VV)} (hK12 : ∀ x1 x2 x3 x5 x6 V, MG Z 12 [(0, (3, 0)), (1, (0, x1)), (2, (0, x2)), (3, (1, x3)), (5, (0, x5)), (6, (0, x6))] [] V (K12 x1 x2 x3 x5 x6 V)) : ∀ n x1 x2 x3 x5 x6 x8 x10 V, MG Z 123 [(0, (3, 0)), (1, (0, x1)), (2, (0, x2)), (3, (1, x3)), (5, (0, x5)), (6, (0, x6)), (8, (1, x8)), (10, (0, x10))] [] V (M_lots_123 K3 K12 n x1 x2 x3 x5 x6 x8 x10 V) := by
  intro n
  induction n with
  | zero => intro x1 x2 x3 x5 x6 x8 x10 V; exact m_none
  | succ n ih =>
    intro x1 x2 x3 x5 x6 x8 x10 V
    rw [M_lots_123]
    refine m_iload hX 7 dX4_lots_123 rfl ?_
    refine m_ic hX dX4_lots_125 (by decide) (by decide) ?_
    refine m_icmp_ge hX 157 dX4_lots_126 (by decide) (fun _ => ?_) (fun _ => ?_)
    · exact m_sub [0, 1, 2, 3, 4, 5] rfl (WM_lots_157 hX hdd hK3 hK12 x1 x2 x3 x5 x6 V)
    · refine m_aload_n hX 0 dX4_lots_129 rfl rfl ?_
      refine fg_27 hX dX4_lots_130 ?_
      refine m_iload hX 7 dX4_lots_133 rfl ?_
      refine m_dup2 hX dX4_lots_135 rfl rfl ?_
      refine al_27 hX dX4_lots_136 ?_
      refine m_lload_n hX 3 dX4_lots_137 rfl rfl ?_
      refine m_lload hX 6 dX4_lots_138 rfl ?_
      refine m_lmul hX dX4_lots_140 ?_
      refine m_aload_n hX 0 dX4_lots_141 rfl rfl ?_
      refine fg_26 hX dX4_lots_142 ?_
      refine m_iload hX 7 dX4_lots_145 rfl ?_
      refine al_26 hX dX4_lots_147 ?_
      refine m_lmul hX dX4_lots_148 ?_
      refine m_ladd hX dX4_lots_149 ?_
      refine as_27 hX dX4_lots_150 fun V1 => ?_
      refine m_iinc hX 7 dX4_lots_151 rfl (by decide) fun v2 => m_lv (lv' := [(10, (0, v2)), (0, (3, 0)), (1, (0, x1)), (2, (0, x2)), (3, (1, x3)), (5, (0, x5)), (6, (0, x6)), (8, (1, x8))]) rfl ?_
      refine m_goto hX 123 dX4_lots_154 (by decide) ?_
      exact m_sub [1, 2, 3, 4, 5, 6, 7, 0] rfl (ih x1 x2 x3 x5 x6 x8 v2 V1)
noncomputable def M_lots_116 (K3 : Int → Int → Int → Int → VV → Option (Int × VV)) (K12 : Int → Int → Int → Int → Int → VV → Option (Int × VV)) (x1 : Int) (x2 : Int) (x3 : Int) (x5 : Int) (x6 : Int) (x8 : Int) (V : VV) : Option (Int × VV) := mb (M_answers V) fun r1 V2 => M_lots_123 K3 K12 FU x1 x2 x3 x5 x6 x8 0 V2
theorem WM_lots_116 {Z : MZ} {d : Nat} (hX : MX Z cX4_lots 11 none d 2) (hdd : 2 ≤ d) {K3 : Int → Int → Int → Int → VV → Option (Int × VV)} (hK3 : ∀ x1 x2 x3 x5 V, MG Z 3 [(0, (3, 0)), (1, (0, x1)), (2, (0, x2)), (3, (1, x3)), (5, (0, x5))] [] V (K3 x1 x2 x3 x5 V)) {K12 : Int → Int → Int → Int → Int → VV → Option (Int × VV)} (hK12 : ∀ x1 x2 x3 x5 x6 V, MG Z 12 [(0, (3, 0)), (1, (0, x1)), (2, (0, x2)), (3, (1, x3)), (5, (0, x5)), (6, (0, x6))] [] V (K12 x1 x2 x3 x5 x6 V)) : ∀ x1 x2 x3 x5 x6 x8 V, MG Z 116 [(0, (3, 0)), (1, (0, x1)), (2, (0, x2)), (3, (1, x3)), (5, (0, x5)), (6, (0, x6)), (8, (1, x8))] [] V (M_lots_116 K3 K12 x1 x2 x3 x5 x6 x8 V) := by
  intro x1 x2 x3 x5 x6 x8 V
  unfold M_lots_116
  refine m_aload_n hX 0 dX4_lots_116 rfl rfl ?_
  refine cl_answers hX (by omega) (Nat.le_of_ble_eq_true rfl) dX4_lots_117 fun r1 V2 => ?_
  refine m_ic hX dX4_lots_120 (by decide) (by decide) ?_
  refine m_istore hX (lv' := [(10, (0, 0)), (0, (3, 0)), (1, (0, x1)), (2, (0, x2)), (3, (1, x3)), (5, (0, x5)), (6, (0, x6)), (8, (1, x8))]) dX4_lots_121 (by decide) rfl ?_
  exact m_sub [1, 2, 3, 4, 5, 6, 7, 0] rfl (WM_lots_123 hX hdd hK3 hK12 FU x1 x2 x3 x5 x6 x8 0 V2)
noncomputable def M_lots_163 (K3 : Int → Int → Int → Int → VV → Option (Int × VV)) (x1 : Int) (x2 : Int) (x3 : Int) (x5 : Int) (V : VV) : Option (Int × VV) := nm (w32 (x5 + 1)) fun v1 => K3 x1 x2 x3 v1 V
theorem WM_lots_163 {Z : MZ} {d : Nat} (hX : MX Z cX4_lots 11 none d 2) (hdd : 2 ≤ d) {K3 : Int → Int → Int → Int → VV → Option (Int × VV)} (hK3 : ∀ x1 x2 x3 x5 V, MG Z 3 [(0, (3, 0)), (1, (0, x1)), (2, (0, x2)), (3, (1, x3)), (5, (0, x5))] [] V (K3 x1 x2 x3 x5 V)) : ∀ x1 x2 x3 x5 V, MG Z 163 [(0, (3, 0)), (1, (0, x1)), (2, (0, x2)), (3, (1, x3)), (5, (0, x5))] [] V (M_lots_163 K3 x1 x2 x3 x5 V) := by
  intro x1 x2 x3 x5 V
  unfold M_lots_163
  refine m_iinc hX 4 dX4_lots_163 rfl (by decide) fun v1 => m_lv (lv' := [(5, (0, v1)), (0, (3, 0)), (1, (0, x1)), (2, (0, x2)), (3, (1, x3))]) rfl ?_
  refine m_goto hX 3 dX4_lots_166 (by decide) ?_
  exact m_sub [1, 2, 3, 4, 0] rfl (hK3 x1 x2 x3 v1 V)
noncomputable def M_lots_12 (K3 : Int → Int → Int → Int → VV → Option (Int × VV)) : Nat → Int → Int → Int → Int → Int → VV → Option (Int × VV)
  | 0, _, _, _, _, _, _ => none
  | n + 1, x1, x2, x3, x5, x6, V => if x1 < w32 (x5 + x6) then (M_lots_163 K3 x1 x2 x3 x5 V) else (nm (α := Int) (w32 ((w32 (x1 - x5)) - x6)) fun v1 => mb (M_choose (V 23 0) x5 V) fun r2 V3 => mb (M_choose (V3 23 1) x6 V3) fun r4 V5 => mb (M_choose (V5 23 2) v1 V5) fun r6 V7 => nm (α := Int) (w64 ((w64 (r2 * r4)) * r6)) fun v8 => if v8 = 0 then (M_lots_157 K3 (M_lots_12 K3 n) x1 x2 x3 x5 x6 V7) else (nm (vup V7 25 0 x5) fun V9 => nm (vup V9 25 1 x6) fun V10 => nm (vup V10 25 2 v1) fun V11 => if x2 = (-1) then (M_lots_116 K3 (M_lots_12 K3 n) x1 x2 x3 x5 x6 v8 V11) else (ck x2 3 <| ck x2 3 <| nm (vup V11 25 x2 (w32 ((V11 25 x2) + 1))) fun V12 => M_lots_116 K3 (M_lots_12 K3 n) x1 x2 x3 x5 x6 v8 V12)))
theorem WM_lots_12 {Z : MZ} {d : Nat} (hX : MX Z cX4_lots 11 none d 2) (hdd : 2 ≤ d) {K3 : Int → Int → Int → Int → VV → Option (Int × VV)} (hK3 : ∀ x1 x2 x3 x5 V, MG Z 3 [(0, (3, 0)), (1, (0, x1)), (2, (0, x2)), (3, (1, x3)), (5, (0, x5))] [] V (K3 x1 x2 x3 x5 V)) : ∀ n x1 x2 x3 x5 x6 V, MG Z 12 [(0, (3, 0)), (1, (0, x1)), (2, (0, x2)), (3, (1, x3)), (5, (0, x5)), (6, (0, x6))] [] V (M_lots_12 K3 n x1 x2 x3 x5 x6 V) := by
  intro n
  induction n with
  | zero => intro x1 x2 x3 x5 x6 V; exact m_none
  | succ n ih =>
    intro x1 x2 x3 x5 x6 V
    rw [M_lots_12]
    refine m_iload hX 4 dX4_lots_12 rfl ?_
    refine m_iload hX 5 dX4_lots_14 rfl ?_
    refine m_iadd hX dX4_lots_16 ?_
    refine m_iload_n hX 1 dX4_lots_17 rfl rfl ?_
    refine m_icmp_gt hX 163 dX4_lots_18 (by decide) (fun _ => ?_) (fun _ => ?_)
    · exact m_sub [0, 1, 2, 3, 4] rfl (WM_lots_163 hX hdd hK3 x1 x2 x3 x5 V)
    · refine m_iload_n hX 1 dX4_lots_21 rfl rfl ?_
      refine m_iload hX 4 dX4_lots_22 rfl ?_
      refine m_isub hX dX4_lots_24 ?_
      refine m_iload hX 5 dX4_lots_25 rfl ?_
      refine m_isub hX dX4_lots_27 ?_
      refine m_nmT fun v1 => ?_
      refine m_istore hX (lv' := [(7, (0, v1)), (0, (3, 0)), (1, (0, x1)), (2, (0, x2)), (3, (1, x3)), (5, (0, x5)), (6, (0, x6))]) dX4_lots_28 (by decide) rfl ?_
      refine m_aload_n hX 1 dX4_lots_30 rfl rfl ?_
      refine fg_23 hX dX4_lots_31 ?_
      refine m_ic hX dX4_lots_34 (by decide) (by decide) ?_
      refine m_in (by decide) (by decide) (al_23 hX dX4_lots_35 ?_)
      refine m_iload hX 5 dX4_lots_36 rfl ?_
      refine cl_choose hX (by omega) (Nat.le_of_ble_eq_true rfl) dX4_lots_38 fun r2 V3 => ?_
      refine m_aload_n hX 1 dX4_lots_41 rfl rfl ?_
      refine fg_23 hX dX4_lots_42 ?_
      refine m_ic hX dX4_lots_45 (by decide) (by decide) ?_
      refine m_in (by decide) (by decide) (al_23 hX dX4_lots_46 ?_)
      refine m_iload hX 6 dX4_lots_47 rfl ?_
      refine cl_choose hX (by omega) (Nat.le_of_ble_eq_true rfl) dX4_lots_49 fun r4 V5 => ?_
      refine m_lmul hX dX4_lots_52 ?_
      refine m_aload_n hX 1 dX4_lots_53 rfl rfl ?_
      refine fg_23 hX dX4_lots_54 ?_
      refine m_ic hX dX4_lots_57 (by decide) (by decide) ?_
      refine m_in (by decide) (by decide) (al_23 hX dX4_lots_58 ?_)
      refine m_iload hX 0 dX4_lots_59 rfl ?_
      refine cl_choose hX (by omega) (Nat.le_of_ble_eq_true rfl) dX4_lots_61 fun r6 V7 => ?_
      refine m_lmul hX dX4_lots_64 ?_
      refine m_nmT fun v8 => ?_
      refine m_lstore hX (lv' := [(8, (1, v8)), (7, (0, v1)), (0, (3, 0)), (1, (0, x1)), (2, (0, x2)), (3, (1, x3)), (5, (0, x5)), (6, (0, x6))]) dX4_lots_65 (by decide) rfl ?_
      refine m_lload hX 0 dX4_lots_67 rfl ?_
      refine m_l0 hX dX4_lots_69 ?_
      refine m_lcmp_ne hX 77 dX4_lots_70 dX4_lots_71 (by decide) (fun _ => ?_) (fun _ => ?_)
      · refine m_aload_n hX 2 dX4_lots_77 rfl rfl ?_
        refine fg_25 hX dX4_lots_78 ?_
        refine m_ic hX dX4_lots_81 (by decide) (by decide) ?_
        refine m_iload hX 6 dX4_lots_82 rfl ?_
        refine m_in (by decide) (by decide) (as_25 hX dX4_lots_84 fun V9 => ?_)
        refine m_aload_n hX 2 dX4_lots_85 rfl rfl ?_
        refine fg_25 hX dX4_lots_86 ?_
        refine m_ic hX dX4_lots_89 (by decide) (by decide) ?_
        refine m_iload hX 7 dX4_lots_90 rfl ?_
        refine m_in (by decide) (by decide) (as_25 hX dX4_lots_92 fun V10 => ?_)
        refine m_aload_n hX 2 dX4_lots_93 rfl rfl ?_
        refine fg_25 hX dX4_lots_94 ?_
        refine m_ic hX dX4_lots_97 (by decide) (by decide) ?_
        refine m_iload hX 1 dX4_lots_98 rfl ?_
        refine m_in (by decide) (by decide) (as_25 hX dX4_lots_100 fun V11 => ?_)
        refine m_iload_n hX 4 dX4_lots_101 rfl rfl ?_
        refine m_ic hX dX4_lots_102 (by decide) (by decide) ?_
        refine m_icmp_eq hX 116 dX4_lots_103 (by decide) (fun _ => ?_) (fun _ => ?_)
        · exact m_sub [2, 3, 4, 5, 6, 7, 0] rfl (WM_lots_116 hX hdd hK3 ih x1 x2 x3 x5 x6 v8 V11)
        · refine m_aload_n hX 2 dX4_lots_106 rfl rfl ?_
          refine fg_25 hX dX4_lots_107 ?_
          refine m_iload_n hX 4 dX4_lots_110 rfl rfl ?_
          refine m_dup2 hX dX4_lots_111 rfl rfl ?_
          refine al_25 hX dX4_lots_112 ?_
          refine m_ic hX dX4_lots_113 (by decide) (by decide) ?_
          refine m_iadd hX dX4_lots_114 ?_
          refine as_25 hX dX4_lots_115 fun V12 => ?_
          exact m_sub [2, 3, 4, 5, 6, 7, 0] rfl (WM_lots_116 hX hdd hK3 ih x1 x2 x3 x5 x6 v8 V12)
      · refine m_goto hX 157 dX4_lots_74 (by decide) ?_
        exact m_sub [2, 3, 4, 5, 6, 7] rfl (WM_lots_157 hX hdd hK3 ih x1 x2 x3 x5 x6 V7)
noncomputable def M_lots_3 : Nat → Int → Int → Int → Int → VV → Option (Int × VV)
  | 0, _, _, _, _, _ => none
  | n + 1, x1, x2, x3, x5, V => if x1 < x5 then (some (0, V)) else (M_lots_12 (M_lots_3 n) FU x1 x2 x3 x5 0 V)
theorem WM_lots_3 {Z : MZ} {d : Nat} (hX : MX Z cX4_lots 11 none d 2) (hdd : 2 ≤ d) : ∀ n x1 x2 x3 x5 V, MG Z 3 [(0, (3, 0)), (1, (0, x1)), (2, (0, x2)), (3, (1, x3)), (5, (0, x5))] [] V (M_lots_3 n x1 x2 x3 x5 V) := by
  intro n
  induction n with
  | zero => intro x1 x2 x3 x5 V; exact m_none
  | succ n ih =>
    intro x1 x2 x3 x5 V
    rw [M_lots_3]
    refine m_iload hX 4 dX4_lots_3 rfl ?_
    refine m_iload_n hX 1 dX4_lots_5 rfl rfl ?_
    refine m_icmp_gt hX 169 dX4_lots_6 (by decide) (fun _ => ?_) (fun _ => ?_)
    · exact m_vret hX rfl dX4_lots_169
    · refine m_ic hX dX4_lots_9 (by decide) (by decide) ?_
      refine m_istore hX (lv' := [(6, (0, 0)), (0, (3, 0)), (1, (0, x1)), (2, (0, x2)), (3, (1, x3)), (5, (0, x5))]) dX4_lots_10 (by decide) rfl ?_
      exact m_sub [1, 2, 3, 4, 5, 0] rfl (WM_lots_12 hX hdd ih FU x1 x2 x3 x5 0 V)
noncomputable def M_lots (x1 : Int) (x2 : Int) (x3 : Int) (V : VV) : Option (Int × VV) := M_lots_3 FU x1 x2 x3 0 V
theorem WM_lots (l : Launch) {d : Nat} (hdd : 2 ≤ d) (x1 : Int) (x2 : Int) (x3 : Int) (V : VV) (hV : okV V) (ho : oks [(0, x1), (0, x2), (1, x3)]) (fin : Int × VV) (hf : M_lots x1 x2 x3 V = some fin) : mSpec l yX4_lots cX4_lots 11 none d 2 [(3, 0), (0, x1), (0, x2), (1, x3)] V fin := by
  refine m_enter (lv := [(0, (3, 0)), (1, (0, x1)), (2, (0, x2)), (3, (1, x3))]) (by decide) rfl (Nat.le_of_ble_eq_true rfl) rfl (fun Z hZ hX => ?_) hV (ho.c (okA.t 0)) fin hf
  unfold M_lots
  refine m_ic hX dX4_lots_0 (by decide) (by decide) ?_
  refine m_istore hX (lv' := [(5, (0, 0)), (0, (3, 0)), (1, (0, x1)), (2, (0, x2)), (3, (1, x3))]) dX4_lots_1 (by decide) rfl ?_
  exact m_sub [1, 2, 3, 4, 0] rfl (WM_lots_3 hX hdd FU x1 x2 x3 0 V)
theorem cl_lots {Z : MZ} {cc : ByteArray} {nL : Nat} {ret : Option FieldType} {d rk : Nat} {pc : Nat} {lv : List (Nat × AV)} {st : List AV} {V : VV} {g : Int → VV → Option (Int × VV)} (hX : MX Z cc nL ret d rk) {a0 a1 a2 : Int} (hdd : 3 ≤ d) (hcat : (st.map fun v => if v.1 = 1 then 2 else 1).sum ≤ 8) (hdg : decode cc pc = .ok (.invokevirtual 330, 3)) (kk : ∀ r V1, MG Z (pc + 3) lv st V1 (g r V1)) : MG Z pc lv ((1, a2) :: (0, a1) :: (0, a0) :: (3, 0) :: st) V (mb (M_lots a0 a1 a2 V) g) :=
  m_callVv hX [(0, a0), (0, a1), (1, a2)] 3 (fun hV ho fin hf => WM_lots (zL Z) (Nat.le_refl 2) a0 a1 a2 V hV ho fin hf) (lw_V q2126 q2128 qs100 q131 q2129) (by decide +kernel) rfl (by omega) (by decide) rfl hcat hdg kk
noncomputable def M_odds_311 (K244 : Int → Int → Int → VV → Option (Int × VV)) (x1 : Int) (x2 : Int) (x5 : Int) (V : VV) : Option (Int × VV) := nm (w32 (x5 + 1)) fun v1 => K244 x1 x2 v1 V
theorem WM_odds_311 {Z : MZ} {d : Nat} (hX : MX Z cX4_odds 6 none d 2) (hdd : 3 ≤ d) {K244 : Int → Int → Int → VV → Option (Int × VV)} (hK244 : ∀ x1 x2 x5 V, MG Z 244 [(0, (3, 0)), (1, (0, x1)), (2, (0, x2)), (5, (0, x5))] [] V (K244 x1 x2 x5 V)) : ∀ x1 x2 x5 V, MG Z 311 [(0, (3, 0)), (1, (0, x1)), (2, (0, x2)), (5, (0, x5))] [] V (M_odds_311 K244 x1 x2 x5 V) := by
  intro x1 x2 x5 V
  unfold M_odds_311
  refine m_iinc hX 3 dX4_odds_311 rfl (by decide) fun v1 => m_lv (lv' := [(5, (0, v1)), (0, (3, 0)), (1, (0, x1)), (2, (0, x2))]) rfl ?_
  refine m_goto hX 244 dX4_odds_314 (by decide) ?_
  exact m_sub [1, 2, 3, 0] rfl (hK244 x1 x2 v1 V)
noncomputable def M_odds_244 : Nat → Int → Int → Int → VV → Option (Int × VV)
  | 0, _, _, _, _ => none
  | n + 1, x1, x2, x5, V => if 3 ≤ x5 then (some (0, V)) else (ck x5 3 <| if V 24 x5 = 0 then (M_odds_311 (M_odds_244 n) x1 x2 x5 V) else (ck x5 3 <| ck x5 3 <| nm (vup V 23 x5 (w32 ((V 23 x5) - 1))) fun V1 => ck x5 3 <| mb (M_lots (w32 ((V1 28 0) - 1)) x5 (w64 ((w64 (x1 * (V1 24 x5))) * x2)) V1) fun r2 V3 => ck x5 3 <| ck x5 3 <| nm (vup V3 23 x5 (w32 ((V3 23 x5) + 1))) fun V4 => M_odds_311 (M_odds_244 n) x1 x2 x5 V4))
theorem WM_odds_244 {Z : MZ} {d : Nat} (hX : MX Z cX4_odds 6 none d 2) (hdd : 3 ≤ d) : ∀ n x1 x2 x5 V, MG Z 244 [(0, (3, 0)), (1, (0, x1)), (2, (0, x2)), (5, (0, x5))] [] V (M_odds_244 n x1 x2 x5 V) := by
  intro n
  induction n with
  | zero => intro x1 x2 x5 V; exact m_none
  | succ n ih =>
    intro x1 x2 x5 V
    rw [M_odds_244]
    refine m_iload hX 3 dX4_odds_244 rfl ?_
    refine m_ic hX dX4_odds_246 (by decide) (by decide) ?_
    refine m_icmp_ge hX 317 dX4_odds_247 (by decide) (fun _ => ?_) (fun _ => ?_)
    · exact m_vret hX rfl dX4_odds_317
    · refine m_aload_n hX 0 dX4_odds_250 rfl rfl ?_
      refine fg_24 hX dX4_odds_251 ?_
      refine m_iload hX 3 dX4_odds_254 rfl ?_
      refine al_24 hX dX4_odds_256 ?_
      refine m_if_ne hX 263 dX4_odds_257 (by decide) (fun _ => ?_) (fun _ => ?_)
      · refine m_aload_n hX 0 dX4_odds_263 rfl rfl ?_
        refine fg_23 hX dX4_odds_264 ?_
        refine m_iload hX 3 dX4_odds_267 rfl ?_
        refine m_dup2 hX dX4_odds_269 rfl rfl ?_
        refine al_23 hX dX4_odds_270 ?_
        refine m_ic hX dX4_odds_271 (by decide) (by decide) ?_
        refine m_isub hX dX4_odds_272 ?_
        refine as_23 hX dX4_odds_273 fun V1 => ?_
        refine m_aload_n hX 0 dX4_odds_274 rfl rfl ?_
        refine m_aload_n hX 0 dX4_odds_275 rfl rfl ?_
        refine fg_28 hX dX4_odds_276 ?_
        refine m_ic hX dX4_odds_279 (by decide) (by decide) ?_
        refine m_isub hX dX4_odds_280 ?_
        refine m_iload hX 3 dX4_odds_281 rfl ?_
        refine m_iload_n hX 1 dX4_odds_283 rfl rfl ?_
        refine m_i2l hX dX4_odds_284 ?_
        refine m_aload_n hX 0 dX4_odds_285 rfl rfl ?_
        refine fg_24 hX dX4_odds_286 ?_
        refine m_iload hX 3 dX4_odds_289 rfl ?_
        refine al_24 hX dX4_odds_291 ?_
        refine m_i2l hX dX4_odds_292 ?_
        refine m_lmul hX dX4_odds_293 ?_
        refine m_iload_n hX 2 dX4_odds_294 rfl rfl ?_
        refine m_i2l hX dX4_odds_295 ?_
        refine m_lmul hX dX4_odds_296 ?_
        refine cl_lots hX (by omega) (Nat.le_of_ble_eq_true rfl) dX4_odds_297 fun r2 V3 => ?_
        refine m_aload_n hX 0 dX4_odds_300 rfl rfl ?_
        refine fg_23 hX dX4_odds_301 ?_
        refine m_iload hX 3 dX4_odds_304 rfl ?_
        refine m_dup2 hX dX4_odds_306 rfl rfl ?_
        refine al_23 hX dX4_odds_307 ?_
        refine m_ic hX dX4_odds_308 (by decide) (by decide) ?_
        refine m_iadd hX dX4_odds_309 ?_
        refine as_23 hX dX4_odds_310 fun V4 => ?_
        exact m_sub [0, 1, 2, 3] rfl (WM_odds_311 hX hdd ih x1 x2 x5 V4)
      · refine m_goto hX 311 dX4_odds_260 (by decide) ?_
        exact m_sub [0, 1, 2, 3] rfl (WM_odds_311 hX hdd ih x1 x2 x5 V)
noncomputable def M_odds_179 (s0 : Int) (x1 : Int) (x2 : Int) (x3 : Int) (V : VV) : Option (Int × VV) := if s0 = 0 then (mb (M_lots (V 28 0) (-1) 1 V) fun r4 V5 => some (0, V5)) else (nm (vup V 30 0 (w64 ((w64 ((w64 ((V 30 0) * 100)) * x3)) * (V 28 0)))) fun V1 => mb (M_lots (V1 28 0) (-1) (w64 ((w64 ((w32 (100 - x1)) * x3)) * (V1 28 0))) V1) fun r2 V3 => M_odds_244 FU x1 x2 0 V3)
theorem WM_odds_179 {Z : MZ} {d : Nat} (hX : MX Z cX4_odds 6 none d 2) (hdd : 3 ≤ d) : ∀ s0 x1 x2 x3 V, MG Z 179 [(0, (3, 0)), (1, (0, x1)), (2, (0, x2)), (3, (0, x3))] [(0, s0)] V (M_odds_179 s0 x1 x2 x3 V) := by
  intro s0 x1 x2 x3 V
  unfold M_odds_179
  refine m_istore hX (lv' := [(4, (0, s0)), (0, (3, 0)), (1, (0, x1)), (2, (0, x2)), (3, (0, x3))]) dX4_odds_179 (by decide) rfl ?_
  refine m_iload hX 0 dX4_odds_181 rfl ?_
  refine m_if_ne hX 197 dX4_odds_183 (by decide) (fun _ => ?_) (fun _ => ?_)
  · refine m_aload_n hX 1 dX4_odds_197 rfl rfl ?_
    refine m_aload_n hX 1 dX4_odds_198 rfl rfl ?_
    refine fg_30 hX dX4_odds_199 ?_
    refine m_ldc2 hX (n := 100) q2125 dX4_odds_202 (by decide +kernel) ⟨by decide, by decide⟩ ?_
    refine m_lmul hX dX4_odds_205 ?_
    refine m_iload_n hX 4 dX4_odds_206 rfl rfl ?_
    refine m_i2l hX dX4_odds_207 ?_
    refine m_lmul hX dX4_odds_208 ?_
    refine m_aload_n hX 1 dX4_odds_209 rfl rfl ?_
    refine fg_28 hX dX4_odds_210 ?_
    refine m_i2l hX dX4_odds_213 ?_
    refine m_lmul hX dX4_odds_214 ?_
    refine fp_30 hX dX4_odds_215 fun V1 => ?_
    refine m_aload_n hX 1 dX4_odds_218 rfl rfl ?_
    refine m_aload_n hX 1 dX4_odds_219 rfl rfl ?_
    refine fg_28 hX dX4_odds_220 ?_
    refine m_ic hX dX4_odds_223 (by decide) (by decide) ?_
    refine m_bp hX dX4_odds_224 (by decide) (by decide) ?_
    refine m_iload_n hX 2 dX4_odds_226 rfl rfl ?_
    refine m_isub hX dX4_odds_227 ?_
    refine m_i2l hX dX4_odds_228 ?_
    refine m_iload_n hX 4 dX4_odds_229 rfl rfl ?_
    refine m_i2l hX dX4_odds_230 ?_
    refine m_lmul hX dX4_odds_231 ?_
    refine m_aload_n hX 1 dX4_odds_232 rfl rfl ?_
    refine fg_28 hX dX4_odds_233 ?_
    refine m_i2l hX dX4_odds_236 ?_
    refine m_lmul hX dX4_odds_237 ?_
    refine cl_lots hX (by omega) (Nat.le_of_ble_eq_true rfl) dX4_odds_238 fun r2 V3 => ?_
    refine m_ic hX dX4_odds_241 (by decide) (by decide) ?_
    refine m_istore hX (lv' := [(5, (0, 0)), (4, (0, s0)), (0, (3, 0)), (1, (0, x1)), (2, (0, x2)), (3, (0, x3))]) dX4_odds_242 (by decide) rfl ?_
    exact m_sub [2, 3, 4, 0] rfl (WM_odds_244 hX hdd FU x1 x2 0 V3)
  · refine m_aload_n hX 1 dX4_odds_186 rfl rfl ?_
    refine m_aload_n hX 1 dX4_odds_187 rfl rfl ?_
    refine fg_28 hX dX4_odds_188 ?_
    refine m_ic hX dX4_odds_191 (by decide) (by decide) ?_
    refine m_l1 hX dX4_odds_192 ?_
    refine cl_lots hX (by omega) (Nat.le_of_ble_eq_true rfl) dX4_odds_193 fun r4 V5 => ?_
    exact m_vret hX rfl dX4_odds_196
noncomputable def M_odds_178 (x1 : Int) (x2 : Int) (x3 : Int) (V : VV) : Option (Int × VV) := M_odds_179 0 x1 x2 x3 V
theorem WM_odds_178 {Z : MZ} {d : Nat} (hX : MX Z cX4_odds 6 none d 2) (hdd : 3 ≤ d) : ∀ x1 x2 x3 V, MG Z 178 [(0, (3, 0)), (1, (0, x1)), (2, (0, x2)), (3, (0, x3))] [] V (M_odds_178 x1 x2 x3 V) := by
  intro x1 x2 x3 V
  unfold M_odds_178
  refine m_ic hX dX4_odds_178 (by decide) (by decide) ?_
  exact m_sub [0, 1, 2, 3] rfl (WM_odds_179 hX hdd 0 x1 x2 x3 V)
noncomputable def M_odds_157 (x1 : Int) (x2 : Int) (x3 : Int) (V : VV) : Option (Int × VV) := if x1 ≤ 0 then (M_odds_178 x1 x2 x3 V) else (if x3 ≤ 0 then (M_odds_178 x1 x2 x3 V) else (mb (M_term 0 V) fun r1 V2 => if x2 ≤ r1 then (M_odds_178 x1 x2 x3 V2) else (M_odds_179 1 x1 x2 x3 V2)))
theorem WM_odds_157 {Z : MZ} {d : Nat} (hX : MX Z cX4_odds 6 none d 2) (hdd : 3 ≤ d) : ∀ x1 x2 x3 V, MG Z 157 [(0, (3, 0)), (1, (0, x1)), (2, (0, x2)), (3, (0, x3))] [] V (M_odds_157 x1 x2 x3 V) := by
  intro x1 x2 x3 V
  unfold M_odds_157
  refine m_iload_n hX 1 dX4_odds_157 rfl rfl ?_
  refine m_if_le hX 178 dX4_odds_158 (by decide) (fun _ => ?_) (fun _ => ?_)
  · exact m_sub [0, 1, 2, 3] rfl (WM_odds_178 hX hdd x1 x2 x3 V)
  · refine m_iload_n hX 3 dX4_odds_161 rfl rfl ?_
    refine m_if_le hX 178 dX4_odds_162 (by decide) (fun _ => ?_) (fun _ => ?_)
    · exact m_sub [0, 1, 2, 3] rfl (WM_odds_178 hX hdd x1 x2 x3 V)
    · refine m_aload_n hX 0 dX4_odds_165 rfl rfl ?_
      refine m_ic hX dX4_odds_166 (by decide) (by decide) ?_
      refine cl_term hX (by omega) (Nat.le_of_ble_eq_true rfl) dX4_odds_167 fun r1 V2 => ?_
      refine m_iload_n hX 2 dX4_odds_170 rfl rfl ?_
      refine m_icmp_ge hX 178 dX4_odds_171 (by decide) (fun _ => ?_) (fun _ => ?_)
      · exact m_sub [0, 1, 2, 3] rfl (WM_odds_178 hX hdd x1 x2 x3 V2)
      · refine m_ic hX dX4_odds_174 (by decide) (by decide) ?_
        refine m_goto hX 179 dX4_odds_175 (by decide) ?_
        exact m_sub [0, 1, 2, 3] rfl (WM_odds_179 hX hdd 1 x1 x2 x3 V2)
noncomputable def M_odds_130 : Nat → Int → Int → Int → Int → VV → Option (Int × VV)
  | 0, _, _, _, _, _ => none
  | n + 1, x1, x2, x3, x4, V => if V 29 0 ≤ x4 then (M_odds_157 x1 x2 x3 V) else (nm (vup V 30 0 (w64 ((V 30 0) * 100))) fun V1 => nm (w32 (x4 + 1)) fun v2 => M_odds_130 n x1 x2 x3 v2 V1)
theorem WM_odds_130 {Z : MZ} {d : Nat} (hX : MX Z cX4_odds 6 none d 2) (hdd : 3 ≤ d) : ∀ n x1 x2 x3 x4 V, MG Z 130 [(0, (3, 0)), (1, (0, x1)), (2, (0, x2)), (3, (0, x3)), (4, (0, x4))] [] V (M_odds_130 n x1 x2 x3 x4 V) := by
  intro n
  induction n with
  | zero => intro x1 x2 x3 x4 V; exact m_none
  | succ n ih =>
    intro x1 x2 x3 x4 V
    rw [M_odds_130]
    refine m_iload hX 4 dX4_odds_130 rfl ?_
    refine m_aload_n hX 0 dX4_odds_132 rfl rfl ?_
    refine fg_29 hX dX4_odds_133 ?_
    refine m_icmp_ge hX 157 dX4_odds_136 (by decide) (fun _ => ?_) (fun _ => ?_)
    · exact m_sub [0, 1, 2, 3] rfl (WM_odds_157 hX hdd x1 x2 x3 V)
    · refine m_aload_n hX 0 dX4_odds_139 rfl rfl ?_
      refine m_aload_n hX 0 dX4_odds_140 rfl rfl ?_
      refine fg_30 hX dX4_odds_141 ?_
      refine m_ldc2 hX (n := 100) q2125 dX4_odds_144 (by decide +kernel) ⟨by decide, by decide⟩ ?_
      refine m_lmul hX dX4_odds_147 ?_
      refine fp_30 hX dX4_odds_148 fun V1 => ?_
      refine m_iinc hX 4 dX4_odds_151 rfl (by decide) fun v2 => m_lv (lv' := [(4, (0, v2)), (0, (3, 0)), (1, (0, x1)), (2, (0, x2)), (3, (0, x3))]) rfl ?_
      refine m_goto hX 130 dX4_odds_154 (by decide) ?_
      exact m_sub [1, 2, 3, 4, 0] rfl (ih x1 x2 x3 v2 V1)
noncomputable def M_odds_115 (x1 : Int) (x2 : Int) (x3 : Int) (V : VV) : Option (Int × VV) := mb (M_choose x2 (V 28 0) V) fun r1 V2 => nm (vup V2 30 0 r1) fun V3 => M_odds_130 FU x1 x2 x3 0 V3
theorem WM_odds_115 {Z : MZ} {d : Nat} (hX : MX Z cX4_odds 6 none d 2) (hdd : 3 ≤ d) : ∀ x1 x2 x3 V, MG Z 115 [(0, (3, 0)), (1, (0, x1)), (2, (0, x2)), (3, (0, x3))] [] V (M_odds_115 x1 x2 x3 V) := by
  intro x1 x2 x3 V
  unfold M_odds_115
  refine m_aload_n hX 0 dX4_odds_115 rfl rfl ?_
  refine m_iload_n hX 2 dX4_odds_116 rfl rfl ?_
  refine m_aload_n hX 0 dX4_odds_117 rfl rfl ?_
  refine fg_28 hX dX4_odds_118 ?_
  refine cl_choose hX (by omega) (Nat.le_of_ble_eq_true rfl) dX4_odds_121 fun r1 V2 => ?_
  refine fp_30 hX dX4_odds_124 fun V3 => ?_
  refine m_ic hX dX4_odds_127 (by decide) (by decide) ?_
  refine m_istore hX (lv' := [(4, (0, 0)), (0, (3, 0)), (1, (0, x1)), (2, (0, x2)), (3, (0, x3))]) dX4_odds_128 (by decide) rfl ?_
  exact m_sub [1, 2, 3, 4, 0] rfl (WM_odds_130 hX hdd FU x1 x2 x3 0 V3)
noncomputable def M_odds_95 : Nat → Int → Int → Int → Int → VV → Option (Int × VV)
  | 0, _, _, _, _, _ => none
  | n + 1, x1, x2, x3, x4, V => if 4 ≤ x4 then (M_odds_115 x1 x2 x3 V) else (ck x4 4 <| nm (vup V 27 x4 0) fun V1 => nm (w32 (x4 + 1)) fun v2 => M_odds_95 n x1 x2 x3 v2 V1)
theorem WM_odds_95 {Z : MZ} {d : Nat} (hX : MX Z cX4_odds 6 none d 2) (hdd : 3 ≤ d) : ∀ n x1 x2 x3 x4 V, MG Z 95 [(0, (3, 0)), (1, (0, x1)), (2, (0, x2)), (3, (0, x3)), (4, (0, x4))] [] V (M_odds_95 n x1 x2 x3 x4 V) := by
  intro n
  induction n with
  | zero => intro x1 x2 x3 x4 V; exact m_none
  | succ n ih =>
    intro x1 x2 x3 x4 V
    rw [M_odds_95]
    refine m_iload hX 4 dX4_odds_95 rfl ?_
    refine m_ic hX dX4_odds_97 (by decide) (by decide) ?_
    refine m_icmp_ge hX 115 dX4_odds_98 (by decide) (fun _ => ?_) (fun _ => ?_)
    · exact m_sub [0, 1, 2, 3] rfl (WM_odds_115 hX hdd x1 x2 x3 V)
    · refine m_aload_n hX 0 dX4_odds_101 rfl rfl ?_
      refine fg_27 hX dX4_odds_102 ?_
      refine m_iload hX 4 dX4_odds_105 rfl ?_
      refine m_l0 hX dX4_odds_107 ?_
      refine as_27 hX dX4_odds_108 fun V1 => ?_
      refine m_iinc hX 4 dX4_odds_109 rfl (by decide) fun v2 => m_lv (lv' := [(4, (0, v2)), (0, (3, 0)), (1, (0, x1)), (2, (0, x2)), (3, (0, x3))]) rfl ?_
      refine m_goto hX 95 dX4_odds_112 (by decide) ?_
      exact m_sub [1, 2, 3, 4, 0] rfl (ih x1 x2 x3 v2 V1)
noncomputable def M_odds_89 (s1 : Int) (x1 : Int) (x2 : Int) (x3 : Int) (V : VV) : Option (Int × VV) := nm (vup V 29 0 s1) fun V1 => M_odds_95 FU x1 x2 x3 0 V1
theorem WM_odds_89 {Z : MZ} {d : Nat} (hX : MX Z cX4_odds 6 none d 2) (hdd : 3 ≤ d) : ∀ s1 x1 x2 x3 V, MG Z 89 [(0, (3, 0)), (1, (0, x1)), (2, (0, x2)), (3, (0, x3))] [(0, s1), (3, 0)] V (M_odds_89 s1 x1 x2 x3 V) := by
  intro s1 x1 x2 x3 V
  unfold M_odds_89
  refine fp_29 hX dX4_odds_89 fun V1 => ?_
  refine m_ic hX dX4_odds_92 (by decide) (by decide) ?_
  refine m_istore hX (lv' := [(4, (0, 0)), (0, (3, 0)), (1, (0, x1)), (2, (0, x2)), (3, (0, x3))]) dX4_odds_93 (by decide) rfl ?_
  exact m_sub [1, 2, 3, 4, 0] rfl (WM_odds_95 hX hdd FU x1 x2 x3 0 V1)
noncomputable def M_odds_61 (s1 : Int) (x1 : Int) (x2 : Int) (x3 : Int) (V : VV) : Option (Int × VV) := nm (vup V 28 0 s1) fun V1 => mb (M_term 1 V1) fun r2 V3 => if V3 28 0 ≤ r2 then (M_odds_89 (V3 28 0) x1 x2 x3 V3) else (mb (M_term 1 V3) fun r4 V5 => M_odds_89 r4 x1 x2 x3 V5)
theorem WM_odds_61 {Z : MZ} {d : Nat} (hX : MX Z cX4_odds 6 none d 2) (hdd : 3 ≤ d) : ∀ s1 x1 x2 x3 V, MG Z 61 [(0, (3, 0)), (1, (0, x1)), (2, (0, x2)), (3, (0, x3))] [(0, s1), (3, 0)] V (M_odds_61 s1 x1 x2 x3 V) := by
  intro s1 x1 x2 x3 V
  unfold M_odds_61
  refine fp_28 hX dX4_odds_61 fun V1 => ?_
  refine m_aload_n hX 0 dX4_odds_64 rfl rfl ?_
  refine m_aload_n hX 0 dX4_odds_65 rfl rfl ?_
  refine m_ic hX dX4_odds_66 (by decide) (by decide) ?_
  refine cl_term hX (by omega) (Nat.le_of_ble_eq_true rfl) dX4_odds_67 fun r2 V3 => ?_
  refine m_aload_n hX 0 dX4_odds_70 rfl rfl ?_
  refine fg_28 hX dX4_odds_71 ?_
  refine m_icmp_ge hX 85 dX4_odds_74 (by decide) (fun _ => ?_) (fun _ => ?_)
  · refine m_aload_n hX 0 dX4_odds_85 rfl rfl ?_
    refine fg_28 hX dX4_odds_86 ?_
    exact m_sub [0, 1, 2, 3] rfl (WM_odds_89 hX hdd (V3 28 0) x1 x2 x3 V3)
  · refine m_aload_n hX 0 dX4_odds_77 rfl rfl ?_
    refine m_ic hX dX4_odds_78 (by decide) (by decide) ?_
    refine cl_term hX (by omega) (Nat.le_of_ble_eq_true rfl) dX4_odds_79 fun r4 V5 => ?_
    refine m_goto hX 89 dX4_odds_82 (by decide) ?_
    exact m_sub [0, 1, 2, 3] rfl (WM_odds_89 hX hdd r4 x1 x2 x3 V5)
noncomputable def M_odds (x1 : Int) (V : VV) : Option (Int × VV) := nm (α := Int) (w32 ((w32 ((V 23 0) + (V 23 1))) + (V 23 2))) fun v1 => nm (α := Int) (w32 ((w32 ((V 24 0) + (V 24 1))) + (V 24 2))) fun v2 => mb (M_term 0 V) fun r3 V4 => if v1 ≤ r3 then (M_odds_61 v1 x1 v1 v2 V4) else (mb (M_term 0 V4) fun r5 V6 => M_odds_61 r5 x1 v1 v2 V6)
theorem WM_odds (l : Launch) {d : Nat} (hdd : 3 ≤ d) (x1 : Int) (V : VV) (hV : okV V) (ho : oks [(0, x1)]) (fin : Int × VV) (hf : M_odds x1 V = some fin) : mSpec l yX4_odds cX4_odds 6 none d 2 [(3, 0), (0, x1)] V fin := by
  refine m_enter (lv := [(0, (3, 0)), (1, (0, x1))]) (by decide) rfl (Nat.le_of_ble_eq_true rfl) rfl (fun Z hZ hX => ?_) hV (ho.c (okA.t 0)) fin hf
  unfold M_odds
  refine m_aload_n hX 0 dX4_odds_0 rfl rfl ?_
  refine fg_23 hX dX4_odds_1 ?_
  refine m_ic hX dX4_odds_4 (by decide) (by decide) ?_
  refine m_in (by decide) (by decide) (al_23 hX dX4_odds_5 ?_)
  refine m_aload_n hX 0 dX4_odds_6 rfl rfl ?_
  refine fg_23 hX dX4_odds_7 ?_
  refine m_ic hX dX4_odds_10 (by decide) (by decide) ?_
  refine m_in (by decide) (by decide) (al_23 hX dX4_odds_11 ?_)
  refine m_iadd hX dX4_odds_12 ?_
  refine m_aload_n hX 0 dX4_odds_13 rfl rfl ?_
  refine fg_23 hX dX4_odds_14 ?_
  refine m_ic hX dX4_odds_17 (by decide) (by decide) ?_
  refine m_in (by decide) (by decide) (al_23 hX dX4_odds_18 ?_)
  refine m_iadd hX dX4_odds_19 ?_
  refine m_nmT fun v1 => ?_
  refine m_istore_n hX (lv' := [(2, (0, v1)), (0, (3, 0)), (1, (0, x1))]) dX4_odds_20 rfl (by decide) rfl ?_
  refine m_aload_n hX 1 dX4_odds_21 rfl rfl ?_
  refine fg_24 hX dX4_odds_22 ?_
  refine m_ic hX dX4_odds_25 (by decide) (by decide) ?_
  refine m_in (by decide) (by decide) (al_24 hX dX4_odds_26 ?_)
  refine m_aload_n hX 1 dX4_odds_27 rfl rfl ?_
  refine fg_24 hX dX4_odds_28 ?_
  refine m_ic hX dX4_odds_31 (by decide) (by decide) ?_
  refine m_in (by decide) (by decide) (al_24 hX dX4_odds_32 ?_)
  refine m_iadd hX dX4_odds_33 ?_
  refine m_aload_n hX 1 dX4_odds_34 rfl rfl ?_
  refine fg_24 hX dX4_odds_35 ?_
  refine m_ic hX dX4_odds_38 (by decide) (by decide) ?_
  refine m_in (by decide) (by decide) (al_24 hX dX4_odds_39 ?_)
  refine m_iadd hX dX4_odds_40 ?_
  refine m_nmT fun v2 => ?_
  refine m_istore_n hX (lv' := [(3, (0, v2)), (2, (0, v1)), (0, (3, 0)), (1, (0, x1))]) dX4_odds_41 rfl (by decide) rfl ?_
  refine m_aload_n hX 2 dX4_odds_42 rfl rfl ?_
  refine m_aload_n hX 2 dX4_odds_43 rfl rfl ?_
  refine m_ic hX dX4_odds_44 (by decide) (by decide) ?_
  refine cl_term hX (by omega) (Nat.le_of_ble_eq_true rfl) dX4_odds_45 fun r3 V4 => ?_
  refine m_iload_n hX 1 dX4_odds_48 rfl rfl ?_
  refine m_icmp_ge hX 60 dX4_odds_49 (by decide) (fun _ => ?_) (fun _ => ?_)
  · refine m_iload_n hX 1 dX4_odds_60 rfl rfl ?_
    exact m_sub [2, 3, 1, 0] rfl (WM_odds_61 hX hdd v1 x1 v1 v2 V4)
  · refine m_aload_n hX 2 dX4_odds_52 rfl rfl ?_
    refine m_ic hX dX4_odds_53 (by decide) (by decide) ?_
    refine cl_term hX (by omega) (Nat.le_of_ble_eq_true rfl) dX4_odds_54 fun r5 V6 => ?_
    refine m_goto hX 61 dX4_odds_57 (by decide) ?_
    exact m_sub [2, 3, 1, 0] rfl (WM_odds_61 hX hdd r5 x1 v1 v2 V6)
theorem cl_odds {Z : MZ} {cc : ByteArray} {nL : Nat} {ret : Option FieldType} {d rk : Nat} {pc : Nat} {lv : List (Nat × AV)} {st : List AV} {V : VV} {g : Int → VV → Option (Int × VV)} (hX : MX Z cc nL ret d rk) {a0 : Int} (hdd : 4 ≤ d) (hcat : (st.map fun v => if v.1 = 1 then 2 else 1).sum ≤ 8) (hdg : decode cc pc = .ok (.invokevirtual 337, 3)) (kk : ∀ r V1, MG Z (pc + 3) lv st V1 (g r V1)) : MG Z pc lv ((0, a0) :: (3, 0) :: st) V (mb (M_odds a0 V) g) :=
  m_callVv hX [(0, a0)] 1 (fun hV ho fin hf => WM_odds (zL Z) (Nat.le_refl 3) a0 V hV ho fin hf) (lw_V q2118 q2120 qs99 q131 q2121) (by decide +kernel) rfl (by omega) (by decide) rfl hcat hdg kk
noncomputable def M_known_96 (K33 : Int → Int → Int → VV → Option (Int × VV)) (x1 : Int) (x2 : Int) (x3 : Int) (V : VV) : Option (Int × VV) := nm (w32 (x3 + 1)) fun v1 => K33 x1 x2 v1 V
theorem WM_known_96 {Z : MZ} {d : Nat} (hX : MX Z cX4_known 5 none d 2) (hdd : 128 ≤ d) {K33 : Int → Int → Int → VV → Option (Int × VV)} (hK33 : ∀ x1 x2 x3 V, MG Z 33 [(0, (3, 0)), (1, (0, x1)), (2, (0, x2)), (3, (0, x3))] [] V (K33 x1 x2 x3 V)) : ∀ x1 x2 x3 V, MG Z 96 [(0, (3, 0)), (1, (0, x1)), (2, (0, x2)), (3, (0, x3))] [] V (M_known_96 K33 x1 x2 x3 V) := by
  intro x1 x2 x3 V
  unfold M_known_96
  refine m_iinc hX 3 dX4_known_96 rfl (by decide) fun v1 => m_lv (lv' := [(3, (0, v1)), (0, (3, 0)), (1, (0, x1)), (2, (0, x2))]) rfl ?_
  refine m_goto hX 33 dX4_known_99 (by decide) ?_
  exact m_sub [1, 2, 3, 0] rfl (hK33 x1 x2 v1 V)
noncomputable def M_known_67 (K33 : Int → Int → Int → VV → Option (Int × VV)) (s0 : Int) (x1 : Int) (x2 : Int) (x3 : Int) (V : VV) : Option (Int × VV) := ck s0 3 <| ck s0 3 <| nm (vup V 23 s0 (w32 ((V 23 s0) + 1))) fun V1 => ck s0 3 <| mb (M_factOf x3 3 V1) fun r2 V3 => ck s0 3 <| nm (vup V3 24 s0 (w32 ((V1 24 s0) + r2))) fun V4 => M_known_96 K33 x1 x2 x3 V4
theorem WM_known_67 {Z : MZ} {d : Nat} (hX : MX Z cX4_known 5 none d 2) (hdd : 128 ≤ d) {K33 : Int → Int → Int → VV → Option (Int × VV)} (hK33 : ∀ x1 x2 x3 V, MG Z 33 [(0, (3, 0)), (1, (0, x1)), (2, (0, x2)), (3, (0, x3))] [] V (K33 x1 x2 x3 V)) : ∀ s0 x1 x2 x3 V, MG Z 67 [(0, (3, 0)), (1, (0, x1)), (2, (0, x2)), (3, (0, x3))] [(0, s0)] V (M_known_67 K33 s0 x1 x2 x3 V) := by
  intro s0 x1 x2 x3 V
  unfold M_known_67
  refine m_istore hX (lv' := [(4, (0, s0)), (0, (3, 0)), (1, (0, x1)), (2, (0, x2)), (3, (0, x3))]) dX4_known_67 (by decide) rfl ?_
  refine m_aload_n hX 1 dX4_known_69 rfl rfl ?_
  refine fg_23 hX dX4_known_70 ?_
  refine m_iload hX 0 dX4_known_73 rfl ?_
  refine m_dup2 hX dX4_known_75 rfl rfl ?_
  refine al_23 hX dX4_known_76 ?_
  refine m_ic hX dX4_known_77 (by decide) (by decide) ?_
  refine m_iadd hX dX4_known_78 ?_
  refine as_23 hX dX4_known_79 fun V1 => ?_
  refine m_aload_n hX 1 dX4_known_80 rfl rfl ?_
  refine fg_24 hX dX4_known_81 ?_
  refine m_iload hX 0 dX4_known_84 rfl ?_
  refine m_dup2 hX dX4_known_86 rfl rfl ?_
  refine al_24 hX dX4_known_87 ?_
  refine m_aload_n hX 1 dX4_known_88 rfl rfl ?_
  refine m_iload_n hX 4 dX4_known_89 rfl rfl ?_
  refine m_ic hX dX4_known_90 (by decide) (by decide) ?_
  refine cl_factOf hX (by omega) (Nat.le_of_ble_eq_true rfl) dX4_known_91 fun r2 V3 => ?_
  refine m_iadd hX dX4_known_94 ?_
  refine as_24 hX dX4_known_95 fun V4 => ?_
  exact m_sub [1, 2, 3, 4] rfl (WM_known_96 hX hdd hK33 x1 x2 x3 V4)
noncomputable def M_known_102 (V : VV) : Option (Int × VV) := mb (M_term 3 V) fun r1 V2 => mb (M_odds r1 V2) fun r3 V4 => some (0, V4)
theorem WM_known_102 {Z : MZ} {d : Nat} (hX : MX Z cX4_known 5 none d 2) (hdd : 128 ≤ d) : ∀ V, MG Z 102 [(0, (3, 0))] [] V (M_known_102 V) := by
  intro V
  unfold M_known_102
  refine m_aload_n hX 0 dX4_known_102 rfl rfl ?_
  refine m_aload_n hX 0 dX4_known_103 rfl rfl ?_
  refine m_ic hX dX4_known_104 (by decide) (by decide) ?_
  refine cl_term hX (by omega) (Nat.le_of_ble_eq_true rfl) dX4_known_105 fun r1 V2 => ?_
  refine cl_odds hX (by omega) (Nat.le_of_ble_eq_true rfl) dX4_known_108 fun r3 V4 => ?_
  exact m_vret hX rfl dX4_known_111
noncomputable def M_known_33 : Nat → Int → Int → Int → VV → Option (Int × VV)
  | 0, _, _, _, _ => none
  | n + 1, x1, x2, x3, V => mb (M_questions V) fun r1 V2 => if r1 ≤ x3 then (M_known_102 V2) else (mb (M_isBowl x3 V2) fun r3 V4 => if r3 = 0 then (M_known_96 (M_known_33 n) x1 x2 x3 V4) else (if x3 = x1 then (M_known_67 (M_known_33 n) x2 x1 x2 x3 V4) else (mb (M_factOf x3 2 V4) fun r5 V6 => M_known_67 (M_known_33 n) r5 x1 x2 x3 V6)))
theorem WM_known_33 {Z : MZ} {d : Nat} (hX : MX Z cX4_known 5 none d 2) (hdd : 128 ≤ d) : ∀ n x1 x2 x3 V, MG Z 33 [(0, (3, 0)), (1, (0, x1)), (2, (0, x2)), (3, (0, x3))] [] V (M_known_33 n x1 x2 x3 V) := by
  intro n
  induction n with
  | zero => intro x1 x2 x3 V; exact m_none
  | succ n ih =>
    intro x1 x2 x3 V
    rw [M_known_33]
    refine m_iload_n hX 3 dX4_known_33 rfl rfl ?_
    refine m_aload_n hX 0 dX4_known_34 rfl rfl ?_
    refine cl_questions hX (by omega) (Nat.le_of_ble_eq_true rfl) dX4_known_35 fun r1 V2 => ?_
    refine m_icmp_ge hX 102 dX4_known_38 (by decide) (fun _ => ?_) (fun _ => ?_)
    · exact m_sub [0] rfl (WM_known_102 hX hdd V2)
    · refine m_aload_n hX 0 dX4_known_41 rfl rfl ?_
      refine m_iload_n hX 3 dX4_known_42 rfl rfl ?_
      refine cl_isBowl hX (by omega) (Nat.le_of_ble_eq_true rfl) dX4_known_43 fun r3 V4 => ?_
      refine m_if_ne hX 52 dX4_known_46 (by decide) (fun _ => ?_) (fun _ => ?_)
      · refine m_iload_n hX 3 dX4_known_52 rfl rfl ?_
        refine m_iload_n hX 1 dX4_known_53 rfl rfl ?_
        refine m_icmp_ne hX 61 dX4_known_54 (by decide) (fun _ => ?_) (fun _ => ?_)
        · refine m_aload_n hX 0 dX4_known_61 rfl rfl ?_
          refine m_iload_n hX 3 dX4_known_62 rfl rfl ?_
          refine m_ic hX dX4_known_63 (by decide) (by decide) ?_
          refine cl_factOf hX (by omega) (Nat.le_of_ble_eq_true rfl) dX4_known_64 fun r5 V6 => ?_
          exact m_sub [0, 1, 2, 3] rfl (WM_known_67 hX hdd ih r5 x1 x2 x3 V6)
        · refine m_iload_n hX 2 dX4_known_57 rfl rfl ?_
          refine m_goto hX 67 dX4_known_58 (by decide) ?_
          exact m_sub [0, 1, 2, 3] rfl (WM_known_67 hX hdd ih x2 x1 x2 x3 V4)
      · refine m_goto hX 96 dX4_known_49 (by decide) ?_
        exact m_sub [0, 1, 2, 3] rfl (WM_known_96 hX hdd ih x1 x2 x3 V4)
noncomputable def M_known_31 (x1 : Int) (x2 : Int) (V : VV) : Option (Int × VV) := M_known_33 FU x1 x2 0 V
theorem WM_known_31 {Z : MZ} {d : Nat} (hX : MX Z cX4_known 5 none d 2) (hdd : 128 ≤ d) : ∀ x1 x2 V, MG Z 31 [(0, (3, 0)), (1, (0, x1)), (2, (0, x2))] [] V (M_known_31 x1 x2 V) := by
  intro x1 x2 V
  unfold M_known_31
  refine m_ic hX dX4_known_31 (by decide) (by decide) ?_
  refine m_istore_n hX (lv' := [(3, (0, 0)), (0, (3, 0)), (1, (0, x1)), (2, (0, x2))]) dX4_known_32 rfl (by decide) rfl ?_
  exact m_sub [1, 2, 3, 0] rfl (WM_known_33 hX hdd FU x1 x2 0 V)
noncomputable def M_known_6 : Nat → Int → Int → Int → VV → Option (Int × VV)
  | 0, _, _, _, _ => none
  | n + 1, x1, x2, x3, V => if 3 ≤ x3 then (M_known_31 x1 x2 V) else (ck x3 3 <| nm (vup V 23 x3 0) fun V1 => ck x3 3 <| nm (vup V1 24 x3 0) fun V2 => nm (w32 (x3 + 1)) fun v3 => M_known_6 n x1 x2 v3 V2)
theorem WM_known_6 {Z : MZ} {d : Nat} (hX : MX Z cX4_known 5 none d 2) (hdd : 128 ≤ d) : ∀ n x1 x2 x3 V, MG Z 6 [(0, (3, 0)), (1, (0, x1)), (2, (0, x2)), (3, (0, x3))] [] V (M_known_6 n x1 x2 x3 V) := by
  intro n
  induction n with
  | zero => intro x1 x2 x3 V; exact m_none
  | succ n ih =>
    intro x1 x2 x3 V
    rw [M_known_6]
    refine m_iload_n hX 3 dX4_known_6 rfl rfl ?_
    refine m_ic hX dX4_known_7 (by decide) (by decide) ?_
    refine m_icmp_ge hX 31 dX4_known_8 (by decide) (fun _ => ?_) (fun _ => ?_)
    · exact m_sub [0, 1, 2] rfl (WM_known_31 hX hdd x1 x2 V)
    · refine m_aload_n hX 0 dX4_known_11 rfl rfl ?_
      refine fg_23 hX dX4_known_12 ?_
      refine m_iload_n hX 3 dX4_known_15 rfl rfl ?_
      refine m_ic hX dX4_known_16 (by decide) (by decide) ?_
      refine as_23 hX dX4_known_17 fun V1 => ?_
      refine m_aload_n hX 0 dX4_known_18 rfl rfl ?_
      refine fg_24 hX dX4_known_19 ?_
      refine m_iload_n hX 3 dX4_known_22 rfl rfl ?_
      refine m_ic hX dX4_known_23 (by decide) (by decide) ?_
      refine as_24 hX dX4_known_24 fun V2 => ?_
      refine m_iinc hX 3 dX4_known_25 rfl (by decide) fun v3 => m_lv (lv' := [(3, (0, v3)), (0, (3, 0)), (1, (0, x1)), (2, (0, x2))]) rfl ?_
      refine m_goto hX 6 dX4_known_28 (by decide) ?_
      exact m_sub [1, 2, 3, 0] rfl (ih x1 x2 v3 V2)
noncomputable def M_known (x1 : Int) (x2 : Int) (V : VV) : Option (Int × VV) := mb (M_laysChances V) fun r1 V2 => M_known_6 FU x1 x2 0 V2
theorem WM_known (l : Launch) {d : Nat} (hdd : 128 ≤ d) (x1 : Int) (x2 : Int) (V : VV) (hV : okV V) (ho : oks [(0, x1), (0, x2)]) (fin : Int × VV) (hf : M_known x1 x2 V = some fin) : mSpec l yX4_known cX4_known 5 none d 2 [(3, 0), (0, x1), (0, x2)] V fin := by
  refine m_enter (lv := [(0, (3, 0)), (1, (0, x1)), (2, (0, x2))]) (by decide) rfl (Nat.le_of_ble_eq_true rfl) rfl (fun Z hZ hX => ?_) hV (ho.c (okA.t 0)) fin hf
  unfold M_known
  refine m_aload_n hX 0 dX4_known_0 rfl rfl ?_
  refine cl_laysChances hX (by omega) (Nat.le_of_ble_eq_true rfl) dX4_known_1 fun r1 V2 => ?_
  refine m_ic hX dX4_known_4 (by decide) (by decide) ?_
  refine m_istore_n hX (lv' := [(3, (0, 0)), (0, (3, 0)), (1, (0, x1)), (2, (0, x2))]) dX4_known_5 rfl (by decide) rfl ?_
  exact m_sub [1, 2, 3, 0] rfl (WM_known_6 hX hdd FU x1 x2 0 V2)
theorem cl_known {Z : MZ} {cc : ByteArray} {nL : Nat} {ret : Option FieldType} {d rk : Nat} {pc : Nat} {lv : List (Nat × AV)} {st : List AV} {V : VV} {g : Int → VV → Option (Int × VV)} (hX : MX Z cc nL ret d rk) {a0 a1 : Int} (hdd : 129 ≤ d) (hcat : (st.map fun v => if v.1 = 1 then 2 else 1).sum ≤ 8) (hdg : decode cc pc = .ok (.invokevirtual 346, 3)) (kk : ∀ r V1, MG Z (pc + 3) lv st V1 (g r V1)) : MG Z pc lv ((0, a1) :: (0, a0) :: (3, 0) :: st) V (mb (M_known a0 a1 V) g) :=
  m_callVv hX [(0, a0), (0, a1)] 2 (fun hV ho fin hf => WM_known (zL Z) (Nat.le_refl 128) a0 a1 V hV ho fin hf) (lw_V q2102 q2104 qs95 q131 q2105) (by decide +kernel) rfl (by omega) (by decide) rfl hcat hdg kk
noncomputable def M_common_6 : Nat → Int → Int → VV → Option (Int × VV)
  | 0, _, _, _ => none
  | n + 1, x4, x6, V => if x6 = 0 then (some (x4, V)) else (cz x6 <| nm (α := Int) (x4.tmod x6) fun v1 => M_common_6 n x6 v1 V)
theorem WM_common_6 {Z : MZ} {d : Nat} (hX : MX Z cX4_common 10 (some .long) d 1) (hdd : 1 ≤ d) : ∀ n x4 x6 V, MG Z 6 [(4, (1, x4)), (6, (1, x6))] [] V (M_common_6 n x4 x6 V) := by
  intro n
  induction n with
  | zero => intro x4 x6 V; exact m_none
  | succ n ih =>
    intro x4 x6 V
    rw [M_common_6]
    refine m_lload hX 1 dX4_common_6 rfl ?_
    refine m_l0 hX dX4_common_8 ?_
    refine m_lcmp_eq hX 31 dX4_common_9 dX4_common_10 (by decide) (fun _ => ?_) (fun _ => ?_)
    · refine m_lload hX 0 dX4_common_31 rfl ?_
      exact m_lret hX rfl dX4_common_33
    · refine m_lload hX 0 dX4_common_13 rfl ?_
      refine m_lload hX 1 dX4_common_15 rfl ?_
      refine m_lrem hX dX4_common_17 ?_
      refine m_nmT fun v1 => ?_
      refine m_lstore hX (lv' := [(8, (1, v1)), (4, (1, x4)), (6, (1, x6))]) dX4_common_18 (by decide) rfl ?_
      refine m_lload hX 2 dX4_common_20 rfl ?_
      refine m_lstore hX (lv' := [(4, (1, x6)), (8, (1, v1)), (6, (1, x6))]) dX4_common_22 (by decide) rfl ?_
      refine m_lload hX 1 dX4_common_24 rfl ?_
      refine m_lstore hX (lv' := [(6, (1, v1)), (4, (1, x6)), (8, (1, v1))]) dX4_common_26 (by decide) rfl ?_
      refine m_goto hX 6 dX4_common_28 (by decide) ?_
      exact m_sub [1, 0] rfl (ih x6 v1 V)
noncomputable def M_common (x0 : Int) (x2 : Int) (V : VV) : Option (Int × VV) := M_common_6 FU x0 x2 V
theorem WM_common (l : Launch) {d : Nat} (hdd : 1 ≤ d) (x0 : Int) (x2 : Int) (V : VV) (hV : okV V) (ho : oks [(1, x0), (1, x2)]) (fin : Int × VV) (hf : M_common x0 x2 V = some fin) : mSpec l yX4_common cX4_common 10 (some .long) d 1 [(1, x0), (1, x2)] V fin := by
  refine m_enter (lv := [(0, (1, x0)), (2, (1, x2))]) (by decide) rfl (Nat.le_of_ble_eq_true rfl) rfl (fun Z hZ hX => ?_) hV ho fin hf
  unfold M_common
  refine m_lload_n hX 0 dX4_common_0 rfl rfl ?_
  refine m_lstore hX (lv' := [(4, (1, x0)), (0, (1, x0)), (2, (1, x2))]) dX4_common_1 (by decide) rfl ?_
  refine m_lload_n hX 2 dX4_common_3 rfl rfl ?_
  refine m_lstore hX (lv' := [(6, (1, x2)), (4, (1, x0)), (0, (1, x0)), (2, (1, x2))]) dX4_common_4 (by decide) rfl ?_
  exact m_sub [1, 0] rfl (WM_common_6 hX hdd FU x0 x2 V)
theorem cl_common {Z : MZ} {cc : ByteArray} {nL : Nat} {ret : Option FieldType} {d rk : Nat} {pc : Nat} {lv : List (Nat × AV)} {st : List AV} {V : VV} {g : Int → VV → Option (Int × VV)} (hX : MX Z cc nL ret d rk) {a0 a1 : Int} (hdd : 2 ≤ d) (hcat : (st.map fun v => if v.1 = 1 then 2 else 1).sum ≤ 8) (hdg : decode cc pc = .ok (.invokestatic 340, 3)) (kk : ∀ r V1, MG Z (pc + 3) lv ((1, r) :: st) V1 (g r V1)) : MG Z pc lv ((1, a1) :: (1, a0) :: st) V (mb (M_common a0 a1 V) g) :=
  m_callSl hX [(1, a0), (1, a1)] 2 (fun hV ho fin hf => WM_common (zL Z) (Nat.le_refl 1) a0 a1 V hV ho fin hf) (lw_S q2141 q2142 q131 q2143) (by decide +kernel) rfl (by omega) (by decide) rfl hcat hdg kk
noncomputable def M_reduced (x0 : Int) (x2 : Int) (x4 : Int) (V : VV) : Option (Int × VV) := mb (M_common x0 x2 V) fun r1 V2 => if x4 = 0 then (cz r1 <| some (w64 (x0.tdiv r1), V2)) else (cz r1 <| some (w64 (x2.tdiv r1), V2))
theorem WM_reduced (l : Launch) {d : Nat} (hdd : 2 ≤ d) (x0 : Int) (x2 : Int) (x4 : Int) (V : VV) (hV : okV V) (ho : oks [(1, x0), (1, x2), (0, x4)]) (fin : Int × VV) (hf : M_reduced x0 x2 x4 V = some fin) : mSpec l yX4_reduced cX4_reduced 7 (some .long) d 1 [(1, x0), (1, x2), (0, x4)] V fin := by
  refine m_enter (lv := [(0, (1, x0)), (2, (1, x2)), (4, (0, x4))]) (by decide) rfl (Nat.le_of_ble_eq_true rfl) rfl (fun Z hZ hX => ?_) hV ho fin hf
  unfold M_reduced
  refine m_lload_n hX 0 dX4_reduced_0 rfl rfl ?_
  refine m_lload_n hX 1 dX4_reduced_1 rfl rfl ?_
  refine cl_common hX (by omega) (Nat.le_of_ble_eq_true rfl) dX4_reduced_2 fun r1 V2 => ?_
  refine m_lstore hX (lv' := [(5, (1, r1)), (0, (1, x0)), (2, (1, x2)), (4, (0, x4))]) dX4_reduced_5 (by decide) rfl ?_
  refine m_iload hX 3 dX4_reduced_7 rfl ?_
  refine m_if_ne hX 19 dX4_reduced_9 (by decide) (fun _ => ?_) (fun _ => ?_)
  · refine m_lload_n hX 2 dX4_reduced_19 rfl rfl ?_
    refine m_lload hX 0 dX4_reduced_20 rfl ?_
    refine m_ldiv hX dX4_reduced_22 ?_
    exact m_lret hX rfl dX4_reduced_23
  · refine m_lload_n hX 1 dX4_reduced_12 rfl rfl ?_
    refine m_lload hX 0 dX4_reduced_13 rfl ?_
    refine m_ldiv hX dX4_reduced_15 ?_
    refine m_goto hX 23 dX4_reduced_16 (by decide) ?_
    exact m_lret hX rfl dX4_reduced_23
theorem cl_reduced {Z : MZ} {cc : ByteArray} {nL : Nat} {ret : Option FieldType} {d rk : Nat} {pc : Nat} {lv : List (Nat × AV)} {st : List AV} {V : VV} {g : Int → VV → Option (Int × VV)} (hX : MX Z cc nL ret d rk) {a0 a1 a2 : Int} (hdd : 3 ≤ d) (hcat : (st.map fun v => if v.1 = 1 then 2 else 1).sum ≤ 8) (hdg : decode cc pc = .ok (.invokestatic 354, 3)) (kk : ∀ r V1, MG Z (pc + 3) lv ((1, r) :: st) V1 (g r V1)) : MG Z pc lv ((0, a2) :: (1, a1) :: (1, a0) :: st) V (mb (M_reduced a0 a1 a2 V) g) :=
  m_callSl hX [(1, a0), (1, a1), (0, a2)] 3 (fun hV ho fin hf => WM_reduced (zL Z) (Nat.le_refl 2) a0 a1 a2 V hV ho fin hf) (lw_S q2138 q2139 q131 q2140) (by decide +kernel) rfl (by omega) (by decide) rfl hcat hdg kk
noncomputable def M_passes_8 : Nat → Int → Int → VV → Option (Int × VV)
  | 0, _, _, _ => none
  | n + 1, x1, x3, V => if 4 ≤ x3 then (some (x1, V)) else (ck x3 4 <| nm (α := Int) (w64 (x1 + (V 27 x3))) fun v1 => nm (w32 (x3 + 1)) fun v2 => M_passes_8 n v1 v2 V)
theorem WM_passes_8 {Z : MZ} {d : Nat} (hX : MX Z cX4_passes 4 (some .long) d 1) (hdd : 2 ≤ d) : ∀ n x1 x3 V, MG Z 8 [(0, (3, 0)), (1, (1, x1)), (3, (0, x3))] [] V (M_passes_8 n x1 x3 V) := by
  intro n
  induction n with
  | zero => intro x1 x3 V; exact m_none
  | succ n ih =>
    intro x1 x3 V
    rw [M_passes_8]
    refine m_iload_n hX 2 dX4_passes_8 rfl rfl ?_
    refine m_ic hX dX4_passes_9 (by decide) (by decide) ?_
    refine m_icmp_ge hX 28 dX4_passes_10 (by decide) (fun _ => ?_) (fun _ => ?_)
    · refine m_lload_n hX 1 dX4_passes_28 rfl rfl ?_
      exact m_lret hX rfl dX4_passes_29
    · refine m_lload_n hX 1 dX4_passes_13 rfl rfl ?_
      refine m_aload_n hX 0 dX4_passes_14 rfl rfl ?_
      refine fg_27 hX dX4_passes_15 ?_
      refine m_iload_n hX 2 dX4_passes_18 rfl rfl ?_
      refine al_27 hX dX4_passes_19 ?_
      refine m_ladd hX dX4_passes_20 ?_
      refine m_nmT fun v1 => ?_
      refine m_lstore_n hX (lv' := [(1, (1, v1)), (0, (3, 0)), (3, (0, x3))]) dX4_passes_21 rfl (by decide) rfl ?_
      refine m_iinc hX 2 dX4_passes_22 rfl (by decide) fun v2 => m_lv (lv' := [(3, (0, v2)), (1, (1, v1)), (0, (3, 0))]) rfl ?_
      refine m_goto hX 8 dX4_passes_25 (by decide) ?_
      exact m_sub [2, 1, 0] rfl (ih v1 v2 V)
noncomputable def M_passes (V : VV) : Option (Int × VV) := mb (M_term 2 V) fun r1 V2 => M_passes_8 FU 0 r1 V2
theorem WM_passes (l : Launch) {d : Nat} (hdd : 2 ≤ d) (V : VV) (hV : okV V) (ho : oks []) (fin : Int × VV) (hf : M_passes V = some fin) : mSpec l yX4_passes cX4_passes 4 (some .long) d 1 [(3, 0)] V fin := by
  refine m_enter (lv := [(0, (3, 0))]) (by decide) rfl (Nat.le_of_ble_eq_true rfl) rfl (fun Z hZ hX => ?_) hV (ho.c (okA.t 0)) fin hf
  unfold M_passes
  refine m_l0 hX dX4_passes_0 ?_
  refine m_lstore_n hX (lv' := [(1, (1, 0)), (0, (3, 0))]) dX4_passes_1 rfl (by decide) rfl ?_
  refine m_aload_n hX 1 dX4_passes_2 rfl rfl ?_
  refine m_ic hX dX4_passes_3 (by decide) (by decide) ?_
  refine cl_term hX (by omega) (Nat.le_of_ble_eq_true rfl) dX4_passes_4 fun r1 V2 => ?_
  refine m_istore_n hX (lv' := [(3, (0, r1)), (1, (1, 0)), (0, (3, 0))]) dX4_passes_7 rfl (by decide) rfl ?_
  exact m_sub [2, 1, 0] rfl (WM_passes_8 hX hdd FU 0 r1 V2)
theorem cl_passes {Z : MZ} {cc : ByteArray} {nL : Nat} {ret : Option FieldType} {d rk : Nat} {pc : Nat} {lv : List (Nat × AV)} {st : List AV} {V : VV} {g : Int → VV → Option (Int × VV)} (hX : MX Z cc nL ret d rk) (hdd : 3 ≤ d) (hcat : (st.map fun v => if v.1 = 1 then 2 else 1).sum ≤ 8) (hdg : decode cc pc = .ok (.invokevirtual 350, 3)) (kk : ∀ r V1, MG Z (pc + 3) lv ((1, r) :: st) V1 (g r V1)) : MG Z pc lv ((3, 0) :: st) V (mb (M_passes V) g) :=
  m_callVl hX [] 0 (fun hV ho fin hf => WM_passes (zL Z) (Nat.le_refl 2) V hV ho fin hf) (lw_V q2134 q2136 qs102 q131 q2137) (by decide +kernel) rfl (by omega) (by decide) rfl hcat hdg kk
noncomputable def M_pass (x1 : Int) (V : VV) : Option (Int × VV) := mb (M_lies x1 0 1 V) fun r1 V2 => if r1 = 0 then (some ((-1), V2)) else (mb (M_known (-1) 0 V2) fun r3 V4 => mb (M_passes V4) fun r5 V6 => mb (M_reduced r5 (V6 30 0) x1 V6) fun r7 V8 => some (r7, V8))
theorem WM_pass (l : Launch) {d : Nat} (hdd : 129 ≤ d) (x1 : Int) (V : VV) (hV : okV V) (ho : oks [(0, x1)]) (fin : Int × VV) (hf : M_pass x1 V = some fin) : mSpec l yX4_pass cX4_pass 2 (some .long) d 1 [(3, 0), (0, x1)] V fin := by
  refine m_enter (lv := [(0, (3, 0)), (1, (0, x1))]) (by decide) rfl (Nat.le_of_ble_eq_true rfl) rfl (fun Z hZ hX => ?_) hV (ho.c (okA.t 0)) fin hf
  unfold M_pass
  refine m_iload_n hX 1 dX4_pass_0 rfl rfl ?_
  refine m_ic hX dX4_pass_1 (by decide) (by decide) ?_
  refine m_ic hX dX4_pass_2 (by decide) (by decide) ?_
  refine cl_lies hX (by omega) (Nat.le_of_ble_eq_true rfl) dX4_pass_3 fun r1 V2 => ?_
  refine m_if_ne hX 13 dX4_pass_6 (by decide) (fun _ => ?_) (fun _ => ?_)
  · refine m_aload_n hX 0 dX4_pass_13 rfl rfl ?_
    refine m_ic hX dX4_pass_14 (by decide) (by decide) ?_
    refine m_ic hX dX4_pass_15 (by decide) (by decide) ?_
    refine cl_known hX (by omega) (Nat.le_of_ble_eq_true rfl) dX4_pass_16 fun r3 V4 => ?_
    refine m_aload_n hX 0 dX4_pass_19 rfl rfl ?_
    refine cl_passes hX (by omega) (Nat.le_of_ble_eq_true rfl) dX4_pass_20 fun r5 V6 => ?_
    refine m_aload_n hX 0 dX4_pass_23 rfl rfl ?_
    refine fg_30 hX dX4_pass_24 ?_
    refine m_iload_n hX 1 dX4_pass_27 rfl rfl ?_
    refine cl_reduced hX (by omega) (Nat.le_of_ble_eq_true rfl) dX4_pass_28 fun r7 V8 => ?_
    exact m_lret hX rfl dX4_pass_31
  · refine m_ldc2 hX (n := -1) q2101 dX4_pass_9 (by decide +kernel) ⟨by decide, by decide⟩ ?_
    exact m_lret hX rfl dX4_pass_12
-- pass: not called inside
noncomputable def M_right_18 (V : VV) : Option (Int × VV) := some ((-1), V)
theorem WM_right_18 {Z : MZ} {d : Nat} (hX : MX Z cX4_right 3 (some .long) d 1) (hdd : 129 ≤ d) : ∀ V, MG Z 18 [] [] V (M_right_18 V) := by
  intro V
  unfold M_right_18
  refine m_ldc2 hX (n := -1) q2101 dX4_right_18 (by decide +kernel) ⟨by decide, by decide⟩ ?_
  exact m_lret hX rfl dX4_right_21
noncomputable def M_right (x1 : Int) (x2 : Int) (V : VV) : Option (Int × VV) := mb (M_lies x1 0 3 V) fun r1 V2 => if r1 = 0 then (M_right_18 V2) else (mb (M_lies x2 0 1 V2) fun r3 V4 => if r3 = 0 then (M_right_18 V4) else (mb (M_known (-1) 0 V4) fun r5 V6 => ck x1 4 <| mb (M_reduced (V6 27 x1) (V6 30 0) x2 V6) fun r7 V8 => some (r7, V8)))
theorem WM_right (l : Launch) {d : Nat} (hdd : 129 ≤ d) (x1 : Int) (x2 : Int) (V : VV) (hV : okV V) (ho : oks [(0, x1), (0, x2)]) (fin : Int × VV) (hf : M_right x1 x2 V = some fin) : mSpec l yX4_right cX4_right 3 (some .long) d 1 [(3, 0), (0, x1), (0, x2)] V fin := by
  refine m_enter (lv := [(0, (3, 0)), (1, (0, x1)), (2, (0, x2))]) (by decide) rfl (Nat.le_of_ble_eq_true rfl) rfl (fun Z hZ hX => ?_) hV (ho.c (okA.t 0)) fin hf
  unfold M_right
  refine m_iload_n hX 1 dX4_right_0 rfl rfl ?_
  refine m_ic hX dX4_right_1 (by decide) (by decide) ?_
  refine m_ic hX dX4_right_2 (by decide) (by decide) ?_
  refine cl_lies hX (by omega) (Nat.le_of_ble_eq_true rfl) dX4_right_3 fun r1 V2 => ?_
  refine m_if_eq hX 18 dX4_right_6 (by decide) (fun _ => ?_) (fun _ => ?_)
  · exact m_sub [] rfl (WM_right_18 hX hdd V2)
  · refine m_iload_n hX 2 dX4_right_9 rfl rfl ?_
    refine m_ic hX dX4_right_10 (by decide) (by decide) ?_
    refine m_ic hX dX4_right_11 (by decide) (by decide) ?_
    refine cl_lies hX (by omega) (Nat.le_of_ble_eq_true rfl) dX4_right_12 fun r3 V4 => ?_
    refine m_if_ne hX 22 dX4_right_15 (by decide) (fun _ => ?_) (fun _ => ?_)
    · refine m_aload_n hX 0 dX4_right_22 rfl rfl ?_
      refine m_ic hX dX4_right_23 (by decide) (by decide) ?_
      refine m_ic hX dX4_right_24 (by decide) (by decide) ?_
      refine cl_known hX (by omega) (Nat.le_of_ble_eq_true rfl) dX4_right_25 fun r5 V6 => ?_
      refine m_aload_n hX 0 dX4_right_28 rfl rfl ?_
      refine fg_27 hX dX4_right_29 ?_
      refine m_iload_n hX 1 dX4_right_32 rfl rfl ?_
      refine al_27 hX dX4_right_33 ?_
      refine m_aload_n hX 0 dX4_right_34 rfl rfl ?_
      refine fg_30 hX dX4_right_35 ?_
      refine m_iload_n hX 2 dX4_right_38 rfl rfl ?_
      refine cl_reduced hX (by omega) (Nat.le_of_ble_eq_true rfl) dX4_right_39 fun r7 V8 => ?_
      exact m_lret hX rfl dX4_right_42
    · exact m_sub [] rfl (WM_right_18 hX hdd V4)
-- right: not called inside
noncomputable def M_mean (x1 : Int) (V : VV) : Option (Int × VV) := mb (M_lies x1 0 1 V) fun r1 V2 => if r1 = 0 then (some ((-1), V2)) else (mb (M_known (-1) 0 V2) fun r3 V4 => mb (M_reduced (w64 ((w64 ((V4 27 1) + (w64 (2 * (V4 27 2))))) + (w64 (3 * (V4 27 3))))) (V4 30 0) x1 V4) fun r5 V6 => some (r5, V6))
theorem WM_mean (l : Launch) {d : Nat} (hdd : 129 ≤ d) (x1 : Int) (V : VV) (hV : okV V) (ho : oks [(0, x1)]) (fin : Int × VV) (hf : M_mean x1 V = some fin) : mSpec l yX4_mean cX4_mean 2 (some .long) d 1 [(3, 0), (0, x1)] V fin := by
  refine m_enter (lv := [(0, (3, 0)), (1, (0, x1))]) (by decide) rfl (Nat.le_of_ble_eq_true rfl) rfl (fun Z hZ hX => ?_) hV (ho.c (okA.t 0)) fin hf
  unfold M_mean
  refine m_iload_n hX 1 dX4_mean_0 rfl rfl ?_
  refine m_ic hX dX4_mean_1 (by decide) (by decide) ?_
  refine m_ic hX dX4_mean_2 (by decide) (by decide) ?_
  refine cl_lies hX (by omega) (Nat.le_of_ble_eq_true rfl) dX4_mean_3 fun r1 V2 => ?_
  refine m_if_ne hX 13 dX4_mean_6 (by decide) (fun _ => ?_) (fun _ => ?_)
  · refine m_aload_n hX 0 dX4_mean_13 rfl rfl ?_
    refine m_ic hX dX4_mean_14 (by decide) (by decide) ?_
    refine m_ic hX dX4_mean_15 (by decide) (by decide) ?_
    refine cl_known hX (by omega) (Nat.le_of_ble_eq_true rfl) dX4_mean_16 fun r3 V4 => ?_
    refine m_aload_n hX 0 dX4_mean_19 rfl rfl ?_
    refine fg_27 hX dX4_mean_20 ?_
    refine m_ic hX dX4_mean_23 (by decide) (by decide) ?_
    refine m_in (by decide) (by decide) (al_27 hX dX4_mean_24 ?_)
    refine m_ldc2 hX (n := 2) q2152 dX4_mean_25 (by decide +kernel) ⟨by decide, by decide⟩ ?_
    refine m_aload_n hX 0 dX4_mean_28 rfl rfl ?_
    refine fg_27 hX dX4_mean_29 ?_
    refine m_ic hX dX4_mean_32 (by decide) (by decide) ?_
    refine m_in (by decide) (by decide) (al_27 hX dX4_mean_33 ?_)
    refine m_lmul hX dX4_mean_34 ?_
    refine m_ladd hX dX4_mean_35 ?_
    refine m_ldc2 hX (n := 3) q2153 dX4_mean_36 (by decide +kernel) ⟨by decide, by decide⟩ ?_
    refine m_aload_n hX 0 dX4_mean_39 rfl rfl ?_
    refine fg_27 hX dX4_mean_40 ?_
    refine m_ic hX dX4_mean_43 (by decide) (by decide) ?_
    refine m_in (by decide) (by decide) (al_27 hX dX4_mean_44 ?_)
    refine m_lmul hX dX4_mean_45 ?_
    refine m_ladd hX dX4_mean_46 ?_
    refine m_aload_n hX 0 dX4_mean_47 rfl rfl ?_
    refine fg_30 hX dX4_mean_48 ?_
    refine m_iload_n hX 1 dX4_mean_51 rfl rfl ?_
    refine cl_reduced hX (by omega) (Nat.le_of_ble_eq_true rfl) dX4_mean_52 fun r5 V6 => ?_
    exact m_lret hX rfl dX4_mean_55
  · refine m_ldc2 hX (n := -1) q2101 dX4_mean_9 (by decide +kernel) ⟨by decide, by decide⟩ ?_
    exact m_lret hX rfl dX4_mean_12
-- mean: not called inside
noncomputable def M_passesWith_48 (V : VV) : Option (Int × VV) := mb (M_odds 0 V) fun r1 V2 => mb (M_passes V2) fun r3 V4 => some (r3, V4)
theorem WM_passesWith_48 {Z : MZ} {d : Nat} (hX : MX Z cX4_passesWith 4 (some .long) d 1) (hdd : 4 ≤ d) : ∀ V, MG Z 48 [(0, (3, 0))] [] V (M_passesWith_48 V) := by
  intro V
  unfold M_passesWith_48
  refine m_aload_n hX 0 dX4_passesWith_48 rfl rfl ?_
  refine m_ic hX dX4_passesWith_49 (by decide) (by decide) ?_
  refine cl_odds hX (by omega) (Nat.le_of_ble_eq_true rfl) dX4_passesWith_50 fun r1 V2 => ?_
  refine m_aload_n hX 0 dX4_passesWith_53 rfl rfl ?_
  refine cl_passes hX (by omega) (Nat.le_of_ble_eq_true rfl) dX4_passesWith_54 fun r3 V4 => ?_
  exact m_lret hX rfl dX4_passesWith_57
noncomputable def M_passesWith_30 : Nat → Int → VV → Option (Int × VV)
  | 0, _, _ => none
  | n + 1, x3, V => if 3 ≤ x3 then (M_passesWith_48 V) else (ck x3 3 <| nm (vup V 24 x3 0) fun V1 => nm (w32 (x3 + 1)) fun v2 => M_passesWith_30 n v2 V1)
theorem WM_passesWith_30 {Z : MZ} {d : Nat} (hX : MX Z cX4_passesWith 4 (some .long) d 1) (hdd : 4 ≤ d) : ∀ n x3 V, MG Z 30 [(0, (3, 0)), (3, (0, x3))] [] V (M_passesWith_30 n x3 V) := by
  intro n
  induction n with
  | zero => intro x3 V; exact m_none
  | succ n ih =>
    intro x3 V
    rw [M_passesWith_30]
    refine m_iload_n hX 1 dX4_passesWith_30 rfl rfl ?_
    refine m_ic hX dX4_passesWith_31 (by decide) (by decide) ?_
    refine m_icmp_ge hX 48 dX4_passesWith_32 (by decide) (fun _ => ?_) (fun _ => ?_)
    · exact m_sub [0] rfl (WM_passesWith_48 hX hdd V)
    · refine m_aload_n hX 0 dX4_passesWith_35 rfl rfl ?_
      refine fg_24 hX dX4_passesWith_36 ?_
      refine m_iload_n hX 1 dX4_passesWith_39 rfl rfl ?_
      refine m_ic hX dX4_passesWith_40 (by decide) (by decide) ?_
      refine as_24 hX dX4_passesWith_41 fun V1 => ?_
      refine m_iinc hX 1 dX4_passesWith_42 rfl (by decide) fun v2 => m_lv (lv' := [(3, (0, v2)), (0, (3, 0))]) rfl ?_
      refine m_goto hX 30 dX4_passesWith_45 (by decide) ?_
      exact m_sub [1, 0] rfl (ih v2 V1)
noncomputable def M_passesWith (x1 : Int) (x2 : Int) (V : VV) : Option (Int × VV) := mb (M_bowl V) fun r1 V2 => nm (vup V2 23 0 (w32 ((w32 (r1 - x1)) - x2))) fun V3 => nm (vup V3 23 1 x1) fun V4 => nm (vup V4 23 2 x2) fun V5 => M_passesWith_30 FU 0 V5
theorem WM_passesWith (l : Launch) {d : Nat} (hdd : 4 ≤ d) (x1 : Int) (x2 : Int) (V : VV) (hV : okV V) (ho : oks [(0, x1), (0, x2)]) (fin : Int × VV) (hf : M_passesWith x1 x2 V = some fin) : mSpec l yX4_passesWith cX4_passesWith 4 (some .long) d 1 [(3, 0), (0, x1), (0, x2)] V fin := by
  refine m_enter (lv := [(0, (3, 0)), (1, (0, x1)), (2, (0, x2))]) (by decide) rfl (Nat.le_of_ble_eq_true rfl) rfl (fun Z hZ hX => ?_) hV (ho.c (okA.t 0)) fin hf
  unfold M_passesWith
  refine m_aload_n hX 0 dX4_passesWith_0 rfl rfl ?_
  refine fg_23 hX dX4_passesWith_1 ?_
  refine m_ic hX dX4_passesWith_4 (by decide) (by decide) ?_
  refine m_aload_n hX 0 dX4_passesWith_5 rfl rfl ?_
  refine cl_bowl hX (by omega) (Nat.le_of_ble_eq_true rfl) dX4_passesWith_6 fun r1 V2 => ?_
  refine m_iload_n hX 1 dX4_passesWith_9 rfl rfl ?_
  refine m_isub hX dX4_passesWith_10 ?_
  refine m_iload_n hX 2 dX4_passesWith_11 rfl rfl ?_
  refine m_isub hX dX4_passesWith_12 ?_
  refine m_in (by decide) (by decide) (as_23 hX dX4_passesWith_13 fun V3 => ?_)
  refine m_aload_n hX 0 dX4_passesWith_14 rfl rfl ?_
  refine fg_23 hX dX4_passesWith_15 ?_
  refine m_ic hX dX4_passesWith_18 (by decide) (by decide) ?_
  refine m_iload_n hX 1 dX4_passesWith_19 rfl rfl ?_
  refine m_in (by decide) (by decide) (as_23 hX dX4_passesWith_20 fun V4 => ?_)
  refine m_aload_n hX 0 dX4_passesWith_21 rfl rfl ?_
  refine fg_23 hX dX4_passesWith_22 ?_
  refine m_ic hX dX4_passesWith_25 (by decide) (by decide) ?_
  refine m_iload_n hX 2 dX4_passesWith_26 rfl rfl ?_
  refine m_in (by decide) (by decide) (as_23 hX dX4_passesWith_27 fun V5 => ?_)
  refine m_ic hX dX4_passesWith_28 (by decide) (by decide) ?_
  refine m_istore_n hX (lv' := [(3, (0, 0)), (0, (3, 0)), (1, (0, x1)), (2, (0, x2))]) dX4_passesWith_29 rfl (by decide) rfl ?_
  exact m_sub [1, 0] rfl (WM_passesWith_30 hX hdd FU 0 V5)
theorem cl_passesWith {Z : MZ} {cc : ByteArray} {nL : Nat} {ret : Option FieldType} {d rk : Nat} {pc : Nat} {lv : List (Nat × AV)} {st : List AV} {V : VV} {g : Int → VV → Option (Int × VV)} (hX : MX Z cc nL ret d rk) {a0 a1 : Int} (hdd : 5 ≤ d) (hcat : (st.map fun v => if v.1 = 1 then 2 else 1).sum ≤ 8) (hdg : decode cc pc = .ok (.invokevirtual 365, 3)) (kk : ∀ r V1, MG Z (pc + 3) lv ((1, r) :: st) V1 (g r V1)) : MG Z pc lv ((0, a1) :: (0, a0) :: (3, 0) :: st) V (mb (M_passesWith a0 a1 V) g) :=
  m_callVl hX [(0, a0), (0, a1)] 2 (fun hV ho fin hf => WM_passesWith (zL Z) (Nat.le_refl 4) a0 a1 V hV ho fin hf) (lw_V q2162 q2164 qs104 q131 q2165) (by decide +kernel) rfl (by omega) (by decide) rfl hcat hdg kk
noncomputable def M_sure_21 (V : VV) : Option (Int × VV) := some ((-1), V)
theorem WM_sure_21 {Z : MZ} {d : Nat} (hX : MX Z cX4_sure 5 (some .long) d 1) (hdd : 128 ≤ d) : ∀ V, MG Z 21 [] [] V (M_sure_21 V) := by
  intro V
  unfold M_sure_21
  refine m_ldc2 hX (n := -1) q2101 dX4_sure_21 (by decide +kernel) ⟨by decide, by decide⟩ ?_
  exact m_lret hX rfl dX4_sure_24
noncomputable def M_sure (x1 : Int) (x2 : Int) (V : VV) : Option (Int × VV) := mb (M_bowl V) fun r1 V2 => mb (M_lies x1 0 r1 V2) fun r3 V4 => if r3 = 0 then (M_sure_21 V4) else (mb (M_lies x2 0 1 V4) fun r5 V6 => if r5 = 0 then (M_sure_21 V6) else (mb (M_laysChances V6) fun r7 V8 => mb (M_passesWith 0 x1 V8) fun r9 V10 => mb (M_reduced r9 (V10 30 0) x2 V10) fun r11 V12 => some (r11, V12)))
theorem WM_sure (l : Launch) {d : Nat} (hdd : 128 ≤ d) (x1 : Int) (x2 : Int) (V : VV) (hV : okV V) (ho : oks [(0, x1), (0, x2)]) (fin : Int × VV) (hf : M_sure x1 x2 V = some fin) : mSpec l yX4_sure cX4_sure 5 (some .long) d 1 [(3, 0), (0, x1), (0, x2)] V fin := by
  refine m_enter (lv := [(0, (3, 0)), (1, (0, x1)), (2, (0, x2))]) (by decide) rfl (Nat.le_of_ble_eq_true rfl) rfl (fun Z hZ hX => ?_) hV (ho.c (okA.t 0)) fin hf
  unfold M_sure
  refine m_iload_n hX 1 dX4_sure_0 rfl rfl ?_
  refine m_ic hX dX4_sure_1 (by decide) (by decide) ?_
  refine m_aload_n hX 0 dX4_sure_2 rfl rfl ?_
  refine cl_bowl hX (by omega) (Nat.le_of_ble_eq_true rfl) dX4_sure_3 fun r1 V2 => ?_
  refine cl_lies hX (by omega) (Nat.le_of_ble_eq_true rfl) dX4_sure_6 fun r3 V4 => ?_
  refine m_if_eq hX 21 dX4_sure_9 (by decide) (fun _ => ?_) (fun _ => ?_)
  · exact m_sub [] rfl (WM_sure_21 hX hdd V4)
  · refine m_iload_n hX 2 dX4_sure_12 rfl rfl ?_
    refine m_ic hX dX4_sure_13 (by decide) (by decide) ?_
    refine m_ic hX dX4_sure_14 (by decide) (by decide) ?_
    refine cl_lies hX (by omega) (Nat.le_of_ble_eq_true rfl) dX4_sure_15 fun r5 V6 => ?_
    refine m_if_ne hX 25 dX4_sure_18 (by decide) (fun _ => ?_) (fun _ => ?_)
    · refine m_aload_n hX 0 dX4_sure_25 rfl rfl ?_
      refine cl_laysChances hX (by omega) (Nat.le_of_ble_eq_true rfl) dX4_sure_26 fun r7 V8 => ?_
      refine m_aload_n hX 0 dX4_sure_29 rfl rfl ?_
      refine m_ic hX dX4_sure_30 (by decide) (by decide) ?_
      refine m_iload_n hX 1 dX4_sure_31 rfl rfl ?_
      refine cl_passesWith hX (by omega) (Nat.le_of_ble_eq_true rfl) dX4_sure_32 fun r9 V10 => ?_
      refine m_lstore_n hX (lv' := [(3, (1, r9)), (0, (3, 0)), (1, (0, x1)), (2, (0, x2))]) dX4_sure_35 rfl (by decide) rfl ?_
      refine m_lload_n hX 0 dX4_sure_36 rfl rfl ?_
      refine m_aload_n hX 1 dX4_sure_37 rfl rfl ?_
      refine fg_30 hX dX4_sure_38 ?_
      refine m_iload_n hX 3 dX4_sure_41 rfl rfl ?_
      refine cl_reduced hX (by omega) (Nat.le_of_ble_eq_true rfl) dX4_sure_42 fun r11 V12 => ?_
      exact m_lret hX rfl dX4_sure_45
    · exact m_sub [] rfl (WM_sure_21 hX hdd V6)
-- sure: not called inside
noncomputable def M_safe_6 : Nat → Int → VV → Option (Int × VV)
  | 0, _, _ => none
  | n + 1, x1, V => mb (M_bowl V) fun r1 V2 => if r1 < x1 then (some ((-1), V2)) else (mb (M_passesWith 0 x1 V2) fun r3 V4 => if r3 = V4 30 0 then (some (x1, V4)) else (nm (w32 (x1 + 1)) fun v5 => M_safe_6 n v5 V4))
theorem WM_safe_6 {Z : MZ} {d : Nat} (hX : MX Z cX4_safe 2 (some .int) d 0) (hdd : 128 ≤ d) : ∀ n x1 V, MG Z 6 [(0, (3, 0)), (1, (0, x1))] [] V (M_safe_6 n x1 V) := by
  intro n
  induction n with
  | zero => intro x1 V; exact m_none
  | succ n ih =>
    intro x1 V
    rw [M_safe_6]
    refine m_iload_n hX 1 dX4_safe_6 rfl rfl ?_
    refine m_aload_n hX 0 dX4_safe_7 rfl rfl ?_
    refine cl_bowl hX (by omega) (Nat.le_of_ble_eq_true rfl) dX4_safe_8 fun r1 V2 => ?_
    refine m_icmp_gt hX 36 dX4_safe_11 (by decide) (fun _ => ?_) (fun _ => ?_)
    · refine m_ic hX dX4_safe_36 (by decide) (by decide) ?_
      exact m_iret hX rfl dX4_safe_37
    · refine m_aload_n hX 0 dX4_safe_14 rfl rfl ?_
      refine m_ic hX dX4_safe_15 (by decide) (by decide) ?_
      refine m_iload_n hX 1 dX4_safe_16 rfl rfl ?_
      refine cl_passesWith hX (by omega) (Nat.le_of_ble_eq_true rfl) dX4_safe_17 fun r3 V4 => ?_
      refine m_aload_n hX 0 dX4_safe_20 rfl rfl ?_
      refine fg_30 hX dX4_safe_21 ?_
      refine m_lcmp_ne hX 30 dX4_safe_24 dX4_safe_25 (by decide) (fun _ => ?_) (fun _ => ?_)
      · refine m_iinc hX 1 dX4_safe_30 rfl (by decide) fun v5 => m_lv (lv' := [(1, (0, v5)), (0, (3, 0))]) rfl ?_
        refine m_goto hX 6 dX4_safe_33 (by decide) ?_
        exact m_sub [1, 0] rfl (ih v5 V4)
      · refine m_iload_n hX 1 dX4_safe_28 rfl rfl ?_
        exact m_iret hX rfl dX4_safe_29
noncomputable def M_safe (V : VV) : Option (Int × VV) := mb (M_laysChances V) fun r1 V2 => M_safe_6 FU 0 V2
theorem WM_safe (l : Launch) {d : Nat} (hdd : 128 ≤ d) (V : VV) (hV : okV V) (ho : oks []) (fin : Int × VV) (hf : M_safe V = some fin) : mSpec l yX4_safe cX4_safe 2 (some .int) d 0 [(3, 0)] V fin := by
  refine m_enter (lv := [(0, (3, 0))]) (by decide) rfl (Nat.le_of_ble_eq_true rfl) rfl (fun Z hZ hX => ?_) hV (ho.c (okA.t 0)) fin hf
  unfold M_safe
  refine m_aload_n hX 0 dX4_safe_0 rfl rfl ?_
  refine cl_laysChances hX (by omega) (Nat.le_of_ble_eq_true rfl) dX4_safe_1 fun r1 V2 => ?_
  refine m_ic hX dX4_safe_4 (by decide) (by decide) ?_
  refine m_istore_n hX (lv' := [(1, (0, 0)), (0, (3, 0))]) dX4_safe_5 rfl (by decide) rfl ?_
  exact m_sub [1, 0] rfl (WM_safe_6 hX hdd FU 0 V2)
-- safe: not called inside
noncomputable def M_millionths_53 (x4 : Int) (V : VV) : Option (Int × VV) := some (w32 x4, V)
theorem WM_millionths_53 {Z : MZ} {d : Nat} (hX : MX Z cX4_millionths 9 (some .int) d 0) (hdd : 1 ≤ d) : ∀ x4 V, MG Z 53 [(4, (1, x4))] [] V (M_millionths_53 x4 V) := by
  intro x4 V
  unfold M_millionths_53
  refine m_lload hX 0 dX4_millionths_53 rfl ?_
  refine m_l2i hX dX4_millionths_55 ?_
  exact m_iret hX rfl dX4_millionths_56
noncomputable def M_millionths_13 : Nat → Int → Int → Int → Int → VV → Option (Int × VV)
  | 0, _, _, _, _, _ => none
  | n + 1, x2, x4, x6, x8, V => if 6 ≤ x8 then (M_millionths_53 x4 V) else (nm (α := Int) (w64 (x6 * 10)) fun v1 => cz x2 <| nm (α := Int) (w64 ((w64 (x4 * 10)) + (w64 (v1.tdiv x2)))) fun v2 => cz x2 <| nm (α := Int) (v1.tmod x2) fun v3 => nm (w32 (x8 + 1)) fun v4 => M_millionths_13 n x2 v2 v3 v4 V)
theorem WM_millionths_13 {Z : MZ} {d : Nat} (hX : MX Z cX4_millionths 9 (some .int) d 0) (hdd : 1 ≤ d) : ∀ n x2 x4 x6 x8 V, MG Z 13 [(2, (1, x2)), (4, (1, x4)), (6, (1, x6)), (8, (0, x8))] [] V (M_millionths_13 n x2 x4 x6 x8 V) := by
  intro n
  induction n with
  | zero => intro x2 x4 x6 x8 V; exact m_none
  | succ n ih =>
    intro x2 x4 x6 x8 V
    rw [M_millionths_13]
    refine m_iload hX 3 dX4_millionths_13 rfl ?_
    refine m_bp hX dX4_millionths_15 (by decide) (by decide) ?_
    refine m_icmp_ge hX 53 dX4_millionths_17 (by decide) (fun _ => ?_) (fun _ => ?_)
    · exact m_sub [1] rfl (WM_millionths_53 hX hdd x4 V)
    · refine m_lload hX 2 dX4_millionths_20 rfl ?_
      refine m_ldc2 hX (n := 10) q2178 dX4_millionths_22 (by decide +kernel) ⟨by decide, by decide⟩ ?_
      refine m_lmul hX dX4_millionths_25 ?_
      refine m_nmT fun v1 => ?_
      refine m_lstore hX (lv' := [(6, (1, v1)), (2, (1, x2)), (4, (1, x4)), (8, (0, x8))]) dX4_millionths_26 (by decide) rfl ?_
      refine m_lload hX 2 dX4_millionths_28 rfl ?_
      refine m_ldc2 hX (n := 10) q2178 dX4_millionths_30 (by decide +kernel) ⟨by decide, by decide⟩ ?_
      refine m_lmul hX dX4_millionths_33 ?_
      refine m_lload hX 0 dX4_millionths_34 rfl ?_
      refine m_lload_n hX 1 dX4_millionths_36 rfl rfl ?_
      refine m_ldiv hX dX4_millionths_37 ?_
      refine m_ladd hX dX4_millionths_38 ?_
      refine m_nmT fun v2 => ?_
      refine m_lstore hX (lv' := [(4, (1, v2)), (6, (1, v1)), (2, (1, x2)), (8, (0, x8))]) dX4_millionths_39 (by decide) rfl ?_
      refine m_lload hX 1 dX4_millionths_41 rfl ?_
      refine m_lload_n hX 2 dX4_millionths_43 rfl rfl ?_
      refine m_lrem hX dX4_millionths_44 ?_
      refine m_nmT fun v3 => ?_
      refine m_lstore hX (lv' := [(6, (1, v3)), (4, (1, v2)), (2, (1, x2)), (8, (0, x8))]) dX4_millionths_45 (by decide) rfl ?_
      refine m_iinc hX 3 dX4_millionths_47 rfl (by decide) fun v4 => m_lv (lv' := [(8, (0, v4)), (6, (1, v3)), (4, (1, v2)), (2, (1, x2))]) rfl ?_
      refine m_goto hX 13 dX4_millionths_50 (by decide) ?_
      exact m_sub [3, 2, 1, 0] rfl (ih x2 v2 v3 v4 V)
noncomputable def M_millionths (x0 : Int) (x2 : Int) (V : VV) : Option (Int × VV) := cz x2 <| nm (α := Int) (w64 (x0.tdiv x2)) fun v1 => cz x2 <| nm (α := Int) (x0.tmod x2) fun v2 => M_millionths_13 FU x2 v1 v2 0 V
theorem WM_millionths (l : Launch) {d : Nat} (hdd : 1 ≤ d) (x0 : Int) (x2 : Int) (V : VV) (hV : okV V) (ho : oks [(1, x0), (1, x2)]) (fin : Int × VV) (hf : M_millionths x0 x2 V = some fin) : mSpec l yX4_millionths cX4_millionths 9 (some .int) d 0 [(1, x0), (1, x2)] V fin := by
  refine m_enter (lv := [(0, (1, x0)), (2, (1, x2))]) (by decide) rfl (Nat.le_of_ble_eq_true rfl) rfl (fun Z hZ hX => ?_) hV ho fin hf
  unfold M_millionths
  refine m_lload_n hX 0 dX4_millionths_0 rfl rfl ?_
  refine m_lload_n hX 1 dX4_millionths_1 rfl rfl ?_
  refine m_ldiv hX dX4_millionths_2 ?_
  refine m_nmT fun v1 => ?_
  refine m_lstore hX (lv' := [(4, (1, v1)), (0, (1, x0)), (2, (1, x2))]) dX4_millionths_3 (by decide) rfl ?_
  refine m_lload_n hX 1 dX4_millionths_5 rfl rfl ?_
  refine m_lload_n hX 2 dX4_millionths_6 rfl rfl ?_
  refine m_lrem hX dX4_millionths_7 ?_
  refine m_nmT fun v2 => ?_
  refine m_lstore hX (lv' := [(6, (1, v2)), (4, (1, v1)), (0, (1, x0)), (2, (1, x2))]) dX4_millionths_8 (by decide) rfl ?_
  refine m_ic hX dX4_millionths_10 (by decide) (by decide) ?_
  refine m_istore hX (lv' := [(8, (0, 0)), (6, (1, v2)), (4, (1, v1)), (0, (1, x0)), (2, (1, x2))]) dX4_millionths_11 (by decide) rfl ?_
  exact m_sub [4, 2, 1, 0] rfl (WM_millionths_13 hX hdd FU x2 v1 v2 0 V)
theorem cl_millionths {Z : MZ} {cc : ByteArray} {nL : Nat} {ret : Option FieldType} {d rk : Nat} {pc : Nat} {lv : List (Nat × AV)} {st : List AV} {V : VV} {g : Int → VV → Option (Int × VV)} (hX : MX Z cc nL ret d rk) {a0 a1 : Int} (hdd : 2 ≤ d) (hcat : (st.map fun v => if v.1 = 1 then 2 else 1).sum ≤ 8) (hdg : decode cc pc = .ok (.invokestatic 371, 3)) (kk : ∀ r V1, MG Z (pc + 3) lv ((0, r) :: st) V1 (g r V1)) : MG Z pc lv ((1, a1) :: (1, a0) :: st) V (mb (M_millionths a0 a1 V) g) :=
  m_callSi hX [(1, a0), (1, a1)] 2 (fun hV ho fin hf => WM_millionths (zL Z) (Nat.le_refl 1) a0 a1 V hV ho fin hf) (lw_S q2175 q2176 q131 q2177) (by decide +kernel) rfl (by omega) (by decide) rfl hcat hdg kk
noncomputable def M_worth (x1 : Int) (V : VV) : Option (Int × VV) := mb (M_isQuestion x1 V) fun r1 V2 => if r1 = 0 then (some ((-10000000), V2)) else (mb (M_isBowl x1 V2) fun r3 V4 => if r3 = 0 then (some (0, V4)) else (mb (M_known x1 2 V4) fun r5 V6 => mb (M_passes V6) fun r7 V8 => mb (M_millionths r7 (V8 30 0) V8) fun r9 V10 => mb (M_known x1 0 V10) fun r11 V12 => mb (M_passes V12) fun r13 V14 => mb (M_millionths r13 (V14 30 0) V14) fun r15 V16 => some (w32 (r9 - r15), V16)))
theorem WM_worth (l : Launch) {d : Nat} (hdd : 129 ≤ d) (x1 : Int) (V : VV) (hV : okV V) (ho : oks [(0, x1)]) (fin : Int × VV) (hf : M_worth x1 V = some fin) : mSpec l yX4_worth cX4_worth 3 (some .int) d 0 [(3, 0), (0, x1)] V fin := by
  refine m_enter (lv := [(0, (3, 0)), (1, (0, x1))]) (by decide) rfl (Nat.le_of_ble_eq_true rfl) rfl (fun Z hZ hX => ?_) hV (ho.c (okA.t 0)) fin hf
  unfold M_worth
  refine m_aload_n hX 0 dX4_worth_0 rfl rfl ?_
  refine m_iload_n hX 1 dX4_worth_1 rfl rfl ?_
  refine cl_isQuestion hX (by omega) (Nat.le_of_ble_eq_true rfl) dX4_worth_2 fun r1 V2 => ?_
  refine m_if_ne hX 12 dX4_worth_5 (by decide) (fun _ => ?_) (fun _ => ?_)
  · refine m_aload_n hX 0 dX4_worth_12 rfl rfl ?_
    refine m_iload_n hX 1 dX4_worth_13 rfl rfl ?_
    refine cl_isBowl hX (by omega) (Nat.le_of_ble_eq_true rfl) dX4_worth_14 fun r3 V4 => ?_
    refine m_if_ne hX 22 dX4_worth_17 (by decide) (fun _ => ?_) (fun _ => ?_)
    · refine m_aload_n hX 0 dX4_worth_22 rfl rfl ?_
      refine m_iload_n hX 1 dX4_worth_23 rfl rfl ?_
      refine m_ic hX dX4_worth_24 (by decide) (by decide) ?_
      refine cl_known hX (by omega) (Nat.le_of_ble_eq_true rfl) dX4_worth_25 fun r5 V6 => ?_
      refine m_aload_n hX 0 dX4_worth_28 rfl rfl ?_
      refine cl_passes hX (by omega) (Nat.le_of_ble_eq_true rfl) dX4_worth_29 fun r7 V8 => ?_
      refine m_aload_n hX 0 dX4_worth_32 rfl rfl ?_
      refine fg_30 hX dX4_worth_33 ?_
      refine cl_millionths hX (by omega) (Nat.le_of_ble_eq_true rfl) dX4_worth_36 fun r9 V10 => ?_
      refine m_istore_n hX (lv' := [(2, (0, r9)), (0, (3, 0)), (1, (0, x1))]) dX4_worth_39 rfl (by decide) rfl ?_
      refine m_aload_n hX 1 dX4_worth_40 rfl rfl ?_
      refine m_iload_n hX 2 dX4_worth_41 rfl rfl ?_
      refine m_ic hX dX4_worth_42 (by decide) (by decide) ?_
      refine cl_known hX (by omega) (Nat.le_of_ble_eq_true rfl) dX4_worth_43 fun r11 V12 => ?_
      refine m_iload_n hX 0 dX4_worth_46 rfl rfl ?_
      refine m_aload_n hX 1 dX4_worth_47 rfl rfl ?_
      refine cl_passes hX (by omega) (Nat.le_of_ble_eq_true rfl) dX4_worth_48 fun r13 V14 => ?_
      refine m_aload_n hX 1 dX4_worth_51 rfl rfl ?_
      refine fg_30 hX dX4_worth_52 ?_
      refine cl_millionths hX (by omega) (Nat.le_of_ble_eq_true rfl) dX4_worth_55 fun r15 V16 => ?_
      refine m_isub hX dX4_worth_58 ?_
      exact m_iret hX rfl dX4_worth_59
    · refine m_ic hX dX4_worth_20 (by decide) (by decide) ?_
      exact m_iret hX rfl dX4_worth_21
  · refine m_ldcw hX (n := -10000000) q2174 dX4_worth_8 (by decide +kernel) ⟨by decide, by decide⟩ ?_
    exact m_iret hX rfl dX4_worth_11
-- worth: not called inside
noncomputable def M_cell (x0 : Int) (x1 : Int) (x2 : Int) (x3 : Int) (V : VV) : Option (Int × VV) := some (w32 ((w32 ((w32 ((w32 (7056 * x0)) + (w32 (441 * x1)))) + (w32 (21 * x2)))) + x3), V)
theorem WM_cell (l : Launch) {d : Nat} (hdd : 1 ≤ d) (x0 : Int) (x1 : Int) (x2 : Int) (x3 : Int) (V : VV) (hV : okV V) (ho : oks [(0, x0), (0, x1), (0, x2), (0, x3)]) (fin : Int × VV) (hf : M_cell x0 x1 x2 x3 V = some fin) : mSpec l yX4_cell cX4_cell 4 (some .int) d 0 [(0, x0), (0, x1), (0, x2), (0, x3)] V fin := by
  refine m_enter (lv := [(0, (0, x0)), (1, (0, x1)), (2, (0, x2)), (3, (0, x3))]) (by decide) rfl (Nat.le_of_ble_eq_true rfl) rfl (fun Z hZ hX => ?_) hV ho fin hf
  unfold M_cell
  refine m_sp hX dX4_cell_0 (by decide) (by decide) ?_
  refine m_iload_n hX 0 dX4_cell_3 rfl rfl ?_
  refine m_imul hX dX4_cell_4 ?_
  refine m_sp hX dX4_cell_5 (by decide) (by decide) ?_
  refine m_iload_n hX 1 dX4_cell_8 rfl rfl ?_
  refine m_imul hX dX4_cell_9 ?_
  refine m_iadd hX dX4_cell_10 ?_
  refine m_bp hX dX4_cell_11 (by decide) (by decide) ?_
  refine m_iload_n hX 2 dX4_cell_13 rfl rfl ?_
  refine m_imul hX dX4_cell_14 ?_
  refine m_iadd hX dX4_cell_15 ?_
  refine m_iload_n hX 3 dX4_cell_16 rfl rfl ?_
  refine m_iadd hX dX4_cell_17 ?_
  exact m_iret hX rfl dX4_cell_18
theorem cl_cell {Z : MZ} {cc : ByteArray} {nL : Nat} {ret : Option FieldType} {d rk : Nat} {pc : Nat} {lv : List (Nat × AV)} {st : List AV} {V : VV} {g : Int → VV → Option (Int × VV)} (hX : MX Z cc nL ret d rk) {a0 a1 a2 a3 : Int} (hdd : 2 ≤ d) (hcat : (st.map fun v => if v.1 = 1 then 2 else 1).sum ≤ 8) (hdg : decode cc pc = .ok (.invokestatic 375, 3)) (kk : ∀ r V1, MG Z (pc + 3) lv ((0, r) :: st) V1 (g r V1)) : MG Z pc lv ((0, a3) :: (0, a2) :: (0, a1) :: (0, a0) :: st) V (mb (M_cell a0 a1 a2 a3 V) g) :=
  m_callSi hX [(0, a0), (0, a1), (0, a2), (0, a3)] 4 (fun hV ho fin hf => WM_cell (zL Z) (Nat.le_refl 1) a0 a1 a2 a3 V hV ho fin hf) (lw_S q2191 q2192 q131 q2193) (by decide +kernel) rfl (by omega) (by decide) rfl hcat hdg kk
noncomputable def M_helpedBy (x1 : Int) (x2 : Int) (V : VV) : Option (Int × VV) := mb (M_factOf x1 0 V) fun r1 V2 => if r1 ≤ 0 then (some (0, V2)) else (mb (M_factOf x1 0 V2) fun r3 V4 => if iand (ishr x2 (w32 (r3 - 1))) 1 = 1 then (some (1, V4)) else (some (0, V4)))
theorem WM_helpedBy (l : Launch) {d : Nat} (hdd : 2 ≤ d) (x1 : Int) (x2 : Int) (V : VV) (hV : okV V) (ho : oks [(0, x1), (0, x2)]) (fin : Int × VV) (hf : M_helpedBy x1 x2 V = some fin) : mSpec l yX4_helpedBy cX4_helpedBy 3 (some .int) d 0 [(3, 0), (0, x1), (0, x2)] V fin := by
  refine m_enter (lv := [(0, (3, 0)), (1, (0, x1)), (2, (0, x2))]) (by decide) rfl (Nat.le_of_ble_eq_true rfl) rfl (fun Z hZ hX => ?_) hV (ho.c (okA.t 0)) fin hf
  unfold M_helpedBy
  refine m_aload_n hX 0 dX4_helpedBy_0 rfl rfl ?_
  refine m_iload_n hX 1 dX4_helpedBy_1 rfl rfl ?_
  refine m_ic hX dX4_helpedBy_2 (by decide) (by decide) ?_
  refine cl_factOf hX (by omega) (Nat.le_of_ble_eq_true rfl) dX4_helpedBy_3 fun r1 V2 => ?_
  refine m_if_le hX 29 dX4_helpedBy_6 (by decide) (fun _ => ?_) (fun _ => ?_)
  · refine m_ic hX dX4_helpedBy_29 (by decide) (by decide) ?_
    exact m_iret hX rfl dX4_helpedBy_30
  · refine m_iload_n hX 2 dX4_helpedBy_9 rfl rfl ?_
    refine m_aload_n hX 0 dX4_helpedBy_10 rfl rfl ?_
    refine m_iload_n hX 1 dX4_helpedBy_11 rfl rfl ?_
    refine m_ic hX dX4_helpedBy_12 (by decide) (by decide) ?_
    refine cl_factOf hX (by omega) (Nat.le_of_ble_eq_true rfl) dX4_helpedBy_13 fun r3 V4 => ?_
    refine m_ic hX dX4_helpedBy_16 (by decide) (by decide) ?_
    refine m_isub hX dX4_helpedBy_17 ?_
    refine m_ishr hX dX4_helpedBy_18 ?_
    refine m_ic hX dX4_helpedBy_19 (by decide) (by decide) ?_
    refine m_iand hX dX4_helpedBy_20 ?_
    refine m_ic hX dX4_helpedBy_21 (by decide) (by decide) ?_
    refine m_icmp_ne hX 29 dX4_helpedBy_22 (by decide) (fun _ => ?_) (fun _ => ?_)
    · refine m_ic hX dX4_helpedBy_29 (by decide) (by decide) ?_
      exact m_iret hX rfl dX4_helpedBy_30
    · refine m_ic hX dX4_helpedBy_25 (by decide) (by decide) ?_
      refine m_goto hX 30 dX4_helpedBy_26 (by decide) ?_
      exact m_iret hX rfl dX4_helpedBy_30
theorem cl_helpedBy {Z : MZ} {cc : ByteArray} {nL : Nat} {ret : Option FieldType} {d rk : Nat} {pc : Nat} {lv : List (Nat × AV)} {st : List AV} {V : VV} {g : Int → VV → Option (Int × VV)} (hX : MX Z cc nL ret d rk) {a0 a1 : Int} (hdd : 3 ≤ d) (hcat : (st.map fun v => if v.1 = 1 then 2 else 1).sum ≤ 8) (hdg : decode cc pc = .ok (.invokevirtual 384, 3)) (kk : ∀ r V1, MG Z (pc + 3) lv ((0, r) :: st) V1 (g r V1)) : MG Z pc lv ((0, a1) :: (0, a0) :: (3, 0) :: st) V (mb (M_helpedBy a0 a1 V) g) :=
  m_callVi hX [(0, a0), (0, a1)] 2 (fun hV ho fin hf => WM_helpedBy (zL Z) (Nat.le_refl 2) a0 a1 V hV ho fin hf) (lw_V q2198 q2200 qs108 q131 q2201) (by decide +kernel) rfl (by omega) (by decide) rfl hcat hdg kk
noncomputable def M_kingsWith (x1 : Int) (x2 : Int) (V : VV) : Option (Int × VV) := mb (M_factOf x1 0 V) fun r1 V2 => if r1 ≤ 0 then (some (x2, V2)) else (mb (M_factOf x1 0 V2) fun r3 V4 => some (ior x2 (ishl 1 (w32 (r3 - 1))), V4))
theorem WM_kingsWith (l : Launch) {d : Nat} (hdd : 2 ≤ d) (x1 : Int) (x2 : Int) (V : VV) (hV : okV V) (ho : oks [(0, x1), (0, x2)]) (fin : Int × VV) (hf : M_kingsWith x1 x2 V = some fin) : mSpec l yX4_kingsWith cX4_kingsWith 3 (some .int) d 0 [(3, 0), (0, x1), (0, x2)] V fin := by
  refine m_enter (lv := [(0, (3, 0)), (1, (0, x1)), (2, (0, x2))]) (by decide) rfl (Nat.le_of_ble_eq_true rfl) rfl (fun Z hZ hX => ?_) hV (ho.c (okA.t 0)) fin hf
  unfold M_kingsWith
  refine m_aload_n hX 0 dX4_kingsWith_0 rfl rfl ?_
  refine m_iload_n hX 1 dX4_kingsWith_1 rfl rfl ?_
  refine m_ic hX dX4_kingsWith_2 (by decide) (by decide) ?_
  refine cl_factOf hX (by omega) (Nat.le_of_ble_eq_true rfl) dX4_kingsWith_3 fun r1 V2 => ?_
  refine m_if_le hX 24 dX4_kingsWith_6 (by decide) (fun _ => ?_) (fun _ => ?_)
  · refine m_iload_n hX 2 dX4_kingsWith_24 rfl rfl ?_
    exact m_iret hX rfl dX4_kingsWith_25
  · refine m_iload_n hX 2 dX4_kingsWith_9 rfl rfl ?_
    refine m_ic hX dX4_kingsWith_10 (by decide) (by decide) ?_
    refine m_aload_n hX 0 dX4_kingsWith_11 rfl rfl ?_
    refine m_iload_n hX 1 dX4_kingsWith_12 rfl rfl ?_
    refine m_ic hX dX4_kingsWith_13 (by decide) (by decide) ?_
    refine cl_factOf hX (by omega) (Nat.le_of_ble_eq_true rfl) dX4_kingsWith_14 fun r3 V4 => ?_
    refine m_ic hX dX4_kingsWith_17 (by decide) (by decide) ?_
    refine m_isub hX dX4_kingsWith_18 ?_
    refine m_ishl hX dX4_kingsWith_19 ?_
    refine m_ior hX dX4_kingsWith_20 ?_
    refine m_goto hX 25 dX4_kingsWith_21 (by decide) ?_
    exact m_iret hX rfl dX4_kingsWith_25
theorem cl_kingsWith {Z : MZ} {cc : ByteArray} {nL : Nat} {ret : Option FieldType} {d rk : Nat} {pc : Nat} {lv : List (Nat × AV)} {st : List AV} {V : VV} {g : Int → VV → Option (Int × VV)} (hX : MX Z cc nL ret d rk) {a0 a1 : Int} (hdd : 3 ≤ d) (hcat : (st.map fun v => if v.1 = 1 then 2 else 1).sum ≤ 8) (hdg : decode cc pc = .ok (.invokevirtual 387, 3)) (kk : ∀ r V1, MG Z (pc + 3) lv ((0, r) :: st) V1 (g r V1)) : MG Z pc lv ((0, a1) :: (0, a0) :: (3, 0) :: st) V (mb (M_kingsWith a0 a1 V) g) :=
  m_callVi hX [(0, a0), (0, a1)] 2 (fun hV ho fin hf => WM_kingsWith (zL Z) (Nat.le_refl 2) a0 a1 V hV ho fin hf) (lw_V q2202 q2204 qs109 q131 q2205) (by decide +kernel) rfl (by omega) (by decide) rfl hcat hdg kk
