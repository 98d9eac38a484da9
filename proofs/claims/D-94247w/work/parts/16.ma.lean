/-! printed by tools/genm.py: the model's methods as pure functions, and their walks -/
set_option maxRecDepth 100000
set_option maxHeartbeats 4000000
noncomputable def M_lies (x0 : Int) (x1 : Int) (x2 : Int) (V : VV) : Option (Int × VV) := nm (α := Int) (if x0 < x1 then 0 else (if x2 < x0 then 0 else 1)) fun v1 => cb v1 (some (v1, V))
theorem WM_lies (l : Launch) {d : Nat} (hdd : 1 ≤ d) (x0 : Int) (x1 : Int) (x2 : Int) (V : VV) (hV : okV V) (ho : oks [(0, x0), (0, x1), (0, x2)]) (fin : Int × VV) (hf : M_lies x0 x1 x2 V = some fin) : mSpec l yX4_lies cX4_lies 3 (some .boolean) d 0 [(0, x0), (0, x1), (0, x2)] V fin := by
  refine m_enter (lv := [(0, (0, x0)), (1, (0, x1)), (2, (0, x2))]) (by decide) rfl (Nat.le_of_ble_eq_true rfl) rfl (fun Z hZ hX => ?_) hV ho fin hf
  unfold M_lies
  refine m_iload_n hX 0 dX4_lies_0 rfl rfl ?_
  refine m_iload_n hX 1 dX4_lies_1 rfl rfl ?_
  refine m_join 15 (fun v1 => [(0, v1)]) (fun v1 => ?_) (fun hJ => ?_)
  · exact m_zret hX rfl dX4_lies_15
  · refine m_icmp_ltF hX 14 dX4_lies_2 (by decide) (fun _ => ?_) (fun _ => ?_)
    · refine m_ic hX dX4_lies_14 (by decide) (by decide) ?_
      exact hJ _
    · refine m_iload_n hX 0 dX4_lies_5 rfl rfl ?_
      refine m_iload_n hX 2 dX4_lies_6 rfl rfl ?_
      refine m_icmp_gtF hX 14 dX4_lies_7 (by decide) (fun _ => ?_) (fun _ => ?_)
      · refine m_ic hX dX4_lies_14 (by decide) (by decide) ?_
        exact hJ _
      · refine m_ic hX dX4_lies_10 (by decide) (by decide) ?_
        refine m_goto hX 15 dX4_lies_11 (by decide) ?_
        exact hJ _
theorem cl_lies {Z : MZ} {cc : ByteArray} {nL : Nat} {ret : Option FieldType} {d rk : Nat} {pc : Nat} {lv : List (Nat × AV)} {st : List AV} {V : VV} {g : Int → VV → Option (Int × VV)} (hX : MX Z cc nL ret d rk) {a0 a1 a2 : Int} (hdd : 2 ≤ d) (hcat : (st.map fun v => if v.1 = 1 then 2 else 1).sum ≤ 8) (hdg : decode cc pc = .ok (.invokestatic 135, 3)) (kk : ∀ r V1, MG Z (pc + 3) lv ((0, r) :: st) V1 (g r V1)) : MG Z pc lv ((0, a2) :: (0, a1) :: (0, a0) :: st) V (mb (M_lies a0 a1 a2 V) g) :=
  m_callSi hX [(0, a0), (0, a1), (0, a2)] 3 (fun hV ho fin hf => WM_lies (zL Z) (Nat.le_refl 1) a0 a1 a2 V hV ho fin hf) (lw_S q1880 q1881 q131 q1882) (by decide +kernel) rfl (by omega) (by decide) rfl hcat hdg kk
noncomputable def M_refuses (x1 : Int) (V : VV) : Option (Int × VV) := nm (vup V 0 0 x1) fun V1 => ck (w32 (-x1)) 7 <| ck (w32 (-x1)) 7 <| nm (vup V1 2 (w32 (-x1)) (w32 ((V1 2 (w32 (-x1))) + 1))) fun V2 => some (x1, V2)
theorem WM_refuses (l : Launch) {d : Nat} (hdd : 1 ≤ d) (x1 : Int) (V : VV) (hV : okV V) (ho : oks [(0, x1)]) (fin : Int × VV) (hf : M_refuses x1 V = some fin) : mSpec l yX4_refuses cX4_refuses 2 (some .int) d 0 [(3, 0), (0, x1)] V fin := by
  refine m_enter (lv := [(0, (3, 0)), (1, (0, x1))]) (by decide) rfl (Nat.le_of_ble_eq_true rfl) rfl (fun Z hZ hX => ?_) hV (ho.c (okA.t 0)) fin hf
  unfold M_refuses
  refine m_aload_n hX 0 dX4_refuses_0 rfl rfl ?_
  refine m_iload_n hX 1 dX4_refuses_1 rfl rfl ?_
  refine fp_0 hX dX4_refuses_2 fun V1 => ?_
  refine m_aload_n hX 0 dX4_refuses_5 rfl rfl ?_
  refine fg_2 hX dX4_refuses_6 ?_
  refine m_iload_n hX 1 dX4_refuses_9 rfl rfl ?_
  refine m_ineg hX dX4_refuses_10 ?_
  refine m_dup2 hX dX4_refuses_11 rfl rfl ?_
  refine al_2 hX dX4_refuses_12 ?_
  refine m_ic hX dX4_refuses_13 (by decide) (by decide) ?_
  refine m_iadd hX dX4_refuses_14 ?_
  refine as_2 hX dX4_refuses_15 fun V2 => ?_
  refine m_iload_n hX 1 dX4_refuses_16 rfl rfl ?_
  exact m_iret hX rfl dX4_refuses_17
theorem cl_refuses {Z : MZ} {cc : ByteArray} {nL : Nat} {ret : Option FieldType} {d rk : Nat} {pc : Nat} {lv : List (Nat × AV)} {st : List AV} {V : VV} {g : Int → VV → Option (Int × VV)} (hX : MX Z cc nL ret d rk) {a0 : Int} (hdd : 2 ≤ d) (hcat : (st.map fun v => if v.1 = 1 then 2 else 1).sum ≤ 8) (hdg : decode cc pc = .ok (.invokevirtual 139, 3)) (kk : ∀ r V1, MG Z (pc + 3) lv ((0, r) :: st) V1 (g r V1)) : MG Z pc lv ((0, a0) :: (3, 0) :: st) V (mb (M_refuses a0 V) g) :=
  m_callVi hX [(0, a0)] 1 (fun hV ho fin hf => WM_refuses (zL Z) (Nat.le_refl 1) a0 V hV ho fin hf) (lw_V q1883 q1885 qs59 q131 q1886) (by decide +kernel) rfl (by omega) (by decide) rfl hcat hdg kk
noncomputable def M_good (x1 : Int) (V : VV) : Option (Int × VV) := nm (vup V 0 0 0) fun V1 => nm (vup V1 1 0 (w32 ((V1 1 0) + 1))) fun V2 => some (x1, V2)
theorem WM_good (l : Launch) {d : Nat} (hdd : 1 ≤ d) (x1 : Int) (V : VV) (hV : okV V) (ho : oks [(0, x1)]) (fin : Int × VV) (hf : M_good x1 V = some fin) : mSpec l yX4_good cX4_good 2 (some .int) d 0 [(3, 0), (0, x1)] V fin := by
  refine m_enter (lv := [(0, (3, 0)), (1, (0, x1))]) (by decide) rfl (Nat.le_of_ble_eq_true rfl) rfl (fun Z hZ hX => ?_) hV (ho.c (okA.t 0)) fin hf
  unfold M_good
  refine m_aload_n hX 0 dX4_good_0 rfl rfl ?_
  refine m_ic hX dX4_good_1 (by decide) (by decide) ?_
  refine fp_0 hX dX4_good_2 fun V1 => ?_
  refine m_aload_n hX 0 dX4_good_5 rfl rfl ?_
  refine m_dup hX dX4_good_6 rfl ?_
  refine fg_1 hX dX4_good_7 ?_
  refine m_ic hX dX4_good_10 (by decide) (by decide) ?_
  refine m_iadd hX dX4_good_11 ?_
  refine fp_1 hX dX4_good_12 fun V2 => ?_
  refine m_iload_n hX 1 dX4_good_15 rfl rfl ?_
  exact m_iret hX rfl dX4_good_16
theorem cl_good {Z : MZ} {cc : ByteArray} {nL : Nat} {ret : Option FieldType} {d rk : Nat} {pc : Nat} {lv : List (Nat × AV)} {st : List AV} {V : VV} {g : Int → VV → Option (Int × VV)} (hX : MX Z cc nL ret d rk) {a0 : Int} (hdd : 2 ≤ d) (hcat : (st.map fun v => if v.1 = 1 then 2 else 1).sum ≤ 8) (hdg : decode cc pc = .ok (.invokevirtual 143, 3)) (kk : ∀ r V1, MG Z (pc + 3) lv ((0, r) :: st) V1 (g r V1)) : MG Z pc lv ((0, a0) :: (3, 0) :: st) V (mb (M_good a0 V) g) :=
  m_callVi hX [(0, a0)] 1 (fun hV ho fin hf => WM_good (zL Z) (Nat.le_refl 1) a0 V hV ho fin hf) (lw_V q1887 q1889 qs60 q131 q1890) (by decide +kernel) rfl (by omega) (by decide) rfl hcat hdg kk
noncomputable def M_image_48 (x1 : Int) (V : VV) : Option (Int × VV) := ck x1 2 <| nm (vup V 5 x1 1) fun V1 => mb (M_good 0 V1) fun r2 V3 => some (r2, V3)
theorem WM_image_48 {Z : MZ} {d : Nat} (hX : MX Z cX4_image 3 (some .int) d 0) (hdd : 2 ≤ d) : ∀ x1 V, MG Z 48 [(0, (3, 0)), (1, (0, x1))] [] V (M_image_48 x1 V) := by
  intro x1 V
  unfold M_image_48
  refine m_aload_n hX 0 dX4_image_48 rfl rfl ?_
  refine fg_5 hX dX4_image_49 ?_
  refine m_iload_n hX 1 dX4_image_52 rfl rfl ?_
  refine m_ic hX dX4_image_53 (by decide) (by decide) ?_
  refine m_cb (b := 1) (by decide) <| as_5 hX dX4_image_54 fun V1 => ?_
  refine m_aload_n hX 0 dX4_image_55 rfl rfl ?_
  refine m_ic hX dX4_image_56 (by decide) (by decide) ?_
  refine cl_good hX (by omega) (Nat.le_of_ble_eq_true rfl) dX4_image_57 fun r2 V3 => ?_
  exact m_iret hX rfl dX4_image_60
noncomputable def M_image_17 : Nat → Int → Int → VV → Option (Int × VV)
  | 0, _, _, _ => none
  | n + 1, x1, x2, V => if 5201 ≤ x2 then (M_image_48 x1 V) else (ck x2 5201 <| ck (w32 ((w32 (5201 * x1)) + x2)) 10402 <| nm (vup V 4 (w32 ((w32 (5201 * x1)) + x2)) (V 3 x2)) fun V1 => nm (w32 (x2 + 1)) fun v2 => M_image_17 n x1 v2 V1)
theorem WM_image_17 {Z : MZ} {d : Nat} (hX : MX Z cX4_image 3 (some .int) d 0) (hdd : 2 ≤ d) : ∀ n x1 x2 V, MG Z 17 [(0, (3, 0)), (1, (0, x1)), (2, (0, x2))] [] V (M_image_17 n x1 x2 V) := by
  intro n
  induction n with
  | zero => intro x1 x2 V; exact m_none
  | succ n ih =>
    intro x1 x2 V
    rw [M_image_17]
    refine m_iload_n hX 2 dX4_image_17 rfl rfl ?_
    refine m_sp hX dX4_image_18 (by decide) (by decide) ?_
    refine m_icmp_ge hX 48 dX4_image_21 (by decide) (fun _ => ?_) (fun _ => ?_)
    · exact m_sub [0, 1] rfl (WM_image_48 hX hdd x1 V)
    · refine m_aload_n hX 0 dX4_image_24 rfl rfl ?_
      refine fg_4 hX dX4_image_25 ?_
      refine m_sp hX dX4_image_28 (by decide) (by decide) ?_
      refine m_iload_n hX 1 dX4_image_31 rfl rfl ?_
      refine m_imul hX dX4_image_32 ?_
      refine m_iload_n hX 2 dX4_image_33 rfl rfl ?_
      refine m_iadd hX dX4_image_34 ?_
      refine m_aload_n hX 0 dX4_image_35 rfl rfl ?_
      refine fg_3 hX dX4_image_36 ?_
      refine m_iload_n hX 2 dX4_image_39 rfl rfl ?_
      refine al_3 hX dX4_image_40 ?_
      refine as_4 hX dX4_image_41 fun V1 => ?_
      refine m_iinc hX 2 dX4_image_42 rfl (by decide) fun v2 => m_lv (lv' := [(2, (0, v2)), (0, (3, 0)), (1, (0, x1))]) rfl ?_
      refine m_goto hX 17 dX4_image_45 (by decide) ?_
      exact m_sub [1, 2, 0] rfl (ih x1 v2 V1)
noncomputable def M_image (x1 : Int) (V : VV) : Option (Int × VV) := mb (M_lies x1 0 1 V) fun r1 V2 => if r1 = 0 then (mb (M_refuses (-1) V2) fun r3 V4 => some (r3, V4)) else (M_image_17 FU x1 0 V2)
theorem WM_image (l : Launch) {d : Nat} (hdd : 2 ≤ d) (x1 : Int) (V : VV) (hV : okV V) (ho : oks [(0, x1)]) (fin : Int × VV) (hf : M_image x1 V = some fin) : mSpec l yX4_image cX4_image 3 (some .int) d 0 [(3, 0), (0, x1)] V fin := by
  refine m_enter (lv := [(0, (3, 0)), (1, (0, x1))]) (by decide) rfl (Nat.le_of_ble_eq_true rfl) rfl (fun Z hZ hX => ?_) hV (ho.c (okA.t 0)) fin hf
  unfold M_image
  refine m_iload_n hX 1 dX4_image_0 rfl rfl ?_
  refine m_ic hX dX4_image_1 (by decide) (by decide) ?_
  refine m_ic hX dX4_image_2 (by decide) (by decide) ?_
  refine cl_lies hX (by omega) (Nat.le_of_ble_eq_true rfl) dX4_image_3 fun r1 V2 => ?_
  refine m_if_ne hX 15 dX4_image_6 (by decide) (fun _ => ?_) (fun _ => ?_)
  · refine m_ic hX dX4_image_15 (by decide) (by decide) ?_
    refine m_istore_n hX (lv' := [(2, (0, 0)), (0, (3, 0)), (1, (0, x1))]) dX4_image_16 rfl (by decide) rfl ?_
    exact m_sub [1, 2, 0] rfl (WM_image_17 hX hdd FU x1 0 V2)
  · refine m_aload_n hX 0 dX4_image_9 rfl rfl ?_
    refine m_ic hX dX4_image_10 (by decide) (by decide) ?_
    refine cl_refuses hX (by omega) (Nat.le_of_ble_eq_true rfl) dX4_image_11 fun r3 V4 => ?_
    exact m_iret hX rfl dX4_image_14
-- image: not called inside
noncomputable def M_back_64 (V : VV) : Option (Int × VV) := mb (M_good 0 V) fun r1 V2 => some (r1, V2)
theorem WM_back_64 {Z : MZ} {d : Nat} (hX : MX Z cX4_back 3 (some .int) d 0) (hdd : 2 ≤ d) : ∀ V, MG Z 64 [(0, (3, 0))] [] V (M_back_64 V) := by
  intro V
  unfold M_back_64
  refine m_aload_n hX 0 dX4_back_64 rfl rfl ?_
  refine m_ic hX dX4_back_65 (by decide) (by decide) ?_
  refine cl_good hX (by omega) (Nat.le_of_ble_eq_true rfl) dX4_back_66 fun r1 V2 => ?_
  exact m_iret hX rfl dX4_back_69
noncomputable def M_back_33 : Nat → Int → Int → VV → Option (Int × VV)
  | 0, _, _, _ => none
  | n + 1, x1, x2, V => if 5201 ≤ x2 then (M_back_64 V) else (ck (w32 ((w32 (5201 * x1)) + x2)) 10402 <| ck x2 5201 <| nm (vup V 3 x2 (V 4 (w32 ((w32 (5201 * x1)) + x2)))) fun V1 => nm (w32 (x2 + 1)) fun v2 => M_back_33 n x1 v2 V1)
theorem WM_back_33 {Z : MZ} {d : Nat} (hX : MX Z cX4_back 3 (some .int) d 0) (hdd : 2 ≤ d) : ∀ n x1 x2 V, MG Z 33 [(0, (3, 0)), (1, (0, x1)), (2, (0, x2))] [] V (M_back_33 n x1 x2 V) := by
  intro n
  induction n with
  | zero => intro x1 x2 V; exact m_none
  | succ n ih =>
    intro x1 x2 V
    rw [M_back_33]
    refine m_iload_n hX 2 dX4_back_33 rfl rfl ?_
    refine m_sp hX dX4_back_34 (by decide) (by decide) ?_
    refine m_icmp_ge hX 64 dX4_back_37 (by decide) (fun _ => ?_) (fun _ => ?_)
    · exact m_sub [0] rfl (WM_back_64 hX hdd V)
    · refine m_aload_n hX 0 dX4_back_40 rfl rfl ?_
      refine fg_3 hX dX4_back_41 ?_
      refine m_iload_n hX 2 dX4_back_44 rfl rfl ?_
      refine m_aload_n hX 0 dX4_back_45 rfl rfl ?_
      refine fg_4 hX dX4_back_46 ?_
      refine m_sp hX dX4_back_49 (by decide) (by decide) ?_
      refine m_iload_n hX 1 dX4_back_52 rfl rfl ?_
      refine m_imul hX dX4_back_53 ?_
      refine m_iload_n hX 2 dX4_back_54 rfl rfl ?_
      refine m_iadd hX dX4_back_55 ?_
      refine al_4 hX dX4_back_56 ?_
      refine as_3 hX dX4_back_57 fun V1 => ?_
      refine m_iinc hX 2 dX4_back_58 rfl (by decide) fun v2 => m_lv (lv' := [(2, (0, v2)), (0, (3, 0)), (1, (0, x1))]) rfl ?_
      refine m_goto hX 33 dX4_back_61 (by decide) ?_
      exact m_sub [1, 2, 0] rfl (ih x1 v2 V1)
noncomputable def M_back (x1 : Int) (V : VV) : Option (Int × VV) := mb (M_lies x1 0 1 V) fun r1 V2 => if r1 = 0 then (mb (M_refuses (-1) V2) fun r5 V6 => some (r5, V6)) else (ck x1 2 <| if V2 5 x1 = 0 then (mb (M_refuses (-2) V2) fun r3 V4 => some (r3, V4)) else (M_back_33 FU x1 0 V2))
theorem WM_back (l : Launch) {d : Nat} (hdd : 2 ≤ d) (x1 : Int) (V : VV) (hV : okV V) (ho : oks [(0, x1)]) (fin : Int × VV) (hf : M_back x1 V = some fin) : mSpec l yX4_back cX4_back 3 (some .int) d 0 [(3, 0), (0, x1)] V fin := by
  refine m_enter (lv := [(0, (3, 0)), (1, (0, x1))]) (by decide) rfl (Nat.le_of_ble_eq_true rfl) rfl (fun Z hZ hX => ?_) hV (ho.c (okA.t 0)) fin hf
  unfold M_back
  refine m_iload_n hX 1 dX4_back_0 rfl rfl ?_
  refine m_ic hX dX4_back_1 (by decide) (by decide) ?_
  refine m_ic hX dX4_back_2 (by decide) (by decide) ?_
  refine cl_lies hX (by omega) (Nat.le_of_ble_eq_true rfl) dX4_back_3 fun r1 V2 => ?_
  refine m_if_ne hX 15 dX4_back_6 (by decide) (fun _ => ?_) (fun _ => ?_)
  · refine m_aload_n hX 0 dX4_back_15 rfl rfl ?_
    refine fg_5 hX dX4_back_16 ?_
    refine m_iload_n hX 1 dX4_back_19 rfl rfl ?_
    refine al_5 hX dX4_back_20 ?_
    refine m_if_ne hX 31 dX4_back_21 (by decide) (fun _ => ?_) (fun _ => ?_)
    · refine m_ic hX dX4_back_31 (by decide) (by decide) ?_
      refine m_istore_n hX (lv' := [(2, (0, 0)), (0, (3, 0)), (1, (0, x1))]) dX4_back_32 rfl (by decide) rfl ?_
      exact m_sub [1, 2, 0] rfl (WM_back_33 hX hdd FU x1 0 V2)
    · refine m_aload_n hX 0 dX4_back_24 rfl rfl ?_
      refine m_bp hX dX4_back_25 (by decide) (by decide) ?_
      refine cl_refuses hX (by omega) (Nat.le_of_ble_eq_true rfl) dX4_back_27 fun r3 V4 => ?_
      exact m_iret hX rfl dX4_back_30
  · refine m_aload_n hX 0 dX4_back_9 rfl rfl ?_
    refine m_ic hX dX4_back_10 (by decide) (by decide) ?_
    refine cl_refuses hX (by omega) (Nat.le_of_ble_eq_true rfl) dX4_back_11 fun r5 V6 => ?_
    exact m_iret hX rfl dX4_back_14
-- back: not called inside
noncomputable def M_term (x1 : Int) (V : VV) : Option (Int × VV) := ck (w32 (100 + x1)) 5201 <| some (V 3 (w32 (100 + x1)), V)
theorem WM_term (l : Launch) {d : Nat} (hdd : 1 ≤ d) (x1 : Int) (V : VV) (hV : okV V) (ho : oks [(0, x1)]) (fin : Int × VV) (hf : M_term x1 V = some fin) : mSpec l yX4_term cX4_term 2 (some .int) d 0 [(3, 0), (0, x1)] V fin := by
  refine m_enter (lv := [(0, (3, 0)), (1, (0, x1))]) (by decide) rfl (Nat.le_of_ble_eq_true rfl) rfl (fun Z hZ hX => ?_) hV (ho.c (okA.t 0)) fin hf
  unfold M_term
  refine m_aload_n hX 0 dX4_term_0 rfl rfl ?_
  refine fg_3 hX dX4_term_1 ?_
  refine m_bp hX dX4_term_4 (by decide) (by decide) ?_
  refine m_iload_n hX 1 dX4_term_6 rfl rfl ?_
  refine m_iadd hX dX4_term_7 ?_
  refine al_3 hX dX4_term_8 ?_
  exact m_iret hX rfl dX4_term_9
theorem cl_term {Z : MZ} {cc : ByteArray} {nL : Nat} {ret : Option FieldType} {d rk : Nat} {pc : Nat} {lv : List (Nat × AV)} {st : List AV} {V : VV} {g : Int → VV → Option (Int × VV)} (hX : MX Z cc nL ret d rk) {a0 : Int} (hdd : 2 ≤ d) (hcat : (st.map fun v => if v.1 = 1 then 2 else 1).sum ≤ 8) (hdg : decode cc pc = .ok (.invokevirtual 318, 3)) (kk : ∀ r V1, MG Z (pc + 3) lv ((0, r) :: st) V1 (g r V1)) : MG Z pc lv ((0, a0) :: (3, 0) :: st) V (mb (M_term a0 V) g) :=
  m_callVi hX [(0, a0)] 1 (fun hV ho fin hf => WM_term (zL Z) (Nat.le_refl 1) a0 V hV ho fin hf) (lw_V q2114 q2116 qs98 q131 q2117) (by decide +kernel) rfl (by omega) (by decide) rfl hcat hdg kk
noncomputable def M_questions (V : VV) : Option (Int × VV) := some (V 3 390, V)
theorem WM_questions (l : Launch) {d : Nat} (hdd : 1 ≤ d) (V : VV) (hV : okV V) (ho : oks []) (fin : Int × VV) (hf : M_questions V = some fin) : mSpec l yX4_questions cX4_questions 1 (some .int) d 0 [(3, 0)] V fin := by
  refine m_enter (lv := [(0, (3, 0))]) (by decide) rfl (Nat.le_of_ble_eq_true rfl) rfl (fun Z hZ hX => ?_) hV (ho.c (okA.t 0)) fin hf
  unfold M_questions
  refine m_aload_n hX 0 dX4_questions_0 rfl rfl ?_
  refine fg_3 hX dX4_questions_1 ?_
  refine m_sp hX dX4_questions_4 (by decide) (by decide) ?_
  refine m_in (by decide) (by decide) (al_3 hX dX4_questions_7 ?_)
  exact m_iret hX rfl dX4_questions_8
theorem cl_questions {Z : MZ} {cc : ByteArray} {nL : Nat} {ret : Option FieldType} {d rk : Nat} {pc : Nat} {lv : List (Nat × AV)} {st : List AV} {V : VV} {g : Int → VV → Option (Int × VV)} (hX : MX Z cc nL ret d rk) (hdd : 2 ≤ d) (hcat : (st.map fun v => if v.1 = 1 then 2 else 1).sum ≤ 8) (hdg : decode cc pc = .ok (.invokevirtual 146, 3)) (kk : ∀ r V1, MG Z (pc + 3) lv ((0, r) :: st) V1 (g r V1)) : MG Z pc lv ((3, 0) :: st) V (mb (M_questions V) g) :=
  m_callVi hX [] 0 (fun hV ho fin hf => WM_questions (zL Z) (Nat.le_refl 1) V hV ho fin hf) (lw_V q1899 q1901 qs61 q131 q1902) (by decide +kernel) rfl (by omega) (by decide) rfl hcat hdg kk
noncomputable def M_isQuestion (x1 : Int) (V : VV) : Option (Int × VV) := mb (M_questions V) fun r1 V2 => mb (M_lies x1 0 (w32 (r1 - 1)) V2) fun r3 V4 => cb r3 (some (r3, V4))
theorem WM_isQuestion (l : Launch) {d : Nat} (hdd : 2 ≤ d) (x1 : Int) (V : VV) (hV : okV V) (ho : oks [(0, x1)]) (fin : Int × VV) (hf : M_isQuestion x1 V = some fin) : mSpec l yX4_isQuestion cX4_isQuestion 2 (some .boolean) d 0 [(3, 0), (0, x1)] V fin := by
  refine m_enter (lv := [(0, (3, 0)), (1, (0, x1))]) (by decide) rfl (Nat.le_of_ble_eq_true rfl) rfl (fun Z hZ hX => ?_) hV (ho.c (okA.t 0)) fin hf
  unfold M_isQuestion
  refine m_iload_n hX 1 dX4_isQuestion_0 rfl rfl ?_
  refine m_ic hX dX4_isQuestion_1 (by decide) (by decide) ?_
  refine m_aload_n hX 0 dX4_isQuestion_2 rfl rfl ?_
  refine cl_questions hX (by omega) (Nat.le_of_ble_eq_true rfl) dX4_isQuestion_3 fun r1 V2 => ?_
  refine m_ic hX dX4_isQuestion_6 (by decide) (by decide) ?_
  refine m_isub hX dX4_isQuestion_7 ?_
  refine cl_lies hX (by omega) (Nat.le_of_ble_eq_true rfl) dX4_isQuestion_8 fun r3 V4 => ?_
  exact m_zret hX rfl dX4_isQuestion_11
theorem cl_isQuestion {Z : MZ} {cc : ByteArray} {nL : Nat} {ret : Option FieldType} {d rk : Nat} {pc : Nat} {lv : List (Nat × AV)} {st : List AV} {V : VV} {g : Int → VV → Option (Int × VV)} (hX : MX Z cc nL ret d rk) {a0 : Int} (hdd : 3 ≤ d) (hcat : (st.map fun v => if v.1 = 1 then 2 else 1).sum ≤ 8) (hdg : decode cc pc = .ok (.invokevirtual 158, 3)) (kk : ∀ r V1, MG Z (pc + 3) lv ((0, r) :: st) V1 (g r V1)) : MG Z pc lv ((0, a0) :: (3, 0) :: st) V (mb (M_isQuestion a0 V) g) :=
  m_callVi hX [(0, a0)] 1 (fun hV ho fin hf => WM_isQuestion (zL Z) (Nat.le_refl 2) a0 V hV ho fin hf) (lw_V q1907 q1909 qs62 q131 q1910) (by decide +kernel) rfl (by omega) (by decide) rfl hcat hdg kk
noncomputable def M_factOf (x1 : Int) (x2 : Int) (V : VV) : Option (Int × VV) := ck (w32 ((w32 (0 + (w32 (5 * x1)))) + x2)) 5201 <| some (V 3 (w32 ((w32 (0 + (w32 (5 * x1)))) + x2)), V)
theorem WM_factOf (l : Launch) {d : Nat} (hdd : 1 ≤ d) (x1 : Int) (x2 : Int) (V : VV) (hV : okV V) (ho : oks [(0, x1), (0, x2)]) (fin : Int × VV) (hf : M_factOf x1 x2 V = some fin) : mSpec l yX4_factOf cX4_factOf 3 (some .int) d 0 [(3, 0), (0, x1), (0, x2)] V fin := by
  refine m_enter (lv := [(0, (3, 0)), (1, (0, x1)), (2, (0, x2))]) (by decide) rfl (Nat.le_of_ble_eq_true rfl) rfl (fun Z hZ hX => ?_) hV (ho.c (okA.t 0)) fin hf
  unfold M_factOf
  refine m_aload_n hX 0 dX4_factOf_0 rfl rfl ?_
  refine fg_3 hX dX4_factOf_1 ?_
  refine m_ic hX dX4_factOf_4 (by decide) (by decide) ?_
  refine m_ic hX dX4_factOf_5 (by decide) (by decide) ?_
  refine m_iload_n hX 1 dX4_factOf_6 rfl rfl ?_
  refine m_imul hX dX4_factOf_7 ?_
  refine m_iadd hX dX4_factOf_8 ?_
  refine m_iload_n hX 2 dX4_factOf_9 rfl rfl ?_
  refine m_iadd hX dX4_factOf_10 ?_
  refine al_3 hX dX4_factOf_11 ?_
  exact m_iret hX rfl dX4_factOf_12
theorem cl_factOf {Z : MZ} {cc : ByteArray} {nL : Nat} {ret : Option FieldType} {d rk : Nat} {pc : Nat} {lv : List (Nat × AV)} {st : List AV} {V : VV} {g : Int → VV → Option (Int × VV)} (hX : MX Z cc nL ret d rk) {a0 a1 : Int} (hdd : 2 ≤ d) (hcat : (st.map fun v => if v.1 = 1 then 2 else 1).sum ≤ 8) (hdg : decode cc pc = .ok (.invokevirtual 150, 3)) (kk : ∀ r V1, MG Z (pc + 3) lv ((0, r) :: st) V1 (g r V1)) : MG Z pc lv ((0, a1) :: (0, a0) :: (3, 0) :: st) V (mb (M_factOf a0 a1 V) g) :=
  m_callVi hX [(0, a0), (0, a1)] 2 (fun hV ho fin hf => WM_factOf (zL Z) (Nat.le_refl 1) a0 a1 V hV ho fin hf) (lw_V q1919 q1921 qs64 q131 q1922) (by decide +kernel) rfl (by omega) (by decide) rfl hcat hdg kk
noncomputable def M_isBowl (x1 : Int) (V : VV) : Option (Int × VV) := mb (M_factOf x1 4 V) fun r1 V2 => nm (α := Int) (if r1 = 0 then 1 else 0) fun v3 => cb v3 (some (v3, V2))
theorem WM_isBowl (l : Launch) {d : Nat} (hdd : 2 ≤ d) (x1 : Int) (V : VV) (hV : okV V) (ho : oks [(0, x1)]) (fin : Int × VV) (hf : M_isBowl x1 V = some fin) : mSpec l yX4_isBowl cX4_isBowl 2 (some .boolean) d 0 [(3, 0), (0, x1)] V fin := by
  refine m_enter (lv := [(0, (3, 0)), (1, (0, x1))]) (by decide) rfl (Nat.le_of_ble_eq_true rfl) rfl (fun Z hZ hX => ?_) hV (ho.c (okA.t 0)) fin hf
  unfold M_isBowl
  refine m_aload_n hX 0 dX4_isBowl_0 rfl rfl ?_
  refine m_iload_n hX 1 dX4_isBowl_1 rfl rfl ?_
  refine m_ic hX dX4_isBowl_2 (by decide) (by decide) ?_
  refine cl_factOf hX (by omega) (Nat.le_of_ble_eq_true rfl) dX4_isBowl_3 fun r1 V2 => ?_
  refine m_join 14 (fun v3 => [(0, v3)]) (fun v3 => ?_) (fun hJ => ?_)
  · exact m_zret hX rfl dX4_isBowl_14
  · refine m_if_neF hX 13 dX4_isBowl_6 (by decide) (fun _ => ?_) (fun _ => ?_)
    · refine m_ic hX dX4_isBowl_13 (by decide) (by decide) ?_
      exact hJ _
    · refine m_ic hX dX4_isBowl_9 (by decide) (by decide) ?_
      refine m_goto hX 14 dX4_isBowl_10 (by decide) ?_
      exact hJ _
theorem cl_isBowl {Z : MZ} {cc : ByteArray} {nL : Nat} {ret : Option FieldType} {d rk : Nat} {pc : Nat} {lv : List (Nat × AV)} {st : List AV} {V : VV} {g : Int → VV → Option (Int × VV)} (hX : MX Z cc nL ret d rk) {a0 : Int} (hdd : 3 ≤ d) (hcat : (st.map fun v => if v.1 = 1 then 2 else 1).sum ≤ 8) (hdg : decode cc pc = .ok (.invokevirtual 154, 3)) (kk : ∀ r V1, MG Z (pc + 3) lv ((0, r) :: st) V1 (g r V1)) : MG Z pc lv ((0, a0) :: (3, 0) :: st) V (mb (M_isBowl a0 V) g) :=
  m_callVi hX [(0, a0)] 1 (fun hV ho fin hf => WM_isBowl (zL Z) (Nat.le_refl 2) a0 V hV ho fin hf) (lw_V q2110 q2112 qs97 q131 q2113) (by decide +kernel) rfl (by omega) (by decide) rfl hcat hdg kk
noncomputable def M_bowl_4 : Nat → Int → Int → VV → Option (Int × VV)
  | 0, _, _, _ => none
  | n + 1, x1, x2, V => mb (M_questions V) fun r1 V2 => if r1 ≤ x2 then (some (x1, V2)) else (mb (M_isBowl x2 V2) fun r3 V4 => nm (α := Int) (if r3 = 0 then 0 else 1) fun v5 => nm (α := Int) (w32 (x1 + v5)) fun v6 => nm (w32 (x2 + 1)) fun v7 => M_bowl_4 n v6 v7 V4)
theorem WM_bowl_4 {Z : MZ} {d : Nat} (hX : MX Z cX4_bowl 3 (some .int) d 0) (hdd : 3 ≤ d) : ∀ n x1 x2 V, MG Z 4 [(0, (3, 0)), (1, (0, x1)), (2, (0, x2))] [] V (M_bowl_4 n x1 x2 V) := by
  intro n
  induction n with
  | zero => intro x1 x2 V; exact m_none
  | succ n ih =>
    intro x1 x2 V
    rw [M_bowl_4]
    refine m_iload_n hX 2 dX4_bowl_4 rfl rfl ?_
    refine m_aload_n hX 0 dX4_bowl_5 rfl rfl ?_
    refine cl_questions hX (by omega) (Nat.le_of_ble_eq_true rfl) dX4_bowl_6 fun r1 V2 => ?_
    refine m_icmp_ge hX 34 dX4_bowl_9 (by decide) (fun _ => ?_) (fun _ => ?_)
    · refine m_iload_n hX 1 dX4_bowl_34 rfl rfl ?_
      exact m_iret hX rfl dX4_bowl_35
    · refine m_iload_n hX 1 dX4_bowl_12 rfl rfl ?_
      refine m_aload_n hX 0 dX4_bowl_13 rfl rfl ?_
      refine m_iload_n hX 2 dX4_bowl_14 rfl rfl ?_
      refine cl_isBowl hX (by omega) (Nat.le_of_ble_eq_true rfl) dX4_bowl_15 fun r3 V4 => ?_
      refine m_join 26 (fun v5 => [(0, v5), (0, x1)]) (fun v5 => ?_) (fun hJ => ?_)
      · refine m_iadd hX dX4_bowl_26 ?_
        refine m_nmT fun v6 => ?_
        refine m_istore_n hX (lv' := [(1, (0, v6)), (0, (3, 0)), (2, (0, x2))]) dX4_bowl_27 rfl (by decide) rfl ?_
        refine m_iinc hX 2 dX4_bowl_28 rfl (by decide) fun v7 => m_lv (lv' := [(2, (0, v7)), (1, (0, v6)), (0, (3, 0))]) rfl ?_
        refine m_goto hX 4 dX4_bowl_31 (by decide) ?_
        exact m_sub [2, 1, 0] rfl (ih v6 v7 V4)
      · refine m_if_eqF hX 25 dX4_bowl_18 (by decide) (fun _ => ?_) (fun _ => ?_)
        · refine m_ic hX dX4_bowl_25 (by decide) (by decide) ?_
          exact hJ _
        · refine m_ic hX dX4_bowl_21 (by decide) (by decide) ?_
          refine m_goto hX 26 dX4_bowl_22 (by decide) ?_
          exact hJ _
noncomputable def M_bowl (V : VV) : Option (Int × VV) := M_bowl_4 FU 0 0 V
theorem WM_bowl (l : Launch) {d : Nat} (hdd : 3 ≤ d) (V : VV) (hV : okV V) (ho : oks []) (fin : Int × VV) (hf : M_bowl V = some fin) : mSpec l yX4_bowl cX4_bowl 3 (some .int) d 0 [(3, 0)] V fin := by
  refine m_enter (lv := [(0, (3, 0))]) (by decide) rfl (Nat.le_of_ble_eq_true rfl) rfl (fun Z hZ hX => ?_) hV (ho.c (okA.t 0)) fin hf
  unfold M_bowl
  refine m_ic hX dX4_bowl_0 (by decide) (by decide) ?_
  refine m_istore_n hX (lv' := [(1, (0, 0)), (0, (3, 0))]) dX4_bowl_1 rfl (by decide) rfl ?_
  refine m_ic hX dX4_bowl_2 (by decide) (by decide) ?_
  refine m_istore_n hX (lv' := [(2, (0, 0)), (1, (0, 0)), (0, (3, 0))]) dX4_bowl_3 rfl (by decide) rfl ?_
  exact m_sub [2, 1, 0] rfl (WM_bowl_4 hX hdd FU 0 0 V)
theorem cl_bowl {Z : MZ} {cc : ByteArray} {nL : Nat} {ret : Option FieldType} {d rk : Nat} {pc : Nat} {lv : List (Nat × AV)} {st : List AV} {V : VV} {g : Int → VV → Option (Int × VV)} (hX : MX Z cc nL ret d rk) (hdd : 4 ≤ d) (hcat : (st.map fun v => if v.1 = 1 then 2 else 1).sum ≤ 8) (hdg : decode cc pc = .ok (.invokevirtual 362, 3)) (kk : ∀ r V1, MG Z (pc + 3) lv ((0, r) :: st) V1 (g r V1)) : MG Z pc lv ((3, 0) :: st) V (mb (M_bowl V) g) :=
  m_callVi hX [] 0 (fun hV ho fin hf => WM_bowl (zL Z) (Nat.le_refl 3) V hV ho fin hf) (lw_V q2158 q2160 qs103 q131 q2161) (by decide +kernel) rfl (by omega) (by decide) rfl hcat hdg kk
noncomputable def M_replaces (x1 : Int) (x2 : Int) (V : VV) : Option (Int × VV) := ck x1 5201 <| nm (α := Int) (V 3 x1) fun v1 => ck x1 5201 <| nm (vup V 3 x1 x2) fun V2 => mb (M_good v1 V2) fun r3 V4 => some (r3, V4)
theorem WM_replaces (l : Launch) {d : Nat} (hdd : 2 ≤ d) (x1 : Int) (x2 : Int) (V : VV) (hV : okV V) (ho : oks [(0, x1), (0, x2)]) (fin : Int × VV) (hf : M_replaces x1 x2 V = some fin) : mSpec l yX4_replaces cX4_replaces 4 (some .int) d 0 [(3, 0), (0, x1), (0, x2)] V fin := by
  refine m_enter (lv := [(0, (3, 0)), (1, (0, x1)), (2, (0, x2))]) (by decide) rfl (Nat.le_of_ble_eq_true rfl) rfl (fun Z hZ hX => ?_) hV (ho.c (okA.t 0)) fin hf
  unfold M_replaces
  refine m_aload_n hX 0 dX4_replaces_0 rfl rfl ?_
  refine fg_3 hX dX4_replaces_1 ?_
  refine m_iload_n hX 1 dX4_replaces_4 rfl rfl ?_
  refine al_3 hX dX4_replaces_5 ?_
  refine m_nmT fun v1 => ?_
  refine m_istore_n hX (lv' := [(3, (0, v1)), (0, (3, 0)), (1, (0, x1)), (2, (0, x2))]) dX4_replaces_6 rfl (by decide) rfl ?_
  refine m_aload_n hX 1 dX4_replaces_7 rfl rfl ?_
  refine fg_3 hX dX4_replaces_8 ?_
  refine m_iload_n hX 2 dX4_replaces_11 rfl rfl ?_
  refine m_iload_n hX 3 dX4_replaces_12 rfl rfl ?_
  refine as_3 hX dX4_replaces_13 fun V2 => ?_
  refine m_aload_n hX 1 dX4_replaces_14 rfl rfl ?_
  refine m_iload_n hX 0 dX4_replaces_15 rfl rfl ?_
  refine cl_good hX (by omega) (Nat.le_of_ble_eq_true rfl) dX4_replaces_16 fun r3 V4 => ?_
  exact m_iret hX rfl dX4_replaces_19
theorem cl_replaces {Z : MZ} {cc : ByteArray} {nL : Nat} {ret : Option FieldType} {d rk : Nat} {pc : Nat} {lv : List (Nat × AV)} {st : List AV} {V : VV} {g : Int → VV → Option (Int × VV)} (hX : MX Z cc nL ret d rk) {a0 a1 : Int} (hdd : 3 ≤ d) (hcat : (st.map fun v => if v.1 = 1 then 2 else 1).sum ≤ 8) (hdg : decode cc pc = .ok (.invokevirtual 161, 3)) (kk : ∀ r V1, MG Z (pc + 3) lv ((0, r) :: st) V1 (g r V1)) : MG Z pc lv ((0, a1) :: (0, a0) :: (3, 0) :: st) V (mb (M_replaces a0 a1 V) g) :=
  m_callVi hX [(0, a0), (0, a1)] 2 (fun hV ho fin hf => WM_replaces (zL Z) (Nat.le_refl 2) a0 a1 V hV ho fin hf) (lw_V q1911 q1913 qs63 q131 q1914) (by decide +kernel) rfl (by omega) (by decide) rfl hcat hdg kk
noncomputable def M_question_19 (V : VV) : Option (Int × VV) := mb (M_refuses (-1) V) fun r1 V2 => some (r1, V2)
theorem WM_question_19 {Z : MZ} {d : Nat} (hX : MX Z cX4_question 5 (some .int) d 0) (hdd : 2 ≤ d) : ∀ V, MG Z 19 [(0, (3, 0))] [] V (M_question_19 V) := by
  intro V
  unfold M_question_19
  refine m_aload_n hX 0 dX4_question_19 rfl rfl ?_
  refine m_ic hX dX4_question_20 (by decide) (by decide) ?_
  refine cl_refuses hX (by omega) (Nat.le_of_ble_eq_true rfl) dX4_question_21 fun r1 V2 => ?_
  exact m_iret hX rfl dX4_question_24
noncomputable def M_question_72 (x1 : Int) (x2 : Int) (x3 : Int) (V : VV) : Option (Int × VV) := ck (w32 (0 + (w32 (5 * x3)))) 5201 <| nm (vup V 3 (w32 (0 + (w32 (5 * x3)))) x1) fun V1 => ck (w32 ((w32 (0 + (w32 (5 * x3)))) + 1)) 5201 <| nm (vup V1 3 (w32 ((w32 (0 + (w32 (5 * x3)))) + 1)) x2) fun V2 => nm (vup V2 3 390 (w32 ((V2 3 390) + 1))) fun V3 => mb (M_good x3 V3) fun r4 V5 => some (r4, V5)
theorem WM_question_72 {Z : MZ} {d : Nat} (hX : MX Z cX4_question 5 (some .int) d 0) (hdd : 2 ≤ d) : ∀ x1 x2 x3 V, MG Z 72 [(0, (3, 0)), (1, (0, x1)), (2, (0, x2)), (3, (0, x3))] [] V (M_question_72 x1 x2 x3 V) := by
  intro x1 x2 x3 V
  unfold M_question_72
  refine m_aload_n hX 0 dX4_question_72 rfl rfl ?_
  refine fg_3 hX dX4_question_73 ?_
  refine m_ic hX dX4_question_76 (by decide) (by decide) ?_
  refine m_ic hX dX4_question_77 (by decide) (by decide) ?_
  refine m_iload_n hX 3 dX4_question_78 rfl rfl ?_
  refine m_imul hX dX4_question_79 ?_
  refine m_iadd hX dX4_question_80 ?_
  refine m_iload_n hX 1 dX4_question_81 rfl rfl ?_
  refine as_3 hX dX4_question_82 fun V1 => ?_
  refine m_aload_n hX 0 dX4_question_83 rfl rfl ?_
  refine fg_3 hX dX4_question_84 ?_
  refine m_ic hX dX4_question_87 (by decide) (by decide) ?_
  refine m_ic hX dX4_question_88 (by decide) (by decide) ?_
  refine m_iload_n hX 3 dX4_question_89 rfl rfl ?_
  refine m_imul hX dX4_question_90 ?_
  refine m_iadd hX dX4_question_91 ?_
  refine m_ic hX dX4_question_92 (by decide) (by decide) ?_
  refine m_iadd hX dX4_question_93 ?_
  refine m_iload_n hX 2 dX4_question_94 rfl rfl ?_
  refine as_3 hX dX4_question_95 fun V2 => ?_
  refine m_aload_n hX 0 dX4_question_96 rfl rfl ?_
  refine fg_3 hX dX4_question_97 ?_
  refine m_sp hX dX4_question_100 (by decide) (by decide) ?_
  refine m_dup2 hX dX4_question_103 rfl rfl ?_
  refine m_in (by decide) (by decide) (al_3 hX dX4_question_104 ?_)
  refine m_ic hX dX4_question_105 (by decide) (by decide) ?_
  refine m_iadd hX dX4_question_106 ?_
  refine m_in (by decide) (by decide) (as_3 hX dX4_question_107 fun V3 => ?_)
  refine m_aload_n hX 0 dX4_question_108 rfl rfl ?_
  refine m_iload_n hX 3 dX4_question_109 rfl rfl ?_
  refine cl_good hX (by omega) (Nat.le_of_ble_eq_true rfl) dX4_question_110 fun r4 V5 => ?_
  exact m_iret hX rfl dX4_question_113
noncomputable def M_question_46 : Nat → Int → Int → Int → Int → VV → Option (Int × VV)
  | 0, _, _, _, _, _ => none
  | n + 1, x1, x2, x3, x4, V => if 5 ≤ x4 then (M_question_72 x1 x2 x3 V) else (ck (w32 ((w32 (0 + (w32 (5 * x3)))) + x4)) 5201 <| nm (vup V 3 (w32 ((w32 (0 + (w32 (5 * x3)))) + x4)) 0) fun V1 => nm (w32 (x4 + 1)) fun v2 => M_question_46 n x1 x2 x3 v2 V1)
theorem WM_question_46 {Z : MZ} {d : Nat} (hX : MX Z cX4_question 5 (some .int) d 0) (hdd : 2 ≤ d) : ∀ n x1 x2 x3 x4 V, MG Z 46 [(0, (3, 0)), (1, (0, x1)), (2, (0, x2)), (3, (0, x3)), (4, (0, x4))] [] V (M_question_46 n x1 x2 x3 x4 V) := by
  intro n
  induction n with
  | zero => intro x1 x2 x3 x4 V; exact m_none
  | succ n ih =>
    intro x1 x2 x3 x4 V
    rw [M_question_46]
    refine m_iload hX 4 dX4_question_46 rfl ?_
    refine m_ic hX dX4_question_48 (by decide) (by decide) ?_
    refine m_icmp_ge hX 72 dX4_question_49 (by decide) (fun _ => ?_) (fun _ => ?_)
    · exact m_sub [0, 1, 2, 3] rfl (WM_question_72 hX hdd x1 x2 x3 V)
    · refine m_aload_n hX 0 dX4_question_52 rfl rfl ?_
      refine fg_3 hX dX4_question_53 ?_
      refine m_ic hX dX4_question_56 (by decide) (by decide) ?_
      refine m_ic hX dX4_question_57 (by decide) (by decide) ?_
      refine m_iload_n hX 3 dX4_question_58 rfl rfl ?_
      refine m_imul hX dX4_question_59 ?_
      refine m_iadd hX dX4_question_60 ?_
      refine m_iload hX 4 dX4_question_61 rfl ?_
      refine m_iadd hX dX4_question_63 ?_
      refine m_ic hX dX4_question_64 (by decide) (by decide) ?_
      refine as_3 hX dX4_question_65 fun V1 => ?_
      refine m_iinc hX 4 dX4_question_66 rfl (by decide) fun v2 => m_lv (lv' := [(4, (0, v2)), (0, (3, 0)), (1, (0, x1)), (2, (0, x2)), (3, (0, x3))]) rfl ?_
      refine m_goto hX 46 dX4_question_69 (by decide) ?_
      exact m_sub [1, 2, 3, 4, 0] rfl (ih x1 x2 x3 v2 V1)
noncomputable def M_question (x1 : Int) (x2 : Int) (V : VV) : Option (Int × VV) := mb (M_lies x1 0 4 V) fun r1 V2 => if r1 = 0 then (M_question_19 V2) else (mb (M_lies x2 1 99 V2) fun r3 V4 => if r3 = 0 then (M_question_19 V4) else (mb (M_questions V4) fun r5 V6 => if r5 = 20 then (mb (M_refuses (-5) V6) fun r7 V8 => some (r7, V8)) else (M_question_46 FU x1 x2 r5 0 V6)))
theorem WM_question (l : Launch) {d : Nat} (hdd : 2 ≤ d) (x1 : Int) (x2 : Int) (V : VV) (hV : okV V) (ho : oks [(0, x1), (0, x2)]) (fin : Int × VV) (hf : M_question x1 x2 V = some fin) : mSpec l yX4_question cX4_question 5 (some .int) d 0 [(3, 0), (0, x1), (0, x2)] V fin := by
  refine m_enter (lv := [(0, (3, 0)), (1, (0, x1)), (2, (0, x2))]) (by decide) rfl (Nat.le_of_ble_eq_true rfl) rfl (fun Z hZ hX => ?_) hV (ho.c (okA.t 0)) fin hf
  unfold M_question
  refine m_iload_n hX 1 dX4_question_0 rfl rfl ?_
  refine m_ic hX dX4_question_1 (by decide) (by decide) ?_
  refine m_ic hX dX4_question_2 (by decide) (by decide) ?_
  refine cl_lies hX (by omega) (Nat.le_of_ble_eq_true rfl) dX4_question_3 fun r1 V2 => ?_
  refine m_if_eq hX 19 dX4_question_6 (by decide) (fun _ => ?_) (fun _ => ?_)
  · exact m_sub [0] rfl (WM_question_19 hX hdd V2)
  · refine m_iload_n hX 2 dX4_question_9 rfl rfl ?_
    refine m_ic hX dX4_question_10 (by decide) (by decide) ?_
    refine m_bp hX dX4_question_11 (by decide) (by decide) ?_
    refine cl_lies hX (by omega) (Nat.le_of_ble_eq_true rfl) dX4_question_13 fun r3 V4 => ?_
    refine m_if_ne hX 25 dX4_question_16 (by decide) (fun _ => ?_) (fun _ => ?_)
    · refine m_aload_n hX 0 dX4_question_25 rfl rfl ?_
      refine cl_questions hX (by omega) (Nat.le_of_ble_eq_true rfl) dX4_question_26 fun r5 V6 => ?_
      refine m_istore_n hX (lv' := [(3, (0, r5)), (0, (3, 0)), (1, (0, x1)), (2, (0, x2))]) dX4_question_29 rfl (by decide) rfl ?_
      refine m_iload_n hX 0 dX4_question_30 rfl rfl ?_
      refine m_bp hX dX4_question_31 (by decide) (by decide) ?_
      refine m_icmp_ne hX 43 dX4_question_33 (by decide) (fun _ => ?_) (fun _ => ?_)
      · refine m_ic hX dX4_question_43 (by decide) (by decide) ?_
        refine m_istore hX (lv' := [(4, (0, 0)), (3, (0, r5)), (0, (3, 0)), (1, (0, x1)), (2, (0, x2))]) dX4_question_44 (by decide) rfl ?_
        exact m_sub [2, 3, 4, 1, 0] rfl (WM_question_46 hX hdd FU x1 x2 r5 0 V6)
      · refine m_aload_n hX 1 dX4_question_36 rfl rfl ?_
        refine m_bp hX dX4_question_37 (by decide) (by decide) ?_
        refine cl_refuses hX (by omega) (Nat.le_of_ble_eq_true rfl) dX4_question_39 fun r7 V8 => ?_
        exact m_iret hX rfl dX4_question_42
    · exact m_sub [0] rfl (WM_question_19 hX hdd V4)
-- question: not called inside
noncomputable def M_know_26 (V : VV) : Option (Int × VV) := mb (M_refuses (-1) V) fun r1 V2 => some (r1, V2)
theorem WM_know_26 {Z : MZ} {d : Nat} (hX : MX Z cX4_know 4 (some .int) d 0) (hdd : 3 ≤ d) : ∀ V, MG Z 26 [(0, (3, 0))] [] V (M_know_26 V) := by
  intro V
  unfold M_know_26
  refine m_aload_n hX 0 dX4_know_26 rfl rfl ?_
  refine m_ic hX dX4_know_27 (by decide) (by decide) ?_
  refine cl_refuses hX (by omega) (Nat.le_of_ble_eq_true rfl) dX4_know_28 fun r1 V2 => ?_
  exact m_iret hX rfl dX4_know_31
noncomputable def M_know (x1 : Int) (x2 : Int) (x3 : Int) (V : VV) : Option (Int × VV) := mb (M_lies x2 0 2 V) fun r1 V2 => if r1 = 0 then (M_know_26 V2) else (nm (α := Int) (if x2 = 0 then 2 else 1) fun v3 => mb (M_lies x3 0 v3 V2) fun r4 V5 => if r4 = 0 then (M_know_26 V5) else (mb (M_isQuestion x1 V5) fun r6 V7 => if r6 = 0 then (mb (M_refuses (-2) V7) fun r10 V11 => some (r10, V11)) else (mb (M_replaces (w32 ((w32 ((w32 (0 + (w32 (5 * x1)))) + 2)) + x2)) x3 V7) fun r8 V9 => some (r8, V9))))
theorem WM_know (l : Launch) {d : Nat} (hdd : 3 ≤ d) (x1 : Int) (x2 : Int) (x3 : Int) (V : VV) (hV : okV V) (ho : oks [(0, x1), (0, x2), (0, x3)]) (fin : Int × VV) (hf : M_know x1 x2 x3 V = some fin) : mSpec l yX4_know cX4_know 4 (some .int) d 0 [(3, 0), (0, x1), (0, x2), (0, x3)] V fin := by
  refine m_enter (lv := [(0, (3, 0)), (1, (0, x1)), (2, (0, x2)), (3, (0, x3))]) (by decide) rfl (Nat.le_of_ble_eq_true rfl) rfl (fun Z hZ hX => ?_) hV (ho.c (okA.t 0)) fin hf
  unfold M_know
  refine m_iload_n hX 2 dX4_know_0 rfl rfl ?_
  refine m_ic hX dX4_know_1 (by decide) (by decide) ?_
  refine m_ic hX dX4_know_2 (by decide) (by decide) ?_
  refine cl_lies hX (by omega) (Nat.le_of_ble_eq_true rfl) dX4_know_3 fun r1 V2 => ?_
  refine m_if_eq hX 26 dX4_know_6 (by decide) (fun _ => ?_) (fun _ => ?_)
  · exact m_sub [0] rfl (WM_know_26 hX hdd V2)
  · refine m_iload_n hX 3 dX4_know_9 rfl rfl ?_
    refine m_ic hX dX4_know_10 (by decide) (by decide) ?_
    refine m_iload_n hX 2 dX4_know_11 rfl rfl ?_
    refine m_join 20 (fun v3 => [(0, v3), (0, 0), (0, x3)]) (fun v3 => ?_) (fun hJ => ?_)
    · refine cl_lies hX (by omega) (Nat.le_of_ble_eq_true rfl) dX4_know_20 fun r4 V5 => ?_
      refine m_if_ne hX 32 dX4_know_23 (by decide) (fun _ => ?_) (fun _ => ?_)
      · refine m_aload_n hX 0 dX4_know_32 rfl rfl ?_
        refine m_iload_n hX 1 dX4_know_33 rfl rfl ?_
        refine cl_isQuestion hX (by omega) (Nat.le_of_ble_eq_true rfl) dX4_know_34 fun r6 V7 => ?_
        refine m_if_ne hX 47 dX4_know_37 (by decide) (fun _ => ?_) (fun _ => ?_)
        · refine m_aload_n hX 0 dX4_know_47 rfl rfl ?_
          refine m_ic hX dX4_know_48 (by decide) (by decide) ?_
          refine m_ic hX dX4_know_49 (by decide) (by decide) ?_
          refine m_iload_n hX 1 dX4_know_50 rfl rfl ?_
          refine m_imul hX dX4_know_51 ?_
          refine m_iadd hX dX4_know_52 ?_
          refine m_ic hX dX4_know_53 (by decide) (by decide) ?_
          refine m_iadd hX dX4_know_54 ?_
          refine m_iload_n hX 2 dX4_know_55 rfl rfl ?_
          refine m_iadd hX dX4_know_56 ?_
          refine m_iload_n hX 3 dX4_know_57 rfl rfl ?_
          refine cl_replaces hX (by omega) (Nat.le_of_ble_eq_true rfl) dX4_know_58 fun r8 V9 => ?_
          exact m_iret hX rfl dX4_know_61
        · refine m_aload_n hX 0 dX4_know_40 rfl rfl ?_
          refine m_bp hX dX4_know_41 (by decide) (by decide) ?_
          refine cl_refuses hX (by omega) (Nat.le_of_ble_eq_true rfl) dX4_know_43 fun r10 V11 => ?_
          exact m_iret hX rfl dX4_know_46
      · exact m_sub [0] rfl (WM_know_26 hX hdd V5)
    · refine m_if_neF hX 19 dX4_know_12 (by decide) (fun _ => ?_) (fun _ => ?_)
      · refine m_ic hX dX4_know_19 (by decide) (by decide) ?_
        exact hJ _
      · refine m_ic hX dX4_know_15 (by decide) (by decide) ?_
        refine m_goto hX 20 dX4_know_16 (by decide) ?_
        exact hJ _
-- know: not called inside
noncomputable def M_of (x1 : Int) (x2 : Int) (V : VV) : Option (Int × VV) := mb (M_isQuestion x1 V) fun r1 V2 => if r1 = 0 then (some ((-1), V2)) else (mb (M_lies x2 0 4 V2) fun r3 V4 => if r3 = 0 then (some ((-1), V4)) else (mb (M_factOf x1 x2 V4) fun r5 V6 => some (r5, V6)))
theorem WM_of (l : Launch) {d : Nat} (hdd : 3 ≤ d) (x1 : Int) (x2 : Int) (V : VV) (hV : okV V) (ho : oks [(0, x1), (0, x2)]) (fin : Int × VV) (hf : M_of x1 x2 V = some fin) : mSpec l yX4_of cX4_of 3 (some .int) d 0 [(3, 0), (0, x1), (0, x2)] V fin := by
  refine m_enter (lv := [(0, (3, 0)), (1, (0, x1)), (2, (0, x2))]) (by decide) rfl (Nat.le_of_ble_eq_true rfl) rfl (fun Z hZ hX => ?_) hV (ho.c (okA.t 0)) fin hf
  unfold M_of
  refine m_aload_n hX 0 dX4_of_0 rfl rfl ?_
  refine m_iload_n hX 1 dX4_of_1 rfl rfl ?_
  refine cl_isQuestion hX (by omega) (Nat.le_of_ble_eq_true rfl) dX4_of_2 fun r1 V2 => ?_
  refine m_if_eq hX 26 dX4_of_5 (by decide) (fun _ => ?_) (fun _ => ?_)
  · refine m_ic hX dX4_of_26 (by decide) (by decide) ?_
    exact m_iret hX rfl dX4_of_27
  · refine m_iload_n hX 2 dX4_of_8 rfl rfl ?_
    refine m_ic hX dX4_of_9 (by decide) (by decide) ?_
    refine m_ic hX dX4_of_10 (by decide) (by decide) ?_
    refine cl_lies hX (by omega) (Nat.le_of_ble_eq_true rfl) dX4_of_11 fun r3 V4 => ?_
    refine m_if_eq hX 26 dX4_of_14 (by decide) (fun _ => ?_) (fun _ => ?_)
    · refine m_ic hX dX4_of_26 (by decide) (by decide) ?_
      exact m_iret hX rfl dX4_of_27
    · refine m_aload_n hX 0 dX4_of_17 rfl rfl ?_
      refine m_iload_n hX 1 dX4_of_18 rfl rfl ?_
      refine m_iload_n hX 2 dX4_of_19 rfl rfl ?_
      refine cl_factOf hX (by omega) (Nat.le_of_ble_eq_true rfl) dX4_of_20 fun r5 V6 => ?_
      refine m_goto hX 27 dX4_of_23 (by decide) ?_
      exact m_iret hX rfl dX4_of_27
-- of: not called inside
noncomputable def M_leastOf (x0 : Int) (V : VV) : Option (Int × VV) := nm (α := Int) (if x0 < 3 then 1 else (if x0 = 5 then 1 else 0)) fun v1 => some (v1, V)
theorem WM_leastOf (l : Launch) {d : Nat} (hdd : 1 ≤ d) (x0 : Int) (V : VV) (hV : okV V) (ho : oks [(0, x0)]) (fin : Int × VV) (hf : M_leastOf x0 V = some fin) : mSpec l yX4_leastOf cX4_leastOf 1 (some .int) d 0 [(0, x0)] V fin := by
  refine m_enter (lv := [(0, (0, x0))]) (by decide) rfl (Nat.le_of_ble_eq_true rfl) rfl (fun Z hZ hX => ?_) hV ho fin hf
  unfold M_leastOf
  refine m_iload_n hX 0 dX4_leastOf_0 rfl rfl ?_
  refine m_ic hX dX4_leastOf_1 (by decide) (by decide) ?_
  refine m_join 15 (fun v1 => [(0, v1)]) (fun v1 => ?_) (fun hJ => ?_)
  · exact m_iret hX rfl dX4_leastOf_15
  · refine m_icmp_ltF hX 10 dX4_leastOf_2 (by decide) (fun _ => ?_) (fun _ => ?_)
    · refine m_ic hX dX4_leastOf_10 (by decide) (by decide) ?_
      refine m_goto hX 15 dX4_leastOf_11 (by decide) ?_
      exact hJ _
    · refine m_iload_n hX 0 dX4_leastOf_5 rfl rfl ?_
      refine m_ic hX dX4_leastOf_6 (by decide) (by decide) ?_
      refine m_icmp_neF hX 14 dX4_leastOf_7 (by decide) (fun _ => ?_) (fun _ => ?_)
      · refine m_ic hX dX4_leastOf_14 (by decide) (by decide) ?_
        exact hJ _
      · refine m_ic hX dX4_leastOf_10 (by decide) (by decide) ?_
        refine m_goto hX 15 dX4_leastOf_11 (by decide) ?_
        exact hJ _
theorem cl_leastOf {Z : MZ} {cc : ByteArray} {nL : Nat} {ret : Option FieldType} {d rk : Nat} {pc : Nat} {lv : List (Nat × AV)} {st : List AV} {V : VV} {g : Int → VV → Option (Int × VV)} (hX : MX Z cc nL ret d rk) {a0 : Int} (hdd : 2 ≤ d) (hcat : (st.map fun v => if v.1 = 1 then 2 else 1).sum ≤ 8) (hdg : decode cc pc = .ok (.invokestatic 164, 3)) (kk : ∀ r V1, MG Z (pc + 3) lv ((0, r) :: st) V1 (g r V1)) : MG Z pc lv ((0, a0) :: st) V (mb (M_leastOf a0 V) g) :=
  m_callSi hX [(0, a0)] 1 (fun hV ho fin hf => WM_leastOf (zL Z) (Nat.le_refl 1) a0 V hV ho fin hf) (lw_S q1927 q1928 q131 q1929) (by decide +kernel) rfl (by omega) (by decide) rfl hcat hdg kk
noncomputable def M_mostOf (x0 : Int) (V : VV) : Option (Int × VV) := nm (α := Int) (if x0 = 0 then 10 else (if 3 ≤ x0 then (if 5 ≤ x0 then (if x0 = 5 then 20 else 16) else 100) else 3)) fun v1 => some (v1, V)
theorem WM_mostOf (l : Launch) {d : Nat} (hdd : 1 ≤ d) (x0 : Int) (V : VV) (hV : okV V) (ho : oks [(0, x0)]) (fin : Int × VV) (hf : M_mostOf x0 V = some fin) : mSpec l yX4_mostOf cX4_mostOf 1 (some .int) d 0 [(0, x0)] V fin := by
  refine m_enter (lv := [(0, (0, x0))]) (by decide) rfl (Nat.le_of_ble_eq_true rfl) rfl (fun Z hZ hX => ?_) hV ho fin hf
  unfold M_mostOf
  refine m_iload_n hX 0 dX4_mostOf_0 rfl rfl ?_
  refine m_join 40 (fun v1 => [(0, v1)]) (fun v1 => ?_) (fun hJ => ?_)
  · exact m_iret hX rfl dX4_mostOf_40
  · refine m_if_neF hX 9 dX4_mostOf_1 (by decide) (fun _ => ?_) (fun _ => ?_)
    · refine m_iload_n hX 0 dX4_mostOf_9 rfl rfl ?_
      refine m_ic hX dX4_mostOf_10 (by decide) (by decide) ?_
      refine m_icmp_geF hX 18 dX4_mostOf_11 (by decide) (fun _ => ?_) (fun _ => ?_)
      · refine m_iload_n hX 0 dX4_mostOf_18 rfl rfl ?_
        refine m_ic hX dX4_mostOf_19 (by decide) (by decide) ?_
        refine m_icmp_geF hX 28 dX4_mostOf_20 (by decide) (fun _ => ?_) (fun _ => ?_)
        · refine m_iload_n hX 0 dX4_mostOf_28 rfl rfl ?_
          refine m_ic hX dX4_mostOf_29 (by decide) (by decide) ?_
          refine m_icmp_neF hX 38 dX4_mostOf_30 (by decide) (fun _ => ?_) (fun _ => ?_)
          · refine m_bp hX dX4_mostOf_38 (by decide) (by decide) ?_
            exact hJ _
          · refine m_bp hX dX4_mostOf_33 (by decide) (by decide) ?_
            refine m_goto hX 40 dX4_mostOf_35 (by decide) ?_
            exact hJ _
        · refine m_bp hX dX4_mostOf_23 (by decide) (by decide) ?_
          refine m_goto hX 40 dX4_mostOf_25 (by decide) ?_
          exact hJ _
      · refine m_ic hX dX4_mostOf_14 (by decide) (by decide) ?_
        refine m_goto hX 40 dX4_mostOf_15 (by decide) ?_
        exact hJ _
    · refine m_bp hX dX4_mostOf_4 (by decide) (by decide) ?_
      refine m_goto hX 40 dX4_mostOf_6 (by decide) ?_
      exact hJ _
theorem cl_mostOf {Z : MZ} {cc : ByteArray} {nL : Nat} {ret : Option FieldType} {d rk : Nat} {pc : Nat} {lv : List (Nat × AV)} {st : List AV} {V : VV} {g : Int → VV → Option (Int × VV)} (hX : MX Z cc nL ret d rk) {a0 : Int} (hdd : 2 ≤ d) (hcat : (st.map fun v => if v.1 = 1 then 2 else 1).sum ≤ 8) (hdg : decode cc pc = .ok (.invokestatic 167, 3)) (kk : ∀ r V1, MG Z (pc + 3) lv ((0, r) :: st) V1 (g r V1)) : MG Z pc lv ((0, a0) :: st) V (mb (M_mostOf a0 V) g) :=
  m_callSi hX [(0, a0)] 1 (fun hV ho fin hf => WM_mostOf (zL Z) (Nat.le_refl 1) a0 V hV ho fin hf) (lw_S q1930 q1931 q131 q1932) (by decide +kernel) rfl (by omega) (by decide) rfl hcat hdg kk
noncomputable def M_terms_25 (V : VV) : Option (Int × VV) := mb (M_refuses (-1) V) fun r1 V2 => some (r1, V2)
theorem WM_terms_25 {Z : MZ} {d : Nat} (hX : MX Z cX4_terms 3 (some .int) d 0) (hdd : 3 ≤ d) : ∀ V, MG Z 25 [(0, (3, 0))] [] V (M_terms_25 V) := by
  intro V
  unfold M_terms_25
  refine m_aload_n hX 0 dX4_terms_25 rfl rfl ?_
  refine m_ic hX dX4_terms_26 (by decide) (by decide) ?_
  refine cl_refuses hX (by omega) (Nat.le_of_ble_eq_true rfl) dX4_terms_27 fun r1 V2 => ?_
  exact m_iret hX rfl dX4_terms_30
noncomputable def M_terms (x1 : Int) (x2 : Int) (V : VV) : Option (Int × VV) := mb (M_lies x1 0 6 V) fun r1 V2 => if r1 = 0 then (M_terms_25 V2) else (mb (M_leastOf x1 V2) fun r3 V4 => mb (M_mostOf x1 V4) fun r5 V6 => mb (M_lies x2 r3 r5 V6) fun r7 V8 => if r7 = 0 then (M_terms_25 V8) else (mb (M_replaces (w32 (100 + x1)) x2 V8) fun r9 V10 => some (r9, V10)))
theorem WM_terms (l : Launch) {d : Nat} (hdd : 3 ≤ d) (x1 : Int) (x2 : Int) (V : VV) (hV : okV V) (ho : oks [(0, x1), (0, x2)]) (fin : Int × VV) (hf : M_terms x1 x2 V = some fin) : mSpec l yX4_terms cX4_terms 3 (some .int) d 0 [(3, 0), (0, x1), (0, x2)] V fin := by
  refine m_enter (lv := [(0, (3, 0)), (1, (0, x1)), (2, (0, x2))]) (by decide) rfl (Nat.le_of_ble_eq_true rfl) rfl (fun Z hZ hX => ?_) hV (ho.c (okA.t 0)) fin hf
  unfold M_terms
  refine m_iload_n hX 1 dX4_terms_0 rfl rfl ?_
  refine m_ic hX dX4_terms_1 (by decide) (by decide) ?_
  refine m_bp hX dX4_terms_2 (by decide) (by decide) ?_
  refine cl_lies hX (by omega) (Nat.le_of_ble_eq_true rfl) dX4_terms_4 fun r1 V2 => ?_
  refine m_if_eq hX 25 dX4_terms_7 (by decide) (fun _ => ?_) (fun _ => ?_)
  · exact m_sub [0] rfl (WM_terms_25 hX hdd V2)
  · refine m_iload_n hX 2 dX4_terms_10 rfl rfl ?_
    refine m_iload_n hX 1 dX4_terms_11 rfl rfl ?_
    refine cl_leastOf hX (by omega) (Nat.le_of_ble_eq_true rfl) dX4_terms_12 fun r3 V4 => ?_
    refine m_iload_n hX 1 dX4_terms_15 rfl rfl ?_
    refine cl_mostOf hX (by omega) (Nat.le_of_ble_eq_true rfl) dX4_terms_16 fun r5 V6 => ?_
    refine cl_lies hX (by omega) (Nat.le_of_ble_eq_true rfl) dX4_terms_19 fun r7 V8 => ?_
    refine m_if_ne hX 31 dX4_terms_22 (by decide) (fun _ => ?_) (fun _ => ?_)
    · refine m_aload_n hX 0 dX4_terms_31 rfl rfl ?_
      refine m_bp hX dX4_terms_32 (by decide) (by decide) ?_
      refine m_iload_n hX 1 dX4_terms_34 rfl rfl ?_
      refine m_iadd hX dX4_terms_35 ?_
      refine m_iload_n hX 2 dX4_terms_36 rfl rfl ?_
      refine cl_replaces hX (by omega) (Nat.le_of_ble_eq_true rfl) dX4_terms_37 fun r9 V10 => ?_
      exact m_iret hX rfl dX4_terms_40
    · exact m_sub [0] rfl (WM_terms_25 hX hdd V8)
-- terms: not called inside
noncomputable def M_feed_101 (V : VV) : Option (Int × VV) := nm (vup V 9 0 (w32 ((V 9 0) + 20))) fun V1 => some (V1 9 0, V1)
theorem WM_feed_101 {Z : MZ} {d : Nat} (hX : MX Z cX4_feed 7 (some .int) d 0) (hdd : 1 ≤ d) : ∀ V, MG Z 101 [(0, (3, 0))] [] V (M_feed_101 V) := by
  intro V
  unfold M_feed_101
  refine m_aload_n hX 0 dX4_feed_101 rfl rfl ?_
  refine m_dup hX dX4_feed_102 rfl ?_
  refine fg_9 hX dX4_feed_103 ?_
  refine m_bp hX dX4_feed_106 (by decide) (by decide) ?_
  refine m_iadd hX dX4_feed_108 ?_
  refine fp_9 hX dX4_feed_109 fun V1 => ?_
  refine m_aload_n hX 0 dX4_feed_112 rfl rfl ?_
  refine fg_9 hX dX4_feed_113 ?_
  exact m_iret hX rfl dX4_feed_116
noncomputable def M_feed_55 : Nat → Int → VV → Option (Int × VV)
  | 0, _, _ => none
  | n + 1, x6, V => if 20 ≤ x6 then (M_feed_101 V) else (ck (w32 (x6.tdiv 4)) 5 <| ck (w32 ((V 9 0) + x6)) 400 <| nm (vup V 7 (w32 ((V 9 0) + x6)) (w8 (w8 (ishr (V 8 (w32 (x6.tdiv 4))) (w32 (24 - (w32 (8 * (x6.tmod 4))))))))) fun V1 => nm (w32 (x6 + 1)) fun v2 => M_feed_55 n v2 V1)
theorem WM_feed_55 {Z : MZ} {d : Nat} (hX : MX Z cX4_feed 7 (some .int) d 0) (hdd : 1 ≤ d) : ∀ n x6 V, MG Z 55 [(0, (3, 0)), (6, (0, x6))] [] V (M_feed_55 n x6 V) := by
  intro n
  induction n with
  | zero => intro x6 V; exact m_none
  | succ n ih =>
    intro x6 V
    rw [M_feed_55]
    refine m_iload hX 1 dX4_feed_55 rfl ?_
    refine m_bp hX dX4_feed_57 (by decide) (by decide) ?_
    refine m_icmp_ge hX 101 dX4_feed_59 (by decide) (fun _ => ?_) (fun _ => ?_)
    · exact m_sub [0] rfl (WM_feed_101 hX hdd V)
    · refine m_aload_n hX 0 dX4_feed_62 rfl rfl ?_
      refine fg_7 hX dX4_feed_63 ?_
      refine m_aload_n hX 0 dX4_feed_66 rfl rfl ?_
      refine fg_9 hX dX4_feed_67 ?_
      refine m_iload hX 1 dX4_feed_70 rfl ?_
      refine m_iadd hX dX4_feed_72 ?_
      refine m_aload_n hX 0 dX4_feed_73 rfl rfl ?_
      refine fg_8 hX dX4_feed_74 ?_
      refine m_iload hX 1 dX4_feed_77 rfl ?_
      refine m_ic hX dX4_feed_79 (by decide) (by decide) ?_
      refine m_nz (b := 4) (by decide) (m_idiv hX dX4_feed_80 ?_)
      refine al_8 hX dX4_feed_81 ?_
      refine m_bp hX dX4_feed_82 (by decide) (by decide) ?_
      refine m_bp hX dX4_feed_84 (by decide) (by decide) ?_
      refine m_iload hX 1 dX4_feed_86 rfl ?_
      refine m_ic hX dX4_feed_88 (by decide) (by decide) ?_
      refine m_nz (b := 4) (by decide) (m_irem hX dX4_feed_89 ?_)
      refine m_imul hX dX4_feed_90 ?_
      refine m_isub hX dX4_feed_91 ?_
      refine m_ishr hX dX4_feed_92 ?_
      refine m_i2b hX dX4_feed_93 ?_
      refine as_7 hX dX4_feed_94 fun V1 => ?_
      refine m_iinc hX 1 dX4_feed_95 rfl (by decide) fun v2 => m_lv (lv' := [(6, (0, v2)), (0, (3, 0))]) rfl ?_
      refine m_goto hX 55 dX4_feed_98 (by decide) ?_
      exact m_sub [1, 0] rfl (ih v2 V1)
noncomputable def M_feed (x1 : Int) (x2 : Int) (x3 : Int) (x4 : Int) (x5 : Int) (V : VV) : Option (Int × VV) := if w32 ((V 9 0) + 20) ≤ 400 then (nm (vup V 8 0 x1) fun V1 => nm (vup V1 8 1 x2) fun V2 => nm (vup V2 8 2 x3) fun V3 => nm (vup V3 8 3 x4) fun V4 => nm (vup V4 8 4 x5) fun V5 => M_feed_55 FU 0 V5) else (some ((-1), V))
theorem WM_feed (l : Launch) {d : Nat} (hdd : 1 ≤ d) (x1 : Int) (x2 : Int) (x3 : Int) (x4 : Int) (x5 : Int) (V : VV) (hV : okV V) (ho : oks [(0, x1), (0, x2), (0, x3), (0, x4), (0, x5)]) (fin : Int × VV) (hf : M_feed x1 x2 x3 x4 x5 V = some fin) : mSpec l yX4_feed cX4_feed 7 (some .int) d 0 [(3, 0), (0, x1), (0, x2), (0, x3), (0, x4), (0, x5)] V fin := by
  refine m_enter (lv := [(0, (3, 0)), (1, (0, x1)), (2, (0, x2)), (3, (0, x3)), (4, (0, x4)), (5, (0, x5))]) (by decide) rfl (Nat.le_of_ble_eq_true rfl) rfl (fun Z hZ hX => ?_) hV (ho.c (okA.t 0)) fin hf
  unfold M_feed
  refine m_aload_n hX 0 dX4_feed_0 rfl rfl ?_
  refine fg_9 hX dX4_feed_1 ?_
  refine m_bp hX dX4_feed_4 (by decide) (by decide) ?_
  refine m_iadd hX dX4_feed_6 ?_
  refine m_sp hX dX4_feed_7 (by decide) (by decide) ?_
  refine m_icmp_le hX 15 dX4_feed_10 (by decide) (fun _ => ?_) (fun _ => ?_)
  · refine m_aload_n hX 0 dX4_feed_15 rfl rfl ?_
    refine fg_8 hX dX4_feed_16 ?_
    refine m_ic hX dX4_feed_19 (by decide) (by decide) ?_
    refine m_iload_n hX 1 dX4_feed_20 rfl rfl ?_
    refine m_in (by decide) (by decide) (as_8 hX dX4_feed_21 fun V1 => ?_)
    refine m_aload_n hX 0 dX4_feed_22 rfl rfl ?_
    refine fg_8 hX dX4_feed_23 ?_
    refine m_ic hX dX4_feed_26 (by decide) (by decide) ?_
    refine m_iload_n hX 2 dX4_feed_27 rfl rfl ?_
    refine m_in (by decide) (by decide) (as_8 hX dX4_feed_28 fun V2 => ?_)
    refine m_aload_n hX 0 dX4_feed_29 rfl rfl ?_
    refine fg_8 hX dX4_feed_30 ?_
    refine m_ic hX dX4_feed_33 (by decide) (by decide) ?_
    refine m_iload_n hX 3 dX4_feed_34 rfl rfl ?_
    refine m_in (by decide) (by decide) (as_8 hX dX4_feed_35 fun V3 => ?_)
    refine m_aload_n hX 0 dX4_feed_36 rfl rfl ?_
    refine fg_8 hX dX4_feed_37 ?_
    refine m_ic hX dX4_feed_40 (by decide) (by decide) ?_
    refine m_iload hX 4 dX4_feed_41 rfl ?_
    refine m_in (by decide) (by decide) (as_8 hX dX4_feed_43 fun V4 => ?_)
    refine m_aload_n hX 0 dX4_feed_44 rfl rfl ?_
    refine fg_8 hX dX4_feed_45 ?_
    refine m_ic hX dX4_feed_48 (by decide) (by decide) ?_
    refine m_iload hX 5 dX4_feed_49 rfl ?_
    refine m_in (by decide) (by decide) (as_8 hX dX4_feed_51 fun V5 => ?_)
    refine m_ic hX dX4_feed_52 (by decide) (by decide) ?_
    refine m_istore hX (lv' := [(6, (0, 0)), (0, (3, 0)), (1, (0, x1)), (2, (0, x2)), (3, (0, x3)), (4, (0, x4)), (5, (0, x5))]) dX4_feed_53 (by decide) rfl ?_
    exact m_sub [1, 0] rfl (WM_feed_55 hX hdd FU 0 V5)
  · refine m_ic hX dX4_feed_13 (by decide) (by decide) ?_
    exact m_iret hX rfl dX4_feed_14
-- feed: not called inside
noncomputable def M_end (x1 : Int) (V : VV) : Option (Int × VV) := mb (M_lies x1 0 (V 9 0) V) fun r1 V2 => if r1 = 0 then (some ((-1), V2)) else (nm (vup V2 9 0 x1) fun V3 => some (x1, V3))
theorem WM_end (l : Launch) {d : Nat} (hdd : 2 ≤ d) (x1 : Int) (V : VV) (hV : okV V) (ho : oks [(0, x1)]) (fin : Int × VV) (hf : M_end x1 V = some fin) : mSpec l yX4_end cX4_end 2 (some .int) d 0 [(3, 0), (0, x1)] V fin := by
  refine m_enter (lv := [(0, (3, 0)), (1, (0, x1))]) (by decide) rfl (Nat.le_of_ble_eq_true rfl) rfl (fun Z hZ hX => ?_) hV (ho.c (okA.t 0)) fin hf
  unfold M_end
  refine m_iload_n hX 1 dX4_end_0 rfl rfl ?_
  refine m_ic hX dX4_end_1 (by decide) (by decide) ?_
  refine m_aload_n hX 0 dX4_end_2 rfl rfl ?_
  refine fg_9 hX dX4_end_3 ?_
  refine cl_lies hX (by omega) (Nat.le_of_ble_eq_true rfl) dX4_end_6 fun r1 V2 => ?_
  refine m_if_ne hX 14 dX4_end_9 (by decide) (fun _ => ?_) (fun _ => ?_)
  · refine m_aload_n hX 0 dX4_end_14 rfl rfl ?_
    refine m_iload_n hX 1 dX4_end_15 rfl rfl ?_
    refine fp_9 hX dX4_end_16 fun V3 => ?_
    refine m_iload_n hX 1 dX4_end_19 rfl rfl ?_
    exact m_iret hX rfl dX4_end_20
  · refine m_ic hX dX4_end_12 (by decide) (by decide) ?_
    exact m_iret hX rfl dX4_end_13
-- end: not called inside
noncomputable def M_isSmall (x0 : Int) (V : VV) : Option (Int × VV) := nm (α := Int) (if x0 < 97 then 0 else (if 122 < x0 then 0 else 1)) fun v1 => cb v1 (some (v1, V))
theorem WM_isSmall (l : Launch) {d : Nat} (hdd : 1 ≤ d) (x0 : Int) (V : VV) (hV : okV V) (ho : oks [(0, x0)]) (fin : Int × VV) (hf : M_isSmall x0 V = some fin) : mSpec l yX4_isSmall cX4_isSmall 1 (some .boolean) d 0 [(0, x0)] V fin := by
  refine m_enter (lv := [(0, (0, x0))]) (by decide) rfl (Nat.le_of_ble_eq_true rfl) rfl (fun Z hZ hX => ?_) hV ho fin hf
  unfold M_isSmall
  refine m_iload_n hX 0 dX4_isSmall_0 rfl rfl ?_
  refine m_bp hX dX4_isSmall_1 (by decide) (by decide) ?_
  refine m_join 17 (fun v1 => [(0, v1)]) (fun v1 => ?_) (fun hJ => ?_)
  · exact m_zret hX rfl dX4_isSmall_17
  · refine m_icmp_ltF hX 16 dX4_isSmall_3 (by decide) (fun _ => ?_) (fun _ => ?_)
    · refine m_ic hX dX4_isSmall_16 (by decide) (by decide) ?_
      exact hJ _
    · refine m_iload_n hX 0 dX4_isSmall_6 rfl rfl ?_
      refine m_bp hX dX4_isSmall_7 (by decide) (by decide) ?_
      refine m_icmp_gtF hX 16 dX4_isSmall_9 (by decide) (fun _ => ?_) (fun _ => ?_)
      · refine m_ic hX dX4_isSmall_16 (by decide) (by decide) ?_
        exact hJ _
      · refine m_ic hX dX4_isSmall_12 (by decide) (by decide) ?_
        refine m_goto hX 17 dX4_isSmall_13 (by decide) ?_
        exact hJ _
theorem cl_isSmall {Z : MZ} {cc : ByteArray} {nL : Nat} {ret : Option FieldType} {d rk : Nat} {pc : Nat} {lv : List (Nat × AV)} {st : List AV} {V : VV} {g : Int → VV → Option (Int × VV)} (hX : MX Z cc nL ret d rk) {a0 : Int} (hdd : 2 ≤ d) (hcat : (st.map fun v => if v.1 = 1 then 2 else 1).sum ≤ 8) (hdg : decode cc pc = .ok (.invokestatic 176, 3)) (kk : ∀ r V1, MG Z (pc + 3) lv ((0, r) :: st) V1 (g r V1)) : MG Z pc lv ((0, a0) :: st) V (mb (M_isSmall a0 V) g) :=
  m_callSi hX [(0, a0)] 1 (fun hV ho fin hf => WM_isSmall (zL Z) (Nat.le_refl 1) a0 V hV ho fin hf) (lw_S q1953 q1954 q131 q1955) (by decide +kernel) rfl (by omega) (by decide) rfl hcat hdg kk
noncomputable def M_isDigit (x0 : Int) (V : VV) : Option (Int × VV) := nm (α := Int) (if x0 < 48 then 0 else (if 57 < x0 then 0 else 1)) fun v1 => cb v1 (some (v1, V))
theorem WM_isDigit (l : Launch) {d : Nat} (hdd : 1 ≤ d) (x0 : Int) (V : VV) (hV : okV V) (ho : oks [(0, x0)]) (fin : Int × VV) (hf : M_isDigit x0 V = some fin) : mSpec l yX4_isDigit cX4_isDigit 1 (some .boolean) d 0 [(0, x0)] V fin := by
  refine m_enter (lv := [(0, (0, x0))]) (by decide) rfl (Nat.le_of_ble_eq_true rfl) rfl (fun Z hZ hX => ?_) hV ho fin hf
  unfold M_isDigit
  refine m_iload_n hX 0 dX4_isDigit_0 rfl rfl ?_
  refine m_bp hX dX4_isDigit_1 (by decide) (by decide) ?_
  refine m_join 17 (fun v1 => [(0, v1)]) (fun v1 => ?_) (fun hJ => ?_)
  · exact m_zret hX rfl dX4_isDigit_17
  · refine m_icmp_ltF hX 16 dX4_isDigit_3 (by decide) (fun _ => ?_) (fun _ => ?_)
    · refine m_ic hX dX4_isDigit_16 (by decide) (by decide) ?_
      exact hJ _
    · refine m_iload_n hX 0 dX4_isDigit_6 rfl rfl ?_
      refine m_bp hX dX4_isDigit_7 (by decide) (by decide) ?_
      refine m_icmp_gtF hX 16 dX4_isDigit_9 (by decide) (fun _ => ?_) (fun _ => ?_)
      · refine m_ic hX dX4_isDigit_16 (by decide) (by decide) ?_
        exact hJ _
      · refine m_ic hX dX4_isDigit_12 (by decide) (by decide) ?_
        refine m_goto hX 17 dX4_isDigit_13 (by decide) ?_
        exact hJ _
theorem cl_isDigit {Z : MZ} {cc : ByteArray} {nL : Nat} {ret : Option FieldType} {d rk : Nat} {pc : Nat} {lv : List (Nat × AV)} {st : List AV} {V : VV} {g : Int → VV → Option (Int × VV)} (hX : MX Z cc nL ret d rk) {a0 : Int} (hdd : 2 ≤ d) (hcat : (st.map fun v => if v.1 = 1 then 2 else 1).sum ≤ 8) (hdg : decode cc pc = .ok (.invokestatic 179, 3)) (kk : ∀ r V1, MG Z (pc + 3) lv ((0, r) :: st) V1 (g r V1)) : MG Z pc lv ((0, a0) :: st) V (mb (M_isDigit a0 V) g) :=
  m_callSi hX [(0, a0)] 1 (fun hV ho fin hf => WM_isDigit (zL Z) (Nat.le_refl 1) a0 V hV ho fin hf) (lw_S q1956 q1957 q131 q1958) (by decide +kernel) rfl (by omega) (by decide) rfl hcat hdg kk
noncomputable def M_wordOf_104 (K5 : Int → Int → Int → Int → VV → Option (Int × VV)) (x1 : Int) (x2 : Int) (x3 : Int) (x4 : Int) (x5 : Int) (x6 : Int) (V : VV) : Option (Int × VV) := if x6 = 0 then (nm (α := Int) (w32 (x4 + (w32 (x5 + 1)))) fun v1 => nm (w32 (x3 + 1)) fun v2 => K5 x1 x2 v2 v1 V) else (some (x3, V))
theorem WM_wordOf_104 {Z : MZ} {d : Nat} (hX : MX Z cX4_wordOf 8 (some .int) d 0) (hdd : 1 ≤ d) {K5 : Int → Int → Int → Int → VV → Option (Int × VV)} (hK5 : ∀ x1 x2 x3 x4 V, MG Z 5 [(0, (3, 0)), (1, (0, x1)), (2, (0, x2)), (3, (0, x3)), (4, (0, x4))] [] V (K5 x1 x2 x3 x4 V)) : ∀ x1 x2 x3 x4 x5 x6 V, MG Z 104 [(0, (3, 0)), (1, (0, x1)), (2, (0, x2)), (3, (0, x3)), (4, (0, x4)), (5, (0, x5)), (6, (0, x6))] [] V (M_wordOf_104 K5 x1 x2 x3 x4 x5 x6 V) := by
  intro x1 x2 x3 x4 x5 x6 V
  unfold M_wordOf_104
  refine m_iload hX 6 dX4_wordOf_104 rfl ?_
  refine m_if_eq hX 111 dX4_wordOf_106 (by decide) (fun _ => ?_) (fun _ => ?_)
  · refine m_iload hX 4 dX4_wordOf_111 rfl ?_
    refine m_iload hX 5 dX4_wordOf_113 rfl ?_
    refine m_ic hX dX4_wordOf_115 (by decide) (by decide) ?_
    refine m_iadd hX dX4_wordOf_116 ?_
    refine m_iadd hX dX4_wordOf_117 ?_
    refine m_nmT fun v1 => ?_
    refine m_istore hX (lv' := [(4, (0, v1)), (0, (3, 0)), (1, (0, x1)), (2, (0, x2)), (3, (0, x3)), (5, (0, x5)), (6, (0, x6))]) dX4_wordOf_118 (by decide) rfl ?_
    refine m_iinc hX 4 dX4_wordOf_120 rfl (by decide) fun v2 => m_lv (lv' := [(3, (0, v2)), (4, (0, v1)), (0, (3, 0)), (1, (0, x1)), (2, (0, x2)), (5, (0, x5)), (6, (0, x6))]) rfl ?_
    refine m_goto hX 5 dX4_wordOf_123 (by decide) ?_
    exact m_sub [2, 3, 4, 0, 1] rfl (hK5 x1 x2 v2 v1 V)
  · refine m_iload_n hX 3 dX4_wordOf_109 rfl rfl ?_
    exact m_iret hX rfl dX4_wordOf_110
noncomputable def M_wordOf_57 (K5 : Int → Int → Int → Int → VV → Option (Int × VV)) : Nat → Int → Int → Int → Int → Int → Int → Int → VV → Option (Int × VV)
  | 0, _, _, _, _, _, _, _, _ => none
  | n + 1, x1, x2, x3, x4, x5, x6, x7, V => if x5 ≤ x7 then (M_wordOf_104 K5 x1 x2 x3 x4 x5 x6 V) else (if x6 = 0 then (M_wordOf_104 K5 x1 x2 x3 x4 x5 x6 V) else (ck (w32 (x4 + x7)) 76 <| ck (w32 (x1 + x7)) 400 <| nm (α := Int) (if V 6 (w32 (x4 + x7)) = V 7 (w32 (x1 + x7)) then 1 else 0) fun v1 => nm (w32 (x7 + 1)) fun v2 => M_wordOf_57 K5 n x1 x2 x3 x4 x5 v1 v2 V))
theorem WM_wordOf_57 {Z : MZ} {d : Nat} (hX : MX Z cX4_wordOf 8 (some .int) d 0) (hdd : 1 ≤ d) {K5 : Int → Int → Int → Int → VV → Option (Int × VV)} (hK5 : ∀ x1 x2 x3 x4 V, MG Z 5 [(0, (3, 0)), (1, (0, x1)), (2, (0, x2)), (3, (0, x3)), (4, (0, x4))] [] V (K5 x1 x2 x3 x4 V)) : ∀ n x1 x2 x3 x4 x5 x6 x7 V, MG Z 57 [(0, (3, 0)), (1, (0, x1)), (2, (0, x2)), (3, (0, x3)), (4, (0, x4)), (5, (0, x5)), (6, (0, x6)), (7, (0, x7))] [] V (M_wordOf_57 K5 n x1 x2 x3 x4 x5 x6 x7 V) := by
  intro n
  induction n with
  | zero => intro x1 x2 x3 x4 x5 x6 x7 V; exact m_none
  | succ n ih =>
    intro x1 x2 x3 x4 x5 x6 x7 V
    rw [M_wordOf_57]
    refine m_iload hX 7 dX4_wordOf_57 rfl ?_
    refine m_iload hX 5 dX4_wordOf_59 rfl ?_
    refine m_icmp_ge hX 104 dX4_wordOf_61 (by decide) (fun _ => ?_) (fun _ => ?_)
    · exact m_sub [0, 1, 2, 3, 4, 5, 6] rfl (WM_wordOf_104 hX hdd hK5 x1 x2 x3 x4 x5 x6 V)
    · refine m_iload hX 6 dX4_wordOf_64 rfl ?_
      refine m_if_eq hX 104 dX4_wordOf_66 (by decide) (fun _ => ?_) (fun _ => ?_)
      · exact m_sub [0, 1, 2, 3, 4, 5, 6] rfl (WM_wordOf_104 hX hdd hK5 x1 x2 x3 x4 x5 x6 V)
      · refine m_aload_n hX 0 dX4_wordOf_69 rfl rfl ?_
        refine fg_6 hX dX4_wordOf_70 ?_
        refine m_iload hX 4 dX4_wordOf_73 rfl ?_
        refine m_iload hX 7 dX4_wordOf_75 rfl ?_
        refine m_iadd hX dX4_wordOf_77 ?_
        refine al_6 hX dX4_wordOf_78 ?_
        refine m_aload_n hX 0 dX4_wordOf_79 rfl rfl ?_
        refine fg_7 hX dX4_wordOf_80 ?_
        refine m_iload_n hX 1 dX4_wordOf_83 rfl rfl ?_
        refine m_iload hX 7 dX4_wordOf_84 rfl ?_
        refine m_iadd hX dX4_wordOf_86 ?_
        refine al_7 hX dX4_wordOf_87 ?_
        refine m_join 96 (fun v1 => [(0, v1)]) (fun v1 => ?_) (fun hJ => ?_)
        · refine m_istore hX (lv' := [(6, (0, v1)), (0, (3, 0)), (1, (0, x1)), (2, (0, x2)), (3, (0, x3)), (4, (0, x4)), (5, (0, x5)), (7, (0, x7))]) dX4_wordOf_96 (by decide) rfl ?_
          refine m_iinc hX 7 dX4_wordOf_98 rfl (by decide) fun v2 => m_lv (lv' := [(7, (0, v2)), (6, (0, v1)), (0, (3, 0)), (1, (0, x1)), (2, (0, x2)), (3, (0, x3)), (4, (0, x4)), (5, (0, x5))]) rfl ?_
          refine m_goto hX 57 dX4_wordOf_101 (by decide) ?_
          exact m_sub [2, 3, 4, 5, 6, 7, 1, 0] rfl (ih x1 x2 x3 x4 x5 v1 v2 V)
        · refine m_icmp_neF hX 95 dX4_wordOf_88 (by decide) (fun _ => ?_) (fun _ => ?_)
          · refine m_ic hX dX4_wordOf_95 (by decide) (by decide) ?_
            exact hJ _
          · refine m_ic hX dX4_wordOf_91 (by decide) (by decide) ?_
            refine m_goto hX 96 dX4_wordOf_92 (by decide) ?_
            exact hJ _
noncomputable def M_wordOf_39 (K5 : Int → Int → Int → Int → VV → Option (Int × VV)) (x1 : Int) (x2 : Int) (x3 : Int) (x4 : Int) (x5 : Int) (V : VV) : Option (Int × VV) := nm (α := Int) (if x5 = w32 (x2 - x1) then 1 else 0) fun v1 => M_wordOf_57 K5 FU x1 x2 x3 x4 x5 v1 0 V
theorem WM_wordOf_39 {Z : MZ} {d : Nat} (hX : MX Z cX4_wordOf 8 (some .int) d 0) (hdd : 1 ≤ d) {K5 : Int → Int → Int → Int → VV → Option (Int × VV)} (hK5 : ∀ x1 x2 x3 x4 V, MG Z 5 [(0, (3, 0)), (1, (0, x1)), (2, (0, x2)), (3, (0, x3)), (4, (0, x4))] [] V (K5 x1 x2 x3 x4 V)) : ∀ x1 x2 x3 x4 x5 V, MG Z 39 [(0, (3, 0)), (1, (0, x1)), (2, (0, x2)), (3, (0, x3)), (4, (0, x4)), (5, (0, x5))] [] V (M_wordOf_39 K5 x1 x2 x3 x4 x5 V) := by
  intro x1 x2 x3 x4 x5 V
  unfold M_wordOf_39
  refine m_iload hX 5 dX4_wordOf_39 rfl ?_
  refine m_iload_n hX 2 dX4_wordOf_41 rfl rfl ?_
  refine m_iload_n hX 1 dX4_wordOf_42 rfl rfl ?_
  refine m_isub hX dX4_wordOf_43 ?_
  refine m_join 52 (fun v1 => [(0, v1)]) (fun v1 => ?_) (fun hJ => ?_)
  · refine m_istore hX (lv' := [(6, (0, v1)), (0, (3, 0)), (1, (0, x1)), (2, (0, x2)), (3, (0, x3)), (4, (0, x4)), (5, (0, x5))]) dX4_wordOf_52 (by decide) rfl ?_
    refine m_ic hX dX4_wordOf_54 (by decide) (by decide) ?_
    refine m_istore hX (lv' := [(7, (0, 0)), (6, (0, v1)), (0, (3, 0)), (1, (0, x1)), (2, (0, x2)), (3, (0, x3)), (4, (0, x4)), (5, (0, x5))]) dX4_wordOf_55 (by decide) rfl ?_
    exact m_sub [2, 3, 4, 5, 6, 7, 1, 0] rfl (WM_wordOf_57 hX hdd hK5 FU x1 x2 x3 x4 x5 v1 0 V)
  · refine m_icmp_neF hX 51 dX4_wordOf_44 (by decide) (fun _ => ?_) (fun _ => ?_)
    · refine m_ic hX dX4_wordOf_51 (by decide) (by decide) ?_
      exact hJ _
    · refine m_ic hX dX4_wordOf_47 (by decide) (by decide) ?_
      refine m_goto hX 52 dX4_wordOf_48 (by decide) ?_
      exact hJ _
noncomputable def M_wordOf_18 (K5 : Int → Int → Int → Int → VV → Option (Int × VV)) : Nat → Int → Int → Int → Int → Int → VV → Option (Int × VV)
  | 0, _, _, _, _, _, _ => none
  | n + 1, x1, x2, x3, x4, x5, V => ck (w32 (x4 + x5)) 76 <| if V 6 (w32 (x4 + x5)) = 32 then (M_wordOf_39 K5 x1 x2 x3 x4 x5 V) else (nm (w32 (x5 + 1)) fun v1 => M_wordOf_18 K5 n x1 x2 x3 x4 v1 V)
theorem WM_wordOf_18 {Z : MZ} {d : Nat} (hX : MX Z cX4_wordOf 8 (some .int) d 0) (hdd : 1 ≤ d) {K5 : Int → Int → Int → Int → VV → Option (Int × VV)} (hK5 : ∀ x1 x2 x3 x4 V, MG Z 5 [(0, (3, 0)), (1, (0, x1)), (2, (0, x2)), (3, (0, x3)), (4, (0, x4))] [] V (K5 x1 x2 x3 x4 V)) : ∀ n x1 x2 x3 x4 x5 V, MG Z 18 [(0, (3, 0)), (1, (0, x1)), (2, (0, x2)), (3, (0, x3)), (4, (0, x4)), (5, (0, x5))] [] V (M_wordOf_18 K5 n x1 x2 x3 x4 x5 V) := by
  intro n
  induction n with
  | zero => intro x1 x2 x3 x4 x5 V; exact m_none
  | succ n ih =>
    intro x1 x2 x3 x4 x5 V
    rw [M_wordOf_18]
    refine m_aload_n hX 0 dX4_wordOf_18 rfl rfl ?_
    refine fg_6 hX dX4_wordOf_19 ?_
    refine m_iload hX 4 dX4_wordOf_22 rfl ?_
    refine m_iload hX 5 dX4_wordOf_24 rfl ?_
    refine m_iadd hX dX4_wordOf_26 ?_
    refine al_6 hX dX4_wordOf_27 ?_
    refine m_bp hX dX4_wordOf_28 (by decide) (by decide) ?_
    refine m_icmp_eq hX 39 dX4_wordOf_30 (by decide) (fun _ => ?_) (fun _ => ?_)
    · exact m_sub [0, 1, 2, 3, 4, 5] rfl (WM_wordOf_39 hX hdd hK5 x1 x2 x3 x4 x5 V)
    · refine m_iinc hX 5 dX4_wordOf_33 rfl (by decide) fun v1 => m_lv (lv' := [(5, (0, v1)), (0, (3, 0)), (1, (0, x1)), (2, (0, x2)), (3, (0, x3)), (4, (0, x4))]) rfl ?_
      refine m_goto hX 18 dX4_wordOf_36 (by decide) ?_
      exact m_sub [1, 2, 3, 4, 5, 0] rfl (ih x1 x2 x3 x4 v1 V)
noncomputable def M_wordOf_5 : Nat → Int → Int → Int → Int → VV → Option (Int × VV)
  | 0, _, _, _, _, _ => none
  | n + 1, x1, x2, x3, x4, V => if 76 ≤ x4 then (some (0, V)) else (M_wordOf_18 (M_wordOf_5 n) FU x1 x2 x3 x4 0 V)
theorem WM_wordOf_5 {Z : MZ} {d : Nat} (hX : MX Z cX4_wordOf 8 (some .int) d 0) (hdd : 1 ≤ d) : ∀ n x1 x2 x3 x4 V, MG Z 5 [(0, (3, 0)), (1, (0, x1)), (2, (0, x2)), (3, (0, x3)), (4, (0, x4))] [] V (M_wordOf_5 n x1 x2 x3 x4 V) := by
  intro n
  induction n with
  | zero => intro x1 x2 x3 x4 V; exact m_none
  | succ n ih =>
    intro x1 x2 x3 x4 V
    rw [M_wordOf_5]
    refine m_iload hX 4 dX4_wordOf_5 rfl ?_
    refine m_aload_n hX 0 dX4_wordOf_7 rfl rfl ?_
    refine fg_6 hX dX4_wordOf_8 ?_
    refine m_alen hX 6 4 rfl rfl 2 rfl (n := 76) rfl ⟨by decide, by decide⟩ dX4_wordOf_11 ?_
    refine m_icmp_ge hX 126 dX4_wordOf_12 (by decide) (fun _ => ?_) (fun _ => ?_)
    · refine m_ic hX dX4_wordOf_126 (by decide) (by decide) ?_
      exact m_iret hX rfl dX4_wordOf_127
    · refine m_ic hX dX4_wordOf_15 (by decide) (by decide) ?_
      refine m_istore hX (lv' := [(5, (0, 0)), (0, (3, 0)), (1, (0, x1)), (2, (0, x2)), (3, (0, x3)), (4, (0, x4))]) dX4_wordOf_16 (by decide) rfl ?_
      exact m_sub [1, 2, 3, 4, 5, 0] rfl (WM_wordOf_18 hX hdd ih FU x1 x2 x3 x4 0 V)
noncomputable def M_wordOf (x1 : Int) (x2 : Int) (V : VV) : Option (Int × VV) := M_wordOf_5 FU x1 x2 1 0 V
theorem WM_wordOf (l : Launch) {d : Nat} (hdd : 1 ≤ d) (x1 : Int) (x2 : Int) (V : VV) (hV : okV V) (ho : oks [(0, x1), (0, x2)]) (fin : Int × VV) (hf : M_wordOf x1 x2 V = some fin) : mSpec l yX4_wordOf cX4_wordOf 8 (some .int) d 0 [(3, 0), (0, x1), (0, x2)] V fin := by
  refine m_enter (lv := [(0, (3, 0)), (1, (0, x1)), (2, (0, x2))]) (by decide) rfl (Nat.le_of_ble_eq_true rfl) rfl (fun Z hZ hX => ?_) hV (ho.c (okA.t 0)) fin hf
  unfold M_wordOf
  refine m_ic hX dX4_wordOf_0 (by decide) (by decide) ?_
  refine m_istore_n hX (lv' := [(3, (0, 1)), (0, (3, 0)), (1, (0, x1)), (2, (0, x2))]) dX4_wordOf_1 rfl (by decide) rfl ?_
  refine m_ic hX dX4_wordOf_2 (by decide) (by decide) ?_
  refine m_istore hX (lv' := [(4, (0, 0)), (3, (0, 1)), (0, (3, 0)), (1, (0, x1)), (2, (0, x2))]) dX4_wordOf_3 (by decide) rfl ?_
  exact m_sub [2, 3, 4, 1, 0] rfl (WM_wordOf_5 hX hdd FU x1 x2 1 0 V)
theorem cl_wordOf {Z : MZ} {cc : ByteArray} {nL : Nat} {ret : Option FieldType} {d rk : Nat} {pc : Nat} {lv : List (Nat × AV)} {st : List AV} {V : VV} {g : Int → VV → Option (Int × VV)} (hX : MX Z cc nL ret d rk) {a0 a1 : Int} (hdd : 2 ≤ d) (hcat : (st.map fun v => if v.1 = 1 then 2 else 1).sum ≤ 8) (hdg : decode cc pc = .ok (.invokevirtual 182, 3)) (kk : ∀ r V1, MG Z (pc + 3) lv ((0, r) :: st) V1 (g r V1)) : MG Z pc lv ((0, a1) :: (0, a0) :: (3, 0) :: st) V (mb (M_wordOf a0 a1 V) g) :=
  m_callVi hX [(0, a0), (0, a1)] 2 (fun hV ho fin hf => WM_wordOf (zL Z) (Nat.le_refl 1) a0 a1 V hV ho fin hf) (lw_V q1959 q1961 qs67 q131 q1962) (by decide +kernel) rfl (by omega) (by decide) rfl hcat hdg kk
noncomputable def M_splits_240 (K7 : Int → Int → VV → Option (Int × VV)) (K169 : Int → Int → Int → Int → VV → Option (Int × VV)) (s1 : Int) (s2 : Int) (x1 : Int) (x3 : Int) (x4 : Int) (x5 : Int) (V : VV) : Option (Int × VV) := ck s1 401 <| nm (vup V 12 s1 s2) fun V1 => nm (w32 (x5 + 1)) fun v2 => K169 x1 x3 x4 v2 V1
theorem WM_splits_240 {Z : MZ} {d : Nat} (hX : MX Z cX4_splits 6 none d 2) (hdd : 2 ≤ d) {K7 : Int → Int → VV → Option (Int × VV)} (hK7 : ∀ x1 x2 V, MG Z 7 [(0, (3, 0)), (1, (0, x1)), (2, (0, x2))] [] V (K7 x1 x2 V)) {K169 : Int → Int → Int → Int → VV → Option (Int × VV)} (hK169 : ∀ x1 x3 x4 x5 V, MG Z 169 [(0, (3, 0)), (1, (0, x1)), (3, (0, x3)), (4, (0, x4)), (5, (0, x5))] [] V (K169 x1 x3 x4 x5 V)) : ∀ s1 s2 x1 x3 x4 x5 V, MG Z 240 [(0, (3, 0)), (1, (0, x1)), (3, (0, x3)), (4, (0, x4)), (5, (0, x5))] [(0, s2), (0, s1), (2, ((12 : Nat) : Int))] V (M_splits_240 K7 K169 s1 s2 x1 x3 x4 x5 V) := by
  intro s1 s2 x1 x3 x4 x5 V
  unfold M_splits_240
  refine as_12 hX dX4_splits_240 fun V1 => ?_
  refine m_iinc hX 4 dX4_splits_241 rfl (by decide) fun v2 => m_lv (lv' := [(5, (0, v2)), (0, (3, 0)), (1, (0, x1)), (3, (0, x3)), (4, (0, x4))]) rfl ?_
  refine m_goto hX 169 dX4_splits_244 (by decide) ?_
  exact m_sub [1, 2, 3, 4, 0] rfl (hK169 x1 x3 x4 v2 V1)
noncomputable def M_splits_247 (K7 : Int → Int → VV → Option (Int × VV)) (x1 : Int) (x4 : Int) (V : VV) : Option (Int × VV) := nm (vup V 14 0 (w32 ((V 14 0) + 1))) fun V1 => K7 x1 x4 V1
theorem WM_splits_247 {Z : MZ} {d : Nat} (hX : MX Z cX4_splits 6 none d 2) (hdd : 2 ≤ d) {K7 : Int → Int → VV → Option (Int × VV)} (hK7 : ∀ x1 x2 V, MG Z 7 [(0, (3, 0)), (1, (0, x1)), (2, (0, x2))] [] V (K7 x1 x2 V)) : ∀ x1 x4 V, MG Z 247 [(0, (3, 0)), (1, (0, x1)), (4, (0, x4))] [] V (M_splits_247 K7 x1 x4 V) := by
  intro x1 x4 V
  unfold M_splits_247
  refine m_aload_n hX 0 dX4_splits_247 rfl rfl ?_
  refine m_dup hX dX4_splits_248 rfl ?_
  refine fg_14 hX dX4_splits_249 ?_
  refine m_ic hX dX4_splits_252 (by decide) (by decide) ?_
  refine m_iadd hX dX4_splits_253 ?_
  refine fp_14 hX dX4_splits_254 fun V1 => ?_
  refine m_iload hX 2 dX4_splits_257 rfl ?_
  refine m_istore_n hX (lv' := [(2, (0, x4)), (0, (3, 0)), (1, (0, x1)), (4, (0, x4))]) dX4_splits_259 rfl (by decide) rfl ?_
  refine m_goto hX 7 dX4_splits_260 (by decide) ?_
  exact m_sub [1, 2, 0] rfl (hK7 x1 x4 V1)
noncomputable def M_splits_169 (K7 : Int → Int → VV → Option (Int × VV)) : Nat → Int → Int → Int → Int → VV → Option (Int × VV)
  | 0, _, _, _, _, _ => none
  | n + 1, x1, x3, x4, x5, V => if x4 ≤ x5 then (M_splits_247 K7 x1 x4 V) else (mb (M_isDigit x3 V) fun r1 V2 => if r1 = 0 then (M_splits_247 K7 x1 x4 V2) else (ck (V2 14 0) 401 <| if V2 12 (V2 14 0) ≤ 1000000 then (ck (V2 14 0) 401 <| ck x5 400 <| M_splits_240 K7 (M_splits_169 K7 n) (V2 14 0) (w32 ((w32 ((w32 (10 * (V2 12 (V2 14 0)))) + (V2 7 x5))) - 48)) x1 x3 x4 x5 V2) else (ck (V2 14 0) 401 <| M_splits_240 K7 (M_splits_169 K7 n) (V2 14 0) (V2 12 (V2 14 0)) x1 x3 x4 x5 V2)))
theorem WM_splits_169 {Z : MZ} {d : Nat} (hX : MX Z cX4_splits 6 none d 2) (hdd : 2 ≤ d) {K7 : Int → Int → VV → Option (Int × VV)} (hK7 : ∀ x1 x2 V, MG Z 7 [(0, (3, 0)), (1, (0, x1)), (2, (0, x2))] [] V (K7 x1 x2 V)) : ∀ n x1 x3 x4 x5 V, MG Z 169 [(0, (3, 0)), (1, (0, x1)), (3, (0, x3)), (4, (0, x4)), (5, (0, x5))] [] V (M_splits_169 K7 n x1 x3 x4 x5 V) := by
  intro n
  induction n with
  | zero => intro x1 x3 x4 x5 V; exact m_none
  | succ n ih =>
    intro x1 x3 x4 x5 V
    rw [M_splits_169]
    refine m_iload hX 4 dX4_splits_169 rfl ?_
    refine m_iload hX 3 dX4_splits_171 rfl ?_
    refine m_icmp_ge hX 247 dX4_splits_173 (by decide) (fun _ => ?_) (fun _ => ?_)
    · exact m_sub [0, 1, 3] rfl (WM_splits_247 hX hdd hK7 x1 x4 V)
    · refine m_iload_n hX 2 dX4_splits_176 rfl rfl ?_
      refine cl_isDigit hX (by omega) (Nat.le_of_ble_eq_true rfl) dX4_splits_177 fun r1 V2 => ?_
      refine m_if_eq hX 247 dX4_splits_180 (by decide) (fun _ => ?_) (fun _ => ?_)
      · exact m_sub [0, 1, 3] rfl (WM_splits_247 hX hdd hK7 x1 x4 V2)
      · refine m_aload_n hX 0 dX4_splits_183 rfl rfl ?_
        refine fg_12 hX dX4_splits_184 ?_
        refine m_aload_n hX 0 dX4_splits_187 rfl rfl ?_
        refine fg_14 hX dX4_splits_188 ?_
        refine m_aload_n hX 0 dX4_splits_191 rfl rfl ?_
        refine fg_12 hX dX4_splits_192 ?_
        refine m_aload_n hX 0 dX4_splits_195 rfl rfl ?_
        refine fg_14 hX dX4_splits_196 ?_
        refine al_12 hX dX4_splits_199 ?_
        refine m_ldc hX (n := 1000000) q1963 dX4_splits_200 (by decide +kernel) ⟨by decide, by decide⟩ ?_
        refine m_icmp_le hX 217 dX4_splits_202 (by decide) (fun _ => ?_) (fun _ => ?_)
        · refine m_bp hX dX4_splits_217 (by decide) (by decide) ?_
          refine m_aload_n hX 0 dX4_splits_219 rfl rfl ?_
          refine fg_12 hX dX4_splits_220 ?_
          refine m_aload_n hX 0 dX4_splits_223 rfl rfl ?_
          refine fg_14 hX dX4_splits_224 ?_
          refine al_12 hX dX4_splits_227 ?_
          refine m_imul hX dX4_splits_228 ?_
          refine m_aload_n hX 0 dX4_splits_229 rfl rfl ?_
          refine fg_7 hX dX4_splits_230 ?_
          refine m_iload hX 4 dX4_splits_233 rfl ?_
          refine al_7 hX dX4_splits_235 ?_
          refine m_iadd hX dX4_splits_236 ?_
          refine m_bp hX dX4_splits_237 (by decide) (by decide) ?_
          refine m_isub hX dX4_splits_239 ?_
          exact m_sub [0, 1, 2, 3, 4] rfl (WM_splits_240 hX hdd hK7 ih (V2 14 0) (w32 ((w32 ((w32 (10 * (V2 12 (V2 14 0)))) + (V2 7 x5))) - 48)) x1 x3 x4 x5 V2)
        · refine m_aload_n hX 0 dX4_splits_205 rfl rfl ?_
          refine fg_12 hX dX4_splits_206 ?_
          refine m_aload_n hX 0 dX4_splits_209 rfl rfl ?_
          refine fg_14 hX dX4_splits_210 ?_
          refine al_12 hX dX4_splits_213 ?_
          refine m_goto hX 240 dX4_splits_214 (by decide) ?_
          exact m_sub [0, 1, 2, 3, 4] rfl (WM_splits_240 hX hdd hK7 ih (V2 14 0) (V2 12 (V2 14 0)) x1 x3 x4 x5 V2)
noncomputable def M_splits_165 (K7 : Int → Int → VV → Option (Int × VV)) (s1 : Int) (s2 : Int) (x1 : Int) (x2 : Int) (x3 : Int) (x4 : Int) (V : VV) : Option (Int × VV) := ck s1 401 <| nm (vup V 11 s1 s2) fun V1 => M_splits_169 K7 FU x1 x3 x4 x2 V1
theorem WM_splits_165 {Z : MZ} {d : Nat} (hX : MX Z cX4_splits 6 none d 2) (hdd : 2 ≤ d) {K7 : Int → Int → VV → Option (Int × VV)} (hK7 : ∀ x1 x2 V, MG Z 7 [(0, (3, 0)), (1, (0, x1)), (2, (0, x2))] [] V (K7 x1 x2 V)) : ∀ s1 s2 x1 x2 x3 x4 V, MG Z 165 [(0, (3, 0)), (1, (0, x1)), (2, (0, x2)), (3, (0, x3)), (4, (0, x4))] [(0, s2), (0, s1), (2, ((11 : Nat) : Int))] V (M_splits_165 K7 s1 s2 x1 x2 x3 x4 V) := by
  intro s1 s2 x1 x2 x3 x4 V
  unfold M_splits_165
  refine as_11 hX dX4_splits_165 fun V1 => ?_
  refine m_iload_n hX 2 dX4_splits_166 rfl rfl ?_
  refine m_istore hX (lv' := [(5, (0, x2)), (0, (3, 0)), (1, (0, x1)), (2, (0, x2)), (3, (0, x3)), (4, (0, x4))]) dX4_splits_167 (by decide) rfl ?_
  exact m_sub [1, 2, 4, 5, 0] rfl (WM_splits_169 hX hdd hK7 FU x1 x3 x4 x2 V1)
noncomputable def M_splits_100 (K7 : Int → Int → VV → Option (Int × VV)) (x1 : Int) (x2 : Int) (x3 : Int) (x4 : Int) (V : VV) : Option (Int × VV) := ck (V 14 0) 401 <| nm (vup V 13 (V 14 0) x2) fun V1 => ck (V1 14 0) 401 <| nm (vup V1 12 (V1 14 0) 0) fun V2 => mb (M_isSmall x3 V2) fun r3 V4 => if r3 = 0 then (mb (M_isDigit x3 V4) fun r5 V6 => if r5 = 0 then (M_splits_165 K7 (V2 14 0) (w32 (100 + (iand x3 255))) x1 x2 x3 x4 V6) else (M_splits_165 K7 (V2 14 0) 50 x1 x2 x3 x4 V6)) else (mb (M_wordOf x2 x4 V4) fun r7 V8 => M_splits_165 K7 (V2 14 0) r7 x1 x2 x3 x4 V8)
theorem WM_splits_100 {Z : MZ} {d : Nat} (hX : MX Z cX4_splits 6 none d 2) (hdd : 2 ≤ d) {K7 : Int → Int → VV → Option (Int × VV)} (hK7 : ∀ x1 x2 V, MG Z 7 [(0, (3, 0)), (1, (0, x1)), (2, (0, x2))] [] V (K7 x1 x2 V)) : ∀ x1 x2 x3 x4 V, MG Z 100 [(0, (3, 0)), (1, (0, x1)), (2, (0, x2)), (3, (0, x3)), (4, (0, x4))] [] V (M_splits_100 K7 x1 x2 x3 x4 V) := by
  intro x1 x2 x3 x4 V
  unfold M_splits_100
  refine m_aload_n hX 0 dX4_splits_100 rfl rfl ?_
  refine fg_13 hX dX4_splits_101 ?_
  refine m_aload_n hX 0 dX4_splits_104 rfl rfl ?_
  refine fg_14 hX dX4_splits_105 ?_
  refine m_iload_n hX 2 dX4_splits_108 rfl rfl ?_
  refine as_13 hX dX4_splits_109 fun V1 => ?_
  refine m_aload_n hX 0 dX4_splits_110 rfl rfl ?_
  refine fg_12 hX dX4_splits_111 ?_
  refine m_aload_n hX 0 dX4_splits_114 rfl rfl ?_
  refine fg_14 hX dX4_splits_115 ?_
  refine m_ic hX dX4_splits_118 (by decide) (by decide) ?_
  refine as_12 hX dX4_splits_119 fun V2 => ?_
  refine m_aload_n hX 0 dX4_splits_120 rfl rfl ?_
  refine fg_11 hX dX4_splits_121 ?_
  refine m_aload_n hX 0 dX4_splits_124 rfl rfl ?_
  refine fg_14 hX dX4_splits_125 ?_
  refine m_iload_n hX 3 dX4_splits_128 rfl rfl ?_
  refine cl_isSmall hX (by omega) (Nat.le_of_ble_eq_true rfl) dX4_splits_129 fun r3 V4 => ?_
  refine m_if_eq hX 145 dX4_splits_132 (by decide) (fun _ => ?_) (fun _ => ?_)
  · refine m_iload_n hX 3 dX4_splits_145 rfl rfl ?_
    refine cl_isDigit hX (by omega) (Nat.le_of_ble_eq_true rfl) dX4_splits_146 fun r5 V6 => ?_
    refine m_if_eq hX 157 dX4_splits_149 (by decide) (fun _ => ?_) (fun _ => ?_)
    · refine m_bp hX dX4_splits_157 (by decide) (by decide) ?_
      refine m_iload_n hX 3 dX4_splits_159 rfl rfl ?_
      refine m_sp hX dX4_splits_160 (by decide) (by decide) ?_
      refine m_iand hX dX4_splits_163 ?_
      refine m_iadd hX dX4_splits_164 ?_
      exact m_sub [0, 1, 2, 3, 4] rfl (WM_splits_165 hX hdd hK7 (V2 14 0) (w32 (100 + (iand x3 255))) x1 x2 x3 x4 V6)
    · refine m_bp hX dX4_splits_152 (by decide) (by decide) ?_
      refine m_goto hX 165 dX4_splits_154 (by decide) ?_
      exact m_sub [0, 1, 2, 3, 4] rfl (WM_splits_165 hX hdd hK7 (V2 14 0) 50 x1 x2 x3 x4 V6)
  · refine m_aload_n hX 0 dX4_splits_135 rfl rfl ?_
    refine m_iload_n hX 2 dX4_splits_136 rfl rfl ?_
    refine m_iload hX 4 dX4_splits_137 rfl ?_
    refine cl_wordOf hX (by omega) (Nat.le_of_ble_eq_true rfl) dX4_splits_139 fun r7 V8 => ?_
    refine m_goto hX 165 dX4_splits_142 (by decide) ?_
    exact m_sub [0, 1, 2, 3, 4] rfl (WM_splits_165 hX hdd hK7 (V2 14 0) r7 x1 x2 x3 x4 V8)
noncomputable def M_splits_75 (K7 : Int → Int → VV → Option (Int × VV)) : Nat → Int → Int → Int → Int → VV → Option (Int × VV)
  | 0, _, _, _, _, _ => none
  | n + 1, x1, x2, x3, x4, V => if x1 ≤ x4 then (M_splits_100 K7 x1 x2 x3 x4 V) else (ck x4 400 <| mb (M_isDigit (V 7 x4) V) fun r1 V2 => if r1 = 0 then (M_splits_100 K7 x1 x2 x3 x4 V2) else (nm (w32 (x4 + 1)) fun v3 => M_splits_75 K7 n x1 x2 x3 v3 V2))
theorem WM_splits_75 {Z : MZ} {d : Nat} (hX : MX Z cX4_splits 6 none d 2) (hdd : 2 ≤ d) {K7 : Int → Int → VV → Option (Int × VV)} (hK7 : ∀ x1 x2 V, MG Z 7 [(0, (3, 0)), (1, (0, x1)), (2, (0, x2))] [] V (K7 x1 x2 V)) : ∀ n x1 x2 x3 x4 V, MG Z 75 [(0, (3, 0)), (1, (0, x1)), (2, (0, x2)), (3, (0, x3)), (4, (0, x4))] [] V (M_splits_75 K7 n x1 x2 x3 x4 V) := by
  intro n
  induction n with
  | zero => intro x1 x2 x3 x4 V; exact m_none
  | succ n ih =>
    intro x1 x2 x3 x4 V
    rw [M_splits_75]
    refine m_iload hX 4 dX4_splits_75 rfl ?_
    refine m_iload_n hX 1 dX4_splits_77 rfl rfl ?_
    refine m_icmp_ge hX 100 dX4_splits_78 (by decide) (fun _ => ?_) (fun _ => ?_)
    · exact m_sub [0, 1, 2, 3, 4] rfl (WM_splits_100 hX hdd hK7 x1 x2 x3 x4 V)
    · refine m_aload_n hX 0 dX4_splits_81 rfl rfl ?_
      refine fg_7 hX dX4_splits_82 ?_
      refine m_iload hX 4 dX4_splits_85 rfl ?_
      refine al_7 hX dX4_splits_87 ?_
      refine cl_isDigit hX (by omega) (Nat.le_of_ble_eq_true rfl) dX4_splits_88 fun r1 V2 => ?_
      refine m_if_eq hX 100 dX4_splits_91 (by decide) (fun _ => ?_) (fun _ => ?_)
      · exact m_sub [0, 1, 2, 3, 4] rfl (WM_splits_100 hX hdd hK7 x1 x2 x3 x4 V2)
      · refine m_iinc hX 4 dX4_splits_94 rfl (by decide) fun v3 => m_lv (lv' := [(4, (0, v3)), (0, (3, 0)), (1, (0, x1)), (2, (0, x2)), (3, (0, x3))]) rfl ?_
        refine m_goto hX 75 dX4_splits_97 (by decide) ?_
        exact m_sub [1, 2, 3, 4, 0] rfl (ih x1 x2 x3 v3 V2)
noncomputable def M_splits_68 (K7 : Int → Int → VV → Option (Int × VV)) (x1 : Int) (x2 : Int) (x3 : Int) (x4 : Int) (V : VV) : Option (Int × VV) := mb (M_isDigit x3 V) fun r1 V2 => if r1 = 0 then (M_splits_100 K7 x1 x2 x3 x4 V2) else (M_splits_75 K7 FU x1 x2 x3 x4 V2)
theorem WM_splits_68 {Z : MZ} {d : Nat} (hX : MX Z cX4_splits 6 none d 2) (hdd : 2 ≤ d) {K7 : Int → Int → VV → Option (Int × VV)} (hK7 : ∀ x1 x2 V, MG Z 7 [(0, (3, 0)), (1, (0, x1)), (2, (0, x2))] [] V (K7 x1 x2 V)) : ∀ x1 x2 x3 x4 V, MG Z 68 [(0, (3, 0)), (1, (0, x1)), (2, (0, x2)), (3, (0, x3)), (4, (0, x4))] [] V (M_splits_68 K7 x1 x2 x3 x4 V) := by
  intro x1 x2 x3 x4 V
  unfold M_splits_68
  refine m_iload_n hX 3 dX4_splits_68 rfl rfl ?_
  refine cl_isDigit hX (by omega) (Nat.le_of_ble_eq_true rfl) dX4_splits_69 fun r1 V2 => ?_
  refine m_if_eq hX 100 dX4_splits_72 (by decide) (fun _ => ?_) (fun _ => ?_)
  · exact m_sub [0, 1, 2, 3, 4] rfl (WM_splits_100 hX hdd hK7 x1 x2 x3 x4 V2)
  · exact m_sub [0, 1, 2, 3, 4] rfl (WM_splits_75 hX hdd hK7 FU x1 x2 x3 x4 V2)
noncomputable def M_splits_43 (K7 : Int → Int → VV → Option (Int × VV)) : Nat → Int → Int → Int → Int → VV → Option (Int × VV)
  | 0, _, _, _, _, _ => none
  | n + 1, x1, x2, x3, x4, V => if x1 ≤ x4 then (M_splits_68 K7 x1 x2 x3 x4 V) else (ck x4 400 <| mb (M_isSmall (V 7 x4) V) fun r1 V2 => if r1 = 0 then (M_splits_68 K7 x1 x2 x3 x4 V2) else (nm (w32 (x4 + 1)) fun v3 => M_splits_43 K7 n x1 x2 x3 v3 V2))
theorem WM_splits_43 {Z : MZ} {d : Nat} (hX : MX Z cX4_splits 6 none d 2) (hdd : 2 ≤ d) {K7 : Int → Int → VV → Option (Int × VV)} (hK7 : ∀ x1 x2 V, MG Z 7 [(0, (3, 0)), (1, (0, x1)), (2, (0, x2))] [] V (K7 x1 x2 V)) : ∀ n x1 x2 x3 x4 V, MG Z 43 [(0, (3, 0)), (1, (0, x1)), (2, (0, x2)), (3, (0, x3)), (4, (0, x4))] [] V (M_splits_43 K7 n x1 x2 x3 x4 V) := by
  intro n
  induction n with
  | zero => intro x1 x2 x3 x4 V; exact m_none
  | succ n ih =>
    intro x1 x2 x3 x4 V
    rw [M_splits_43]
    refine m_iload hX 4 dX4_splits_43 rfl ?_
    refine m_iload_n hX 1 dX4_splits_45 rfl rfl ?_
    refine m_icmp_ge hX 68 dX4_splits_46 (by decide) (fun _ => ?_) (fun _ => ?_)
    · exact m_sub [0, 1, 2, 3, 4] rfl (WM_splits_68 hX hdd hK7 x1 x2 x3 x4 V)
    · refine m_aload_n hX 0 dX4_splits_49 rfl rfl ?_
      refine fg_7 hX dX4_splits_50 ?_
      refine m_iload hX 4 dX4_splits_53 rfl ?_
      refine al_7 hX dX4_splits_55 ?_
      refine cl_isSmall hX (by omega) (Nat.le_of_ble_eq_true rfl) dX4_splits_56 fun r1 V2 => ?_
      refine m_if_eq hX 68 dX4_splits_59 (by decide) (fun _ => ?_) (fun _ => ?_)
      · exact m_sub [0, 1, 2, 3, 4] rfl (WM_splits_68 hX hdd hK7 x1 x2 x3 x4 V2)
      · refine m_iinc hX 4 dX4_splits_62 rfl (by decide) fun v3 => m_lv (lv' := [(4, (0, v3)), (0, (3, 0)), (1, (0, x1)), (2, (0, x2)), (3, (0, x3))]) rfl ?_
        refine m_goto hX 43 dX4_splits_65 (by decide) ?_
        exact m_sub [1, 2, 3, 4, 0] rfl (ih x1 x2 x3 v3 V2)
noncomputable def M_splits_263 (x1 : Int) (V : VV) : Option (Int × VV) := ck (V 14 0) 401 <| nm (vup V 13 (V 14 0) x1) fun V1 => ck (V1 14 0) 401 <| nm (vup V1 11 (V1 14 0) 0) fun V2 => ck (V2 14 0) 401 <| nm (vup V2 12 (V2 14 0) 0) fun V3 => some (0, V3)
theorem WM_splits_263 {Z : MZ} {d : Nat} (hX : MX Z cX4_splits 6 none d 2) (hdd : 2 ≤ d) : ∀ x1 V, MG Z 263 [(0, (3, 0)), (1, (0, x1))] [] V (M_splits_263 x1 V) := by
  intro x1 V
  unfold M_splits_263
  refine m_aload_n hX 0 dX4_splits_263 rfl rfl ?_
  refine fg_13 hX dX4_splits_264 ?_
  refine m_aload_n hX 0 dX4_splits_267 rfl rfl ?_
  refine fg_14 hX dX4_splits_268 ?_
  refine m_iload_n hX 1 dX4_splits_271 rfl rfl ?_
  refine as_13 hX dX4_splits_272 fun V1 => ?_
  refine m_aload_n hX 0 dX4_splits_273 rfl rfl ?_
  refine fg_11 hX dX4_splits_274 ?_
  refine m_aload_n hX 0 dX4_splits_277 rfl rfl ?_
  refine fg_14 hX dX4_splits_278 ?_
  refine m_ic hX dX4_splits_281 (by decide) (by decide) ?_
  refine as_11 hX dX4_splits_282 fun V2 => ?_
  refine m_aload_n hX 0 dX4_splits_283 rfl rfl ?_
  refine fg_12 hX dX4_splits_284 ?_
  refine m_aload_n hX 0 dX4_splits_287 rfl rfl ?_
  refine fg_14 hX dX4_splits_288 ?_
  refine m_ic hX dX4_splits_291 (by decide) (by decide) ?_
  refine as_12 hX dX4_splits_292 fun V3 => ?_
  exact m_vret hX rfl dX4_splits_293
noncomputable def M_splits_7 : Nat → Int → Int → VV → Option (Int × VV)
  | 0, _, _, _ => none
  | n + 1, x1, x2, V => if x1 ≤ x2 then (M_splits_263 x1 V) else (ck x2 400 <| nm (α := Int) (V 7 x2) fun v1 => if v1 = 32 then (nm (w32 (x2 + 1)) fun v5 => M_splits_7 n x1 v5 V) else (nm (α := Int) (w32 (x2 + 1)) fun v2 => mb (M_isSmall v1 V) fun r3 V4 => if r3 = 0 then (M_splits_68 (M_splits_7 n) x1 x2 v1 v2 V4) else (M_splits_43 (M_splits_7 n) FU x1 x2 v1 v2 V4)))
theorem WM_splits_7 {Z : MZ} {d : Nat} (hX : MX Z cX4_splits 6 none d 2) (hdd : 2 ≤ d) : ∀ n x1 x2 V, MG Z 7 [(0, (3, 0)), (1, (0, x1)), (2, (0, x2))] [] V (M_splits_7 n x1 x2 V) := by
  intro n
  induction n with
  | zero => intro x1 x2 V; exact m_none
  | succ n ih =>
    intro x1 x2 V
    rw [M_splits_7]
    refine m_iload_n hX 2 dX4_splits_7 rfl rfl ?_
    refine m_iload_n hX 1 dX4_splits_8 rfl rfl ?_
    refine m_icmp_ge hX 263 dX4_splits_9 (by decide) (fun _ => ?_) (fun _ => ?_)
    · exact m_sub [0, 1] rfl (WM_splits_263 hX hdd x1 V)
    · refine m_aload_n hX 0 dX4_splits_12 rfl rfl ?_
      refine fg_7 hX dX4_splits_13 ?_
      refine m_iload_n hX 2 dX4_splits_16 rfl rfl ?_
      refine al_7 hX dX4_splits_17 ?_
      refine m_nmT fun v1 => ?_
      refine m_istore_n hX (lv' := [(3, (0, v1)), (0, (3, 0)), (1, (0, x1)), (2, (0, x2))]) dX4_splits_18 rfl (by decide) rfl ?_
      refine m_iload_n hX 0 dX4_splits_19 rfl rfl ?_
      refine m_bp hX dX4_splits_20 (by decide) (by decide) ?_
      refine m_icmp_ne hX 31 dX4_splits_22 (by decide) (fun _ => ?_) (fun _ => ?_)
      · refine m_iload_n hX 3 dX4_splits_31 rfl rfl ?_
        refine m_ic hX dX4_splits_32 (by decide) (by decide) ?_
        refine m_iadd hX dX4_splits_33 ?_
        refine m_nmT fun v2 => ?_
        refine m_istore hX (lv' := [(4, (0, v2)), (3, (0, v1)), (0, (3, 0)), (1, (0, x1)), (2, (0, x2))]) dX4_splits_34 (by decide) rfl ?_
        refine m_iload_n hX 1 dX4_splits_36 rfl rfl ?_
        refine cl_isSmall hX (by omega) (Nat.le_of_ble_eq_true rfl) dX4_splits_37 fun r3 V4 => ?_
        refine m_if_eq hX 68 dX4_splits_40 (by decide) (fun _ => ?_) (fun _ => ?_)
        · exact m_sub [2, 3, 4, 1, 0] rfl (WM_splits_68 hX hdd ih x1 x2 v1 v2 V4)
        · exact m_sub [2, 3, 4, 1, 0] rfl (WM_splits_43 hX hdd ih FU x1 x2 v1 v2 V4)
      · refine m_iinc hX 3 dX4_splits_25 rfl (by decide) fun v5 => m_lv (lv' := [(2, (0, v5)), (3, (0, v1)), (0, (3, 0)), (1, (0, x1))]) rfl ?_
        refine m_goto hX 7 dX4_splits_28 (by decide) ?_
        exact m_sub [2, 3, 0] rfl (ih x1 v5 V)
noncomputable def M_splits (x1 : Int) (V : VV) : Option (Int × VV) := nm (vup V 14 0 0) fun V1 => M_splits_7 FU x1 0 V1
theorem WM_splits (l : Launch) {d : Nat} (hdd : 2 ≤ d) (x1 : Int) (V : VV) (hV : okV V) (ho : oks [(0, x1)]) (fin : Int × VV) (hf : M_splits x1 V = some fin) : mSpec l yX4_splits cX4_splits 6 none d 2 [(3, 0), (0, x1)] V fin := by
  refine m_enter (lv := [(0, (3, 0)), (1, (0, x1))]) (by decide) rfl (Nat.le_of_ble_eq_true rfl) rfl (fun Z hZ hX => ?_) hV (ho.c (okA.t 0)) fin hf
  unfold M_splits
  refine m_aload_n hX 0 dX4_splits_0 rfl rfl ?_
  refine m_ic hX dX4_splits_1 (by decide) (by decide) ?_
  refine fp_14 hX dX4_splits_2 fun V1 => ?_
  refine m_ic hX dX4_splits_5 (by decide) (by decide) ?_
  refine m_istore_n hX (lv' := [(2, (0, 0)), (0, (3, 0)), (1, (0, x1))]) dX4_splits_6 rfl (by decide) rfl ?_
  exact m_sub [1, 2, 0] rfl (WM_splits_7 hX hdd FU x1 0 V1)
theorem cl_splits {Z : MZ} {cc : ByteArray} {nL : Nat} {ret : Option FieldType} {d rk : Nat} {pc : Nat} {lv : List (Nat × AV)} {st : List AV} {V : VV} {g : Int → VV → Option (Int × VV)} (hX : MX Z cc nL ret d rk) {a0 : Int} (hdd : 3 ≤ d) (hcat : (st.map fun v => if v.1 = 1 then 2 else 1).sum ≤ 8) (hdg : decode cc pc = .ok (.invokevirtual 234, 3)) (kk : ∀ r V1, MG Z (pc + 3) lv st V1 (g r V1)) : MG Z pc lv ((0, a0) :: (3, 0) :: st) V (mb (M_splits a0 V) g) :=
  m_callVv hX [(0, a0)] 1 (fun hV ho fin hf => WM_splits (zL Z) (Nat.le_refl 2) a0 V hV ho fin hf) (lw_V q1949 q1951 qs66 q131 q1952) (by decide +kernel) rfl (by omega) (by decide) rfl hcat hdg kk
noncomputable def M_fine (V : VV) : Option (Int × VV) := nm (α := Int) (if V 17 0 = (-1) then 1 else 0) fun v1 => cb v1 (some (v1, V))
theorem WM_fine (l : Launch) {d : Nat} (hdd : 1 ≤ d) (V : VV) (hV : okV V) (ho : oks []) (fin : Int × VV) (hf : M_fine V = some fin) : mSpec l yX4_fine cX4_fine 1 (some .boolean) d 0 [(3, 0)] V fin := by
  refine m_enter (lv := [(0, (3, 0))]) (by decide) rfl (Nat.le_of_ble_eq_true rfl) rfl (fun Z hZ hX => ?_) hV (ho.c (okA.t 0)) fin hf
  unfold M_fine
  refine m_aload_n hX 0 dX4_fine_0 rfl rfl ?_
  refine fg_17 hX dX4_fine_1 ?_
  refine m_ic hX dX4_fine_4 (by decide) (by decide) ?_
  refine m_join 13 (fun v1 => [(0, v1)]) (fun v1 => ?_) (fun hJ => ?_)
  · exact m_zret hX rfl dX4_fine_13
  · refine m_icmp_neF hX 12 dX4_fine_5 (by decide) (fun _ => ?_) (fun _ => ?_)
    · refine m_ic hX dX4_fine_12 (by decide) (by decide) ?_
      exact hJ _
    · refine m_ic hX dX4_fine_8 (by decide) (by decide) ?_
      refine m_goto hX 13 dX4_fine_9 (by decide) ?_
      exact hJ _
theorem cl_fine {Z : MZ} {cc : ByteArray} {nL : Nat} {ret : Option FieldType} {d rk : Nat} {pc : Nat} {lv : List (Nat × AV)} {st : List AV} {V : VV} {g : Int → VV → Option (Int × VV)} (hX : MX Z cc nL ret d rk) (hdd : 2 ≤ d) (hcat : (st.map fun v => if v.1 = 1 then 2 else 1).sum ≤ 8) (hdg : decode cc pc = .ok (.invokevirtual 189, 3)) (kk : ∀ r V1, MG Z (pc + 3) lv ((0, r) :: st) V1 (g r V1)) : MG Z pc lv ((3, 0) :: st) V (mb (M_fine V) g) :=
  m_callVi hX [] 0 (fun hV ho fin hf => WM_fine (zL Z) (Nat.le_refl 1) V hV ho fin hf) (lw_V q1972 q1974 qs70 q131 q1975) (by decide +kernel) rfl (by omega) (by decide) rfl hcat hdg kk
noncomputable def M_faults (V : VV) : Option (Int × VV) := mb (M_fine V) fun r1 V2 => if r1 = 0 then (some (0, V2)) else (ck (V2 15 0) 401 <| nm (vup V2 17 0 (V2 13 (V2 15 0))) fun V3 => some (0, V3))
theorem WM_faults (l : Launch) {d : Nat} (hdd : 2 ≤ d) (V : VV) (hV : okV V) (ho : oks []) (fin : Int × VV) (hf : M_faults V = some fin) : mSpec l yX4_faults cX4_faults 1 none d 2 [(3, 0)] V fin := by
  refine m_enter (lv := [(0, (3, 0))]) (by decide) rfl (Nat.le_of_ble_eq_true rfl) rfl (fun Z hZ hX => ?_) hV (ho.c (okA.t 0)) fin hf
  unfold M_faults
  refine m_aload_n hX 0 dX4_faults_0 rfl rfl ?_
  refine cl_fine hX (by omega) (Nat.le_of_ble_eq_true rfl) dX4_faults_1 fun r1 V2 => ?_
  refine m_if_eq hX 20 dX4_faults_4 (by decide) (fun _ => ?_) (fun _ => ?_)
  · exact m_vret hX rfl dX4_faults_20
  · refine m_aload_n hX 0 dX4_faults_7 rfl rfl ?_
    refine m_aload_n hX 0 dX4_faults_8 rfl rfl ?_
    refine fg_13 hX dX4_faults_9 ?_
    refine m_aload_n hX 0 dX4_faults_12 rfl rfl ?_
    refine fg_15 hX dX4_faults_13 ?_
    refine al_13 hX dX4_faults_16 ?_
    refine fp_17 hX dX4_faults_17 fun V3 => ?_
    exact m_vret hX rfl dX4_faults_20
theorem cl_faults {Z : MZ} {cc : ByteArray} {nL : Nat} {ret : Option FieldType} {d rk : Nat} {pc : Nat} {lv : List (Nat × AV)} {st : List AV} {V : VV} {g : Int → VV → Option (Int × VV)} (hX : MX Z cc nL ret d rk) (hdd : 3 ≤ d) (hcat : (st.map fun v => if v.1 = 1 then 2 else 1).sum ≤ 8) (hdg : decode cc pc = .ok (.invokevirtual 199, 3)) (kk : ∀ r V1, MG Z (pc + 3) lv st V1 (g r V1)) : MG Z pc lv ((3, 0) :: st) V (mb (M_faults V) g) :=
  m_callVv hX [] 0 (fun hV ho fin hf => WM_faults (zL Z) (Nat.le_refl 2) V hV ho fin hf) (lw_V q1980 q1982 qs72 q131 q1983) (by decide +kernel) rfl (by omega) (by decide) rfl hcat hdg kk
noncomputable def M_takes0_25 (s0 : Int) (V : VV) : Option (Int × VV) := if s0 = 0 then (cb s0 (some (s0, V))) else (nm (vup V 15 0 (w32 ((V 15 0) + 1))) fun V1 => cb s0 (some (s0, V1)))
theorem WM_takes0_25 {Z : MZ} {d : Nat} (hX : MX Z cX4_takes0 3 (some .boolean) d 0) (hdd : 2 ≤ d) : ∀ s0 V, MG Z 25 [(0, (3, 0))] [(0, s0)] V (M_takes0_25 s0 V) := by
  intro s0 V
  unfold M_takes0_25
  refine m_istore_n hX (lv' := [(2, (0, s0)), (0, (3, 0))]) dX4_takes0_25 rfl (by decide) rfl ?_
  refine m_iload_n hX 0 dX4_takes0_26 rfl rfl ?_
  refine m_if_eq hX 40 dX4_takes0_27 (by decide) (fun _ => ?_) (fun _ => ?_)
  · refine m_iload_n hX 0 dX4_takes0_40 rfl rfl ?_
    exact m_zret hX rfl dX4_takes0_41
  · refine m_aload_n hX 1 dX4_takes0_30 rfl rfl ?_
    refine m_dup hX dX4_takes0_31 rfl ?_
    refine fg_15 hX dX4_takes0_32 ?_
    refine m_ic hX dX4_takes0_35 (by decide) (by decide) ?_
    refine m_iadd hX dX4_takes0_36 ?_
    refine fp_15 hX dX4_takes0_37 fun V1 => ?_
    refine m_iload_n hX 0 dX4_takes0_40 rfl rfl ?_
    exact m_zret hX rfl dX4_takes0_41
noncomputable def M_takes0_24 (V : VV) : Option (Int × VV) := M_takes0_25 0 V
theorem WM_takes0_24 {Z : MZ} {d : Nat} (hX : MX Z cX4_takes0 3 (some .boolean) d 0) (hdd : 2 ≤ d) : ∀ V, MG Z 24 [(0, (3, 0))] [] V (M_takes0_24 V) := by
  intro V
  unfold M_takes0_24
  refine m_ic hX dX4_takes0_24 (by decide) (by decide) ?_
  exact m_sub [0] rfl (WM_takes0_25 hX hdd 0 V)
noncomputable def M_takes0 (x1 : Int) (V : VV) : Option (Int × VV) := mb (M_fine V) fun r1 V2 => if r1 = 0 then (M_takes0_24 V2) else (ck (V2 15 0) 401 <| if V2 11 (V2 15 0) = x1 then (M_takes0_25 1 V2) else (M_takes0_24 V2))
theorem WM_takes0 (l : Launch) {d : Nat} (hdd : 2 ≤ d) (x1 : Int) (V : VV) (hV : okV V) (ho : oks [(0, x1)]) (fin : Int × VV) (hf : M_takes0 x1 V = some fin) : mSpec l yX4_takes0 cX4_takes0 3 (some .boolean) d 0 [(3, 0), (0, x1)] V fin := by
  refine m_enter (lv := [(0, (3, 0)), (1, (0, x1))]) (by decide) rfl (Nat.le_of_ble_eq_true rfl) rfl (fun Z hZ hX => ?_) hV (ho.c (okA.t 0)) fin hf
  unfold M_takes0
  refine m_aload_n hX 0 dX4_takes0_0 rfl rfl ?_
  refine cl_fine hX (by omega) (Nat.le_of_ble_eq_true rfl) dX4_takes0_1 fun r1 V2 => ?_
  refine m_if_eq hX 24 dX4_takes0_4 (by decide) (fun _ => ?_) (fun _ => ?_)
  · exact m_sub [0] rfl (WM_takes0_24 hX hdd V2)
  · refine m_aload_n hX 0 dX4_takes0_7 rfl rfl ?_
    refine fg_11 hX dX4_takes0_8 ?_
    refine m_aload_n hX 0 dX4_takes0_11 rfl rfl ?_
    refine fg_15 hX dX4_takes0_12 ?_
    refine al_11 hX dX4_takes0_15 ?_
    refine m_iload_n hX 1 dX4_takes0_16 rfl rfl ?_
    refine m_icmp_ne hX 24 dX4_takes0_17 (by decide) (fun _ => ?_) (fun _ => ?_)
    · exact m_sub [0] rfl (WM_takes0_24 hX hdd V2)
    · refine m_ic hX dX4_takes0_20 (by decide) (by decide) ?_
      refine m_goto hX 25 dX4_takes0_21 (by decide) ?_
      exact m_sub [0] rfl (WM_takes0_25 hX hdd 1 V2)
theorem cl_takes0 {Z : MZ} {cc : ByteArray} {nL : Nat} {ret : Option FieldType} {d rk : Nat} {pc : Nat} {lv : List (Nat × AV)} {st : List AV} {V : VV} {g : Int → VV → Option (Int × VV)} (hX : MX Z cc nL ret d rk) {a0 : Int} (hdd : 3 ≤ d) (hcat : (st.map fun v => if v.1 = 1 then 2 else 1).sum ≤ 8) (hdg : decode cc pc = .ok (.invokevirtual 196, 3)) (kk : ∀ r V1, MG Z (pc + 3) lv ((0, r) :: st) V1 (g r V1)) : MG Z pc lv ((0, a0) :: (3, 0) :: st) V (mb (M_takes0 a0 V) g) :=
  m_callVi hX [(0, a0)] 1 (fun hV ho fin hf => WM_takes0 (zL Z) (Nat.le_refl 2) a0 V hV ho fin hf) (lw_V q1968 q1970 qs69 q131 q1971) (by decide +kernel) rfl (by omega) (by decide) rfl hcat hdg kk
noncomputable def M_must (x1 : Int) (V : VV) : Option (Int × VV) := mb (M_takes0 x1 V) fun r1 V2 => if r1 = 0 then (mb (M_faults V2) fun r3 V4 => some (0, V4)) else (some (0, V2))
theorem WM_must (l : Launch) {d : Nat} (hdd : 3 ≤ d) (x1 : Int) (V : VV) (hV : okV V) (ho : oks [(0, x1)]) (fin : Int × VV) (hf : M_must x1 V = some fin) : mSpec l yX4_must cX4_must 2 none d 2 [(3, 0), (0, x1)] V fin := by
  refine m_enter (lv := [(0, (3, 0)), (1, (0, x1))]) (by decide) rfl (Nat.le_of_ble_eq_true rfl) rfl (fun Z hZ hX => ?_) hV (ho.c (okA.t 0)) fin hf
  unfold M_must
  refine m_aload_n hX 0 dX4_must_0 rfl rfl ?_
  refine m_iload_n hX 1 dX4_must_1 rfl rfl ?_
  refine cl_takes0 hX (by omega) (Nat.le_of_ble_eq_true rfl) dX4_must_2 fun r1 V2 => ?_
  refine m_if_ne hX 12 dX4_must_5 (by decide) (fun _ => ?_) (fun _ => ?_)
  · exact m_vret hX rfl dX4_must_12
  · refine m_aload_n hX 0 dX4_must_8 rfl rfl ?_
    refine cl_faults hX (by omega) (Nat.le_of_ble_eq_true rfl) dX4_must_9 fun r3 V4 => ?_
    exact m_vret hX rfl dX4_must_12
theorem cl_must {Z : MZ} {cc : ByteArray} {nL : Nat} {ret : Option FieldType} {d rk : Nat} {pc : Nat} {lv : List (Nat × AV)} {st : List AV} {V : VV} {g : Int → VV → Option (Int × VV)} (hX : MX Z cc nL ret d rk) {a0 : Int} (hdd : 4 ≤ d) (hcat : (st.map fun v => if v.1 = 1 then 2 else 1).sum ≤ 8) (hdg : decode cc pc = .ok (.invokevirtual 205, 3)) (kk : ∀ r V1, MG Z (pc + 3) lv st V1 (g r V1)) : MG Z pc lv ((0, a0) :: (3, 0) :: st) V (mb (M_must a0 V) g) :=
  m_callVv hX [(0, a0)] 1 (fun hV ho fin hf => WM_must (zL Z) (Nat.le_refl 3) a0 V hV ho fin hf) (lw_V q1976 q1978 qs71 q131 q1979) (by decide +kernel) rfl (by omega) (by decide) rfl hcat hdg kk
noncomputable def M_leaf_13 (V : VV) : Option (Int × VV) := nm (vup V 16 0 (w32 ((V 16 0) + 1))) fun V1 => mb (M_fine V1) fun r2 V3 => if r2 = 0 then (some (0, V3)) else (nm (vup V3 15 0 (w32 ((V3 15 0) + 1))) fun V4 => some (0, V4))
theorem WM_leaf_13 {Z : MZ} {d : Nat} (hX : MX Z cX4_leaf 1 none d 2) (hdd : 3 ≤ d) : ∀ V, MG Z 13 [(0, (3, 0))] [] V (M_leaf_13 V) := by
  intro V
  unfold M_leaf_13
  refine m_aload_n hX 0 dX4_leaf_13 rfl rfl ?_
  refine m_dup hX dX4_leaf_14 rfl ?_
  refine fg_16 hX dX4_leaf_15 ?_
  refine m_ic hX dX4_leaf_18 (by decide) (by decide) ?_
  refine m_iadd hX dX4_leaf_19 ?_
  refine fp_16 hX dX4_leaf_20 fun V1 => ?_
  refine m_aload_n hX 0 dX4_leaf_23 rfl rfl ?_
  refine cl_fine hX (by omega) (Nat.le_of_ble_eq_true rfl) dX4_leaf_24 fun r2 V3 => ?_
  refine m_if_eq hX 40 dX4_leaf_27 (by decide) (fun _ => ?_) (fun _ => ?_)
  · exact m_vret hX rfl dX4_leaf_40
  · refine m_aload_n hX 0 dX4_leaf_30 rfl rfl ?_
    refine m_dup hX dX4_leaf_31 rfl ?_
    refine fg_15 hX dX4_leaf_32 ?_
    refine m_ic hX dX4_leaf_35 (by decide) (by decide) ?_
    refine m_iadd hX dX4_leaf_36 ?_
    refine fp_15 hX dX4_leaf_37 fun V4 => ?_
    exact m_vret hX rfl dX4_leaf_40
noncomputable def M_leaf (V : VV) : Option (Int × VV) := if V 16 0 = 50 then (mb (M_faults V) fun r1 V2 => M_leaf_13 V2) else (M_leaf_13 V)
theorem WM_leaf (l : Launch) {d : Nat} (hdd : 3 ≤ d) (V : VV) (hV : okV V) (ho : oks []) (fin : Int × VV) (hf : M_leaf V = some fin) : mSpec l yX4_leaf cX4_leaf 1 none d 2 [(3, 0)] V fin := by
  refine m_enter (lv := [(0, (3, 0))]) (by decide) rfl (Nat.le_of_ble_eq_true rfl) rfl (fun Z hZ hX => ?_) hV (ho.c (okA.t 0)) fin hf
  unfold M_leaf
  refine m_aload_n hX 0 dX4_leaf_0 rfl rfl ?_
  refine fg_16 hX dX4_leaf_1 ?_
  refine m_bp hX dX4_leaf_4 (by decide) (by decide) ?_
  refine m_icmp_ne hX 13 dX4_leaf_6 (by decide) (fun _ => ?_) (fun _ => ?_)
  · exact m_sub [0] rfl (WM_leaf_13 hX hdd V)
  · refine m_aload_n hX 0 dX4_leaf_9 rfl rfl ?_
    refine cl_faults hX (by omega) (Nat.le_of_ble_eq_true rfl) dX4_leaf_10 fun r1 V2 => ?_
    exact m_sub [0] rfl (WM_leaf_13 hX hdd V2)
theorem cl_leaf {Z : MZ} {cc : ByteArray} {nL : Nat} {ret : Option FieldType} {d rk : Nat} {pc : Nat} {lv : List (Nat × AV)} {st : List AV} {V : VV} {g : Int → VV → Option (Int × VV)} (hX : MX Z cc nL ret d rk) (hdd : 4 ≤ d) (hcat : (st.map fun v => if v.1 = 1 then 2 else 1).sum ≤ 8) (hdg : decode cc pc = .ok (.invokevirtual 231, 3)) (kk : ∀ r V1, MG Z (pc + 3) lv st V1 (g r V1)) : MG Z pc lv ((3, 0) :: st) V (mb (M_leaf V) g) :=
  m_callVv hX [] 0 (fun hV ho fin hf => WM_leaf (zL Z) (Nat.le_refl 3) V hV ho fin hf) (lw_V q1999 q2001 qs76 q131 q2002) (by decide +kernel) rfl (by omega) (by decide) rfl hcat hdg kk
noncomputable def M_sign (x0 : Int) (V : VV) : Option (Int × VV) := some (w32 (100 + x0), V)
theorem WM_sign (l : Launch) {d : Nat} (hdd : 1 ≤ d) (x0 : Int) (V : VV) (hV : okV V) (ho : oks [(0, x0)]) (fin : Int × VV) (hf : M_sign x0 V = some fin) : mSpec l yX4_sign cX4_sign 1 (some .int) d 0 [(0, x0)] V fin := by
  refine m_enter (lv := [(0, (0, x0))]) (by decide) rfl (Nat.le_of_ble_eq_true rfl) rfl (fun Z hZ hX => ?_) hV ho fin hf
  unfold M_sign
  refine m_bp hX dX4_sign_0 (by decide) (by decide) ?_
  refine m_iload_n hX 0 dX4_sign_2 rfl rfl ?_
  refine m_iadd hX dX4_sign_3 ?_
  exact m_iret hX rfl dX4_sign_4
theorem cl_sign {Z : MZ} {cc : ByteArray} {nL : Nat} {ret : Option FieldType} {d rk : Nat} {pc : Nat} {lv : List (Nat × AV)} {st : List AV} {V : VV} {g : Int → VV → Option (Int × VV)} (hX : MX Z cc nL ret d rk) {a0 : Int} (hdd : 2 ≤ d) (hcat : (st.map fun v => if v.1 = 1 then 2 else 1).sum ≤ 8) (hdg : decode cc pc = .ok (.invokestatic 221, 3)) (kk : ∀ r V1, MG Z (pc + 3) lv ((0, r) :: st) V1 (g r V1)) : MG Z pc lv ((0, a0) :: st) V (mb (M_sign a0 V) g) :=
  m_callSi hX [(0, a0)] 1 (fun hV ho fin hf => WM_sign (zL Z) (Nat.le_refl 1) a0 V hV ho fin hf) (lw_S q1996 q1997 q131 q1998) (by decide +kernel) rfl (by omega) (by decide) rfl hcat hdg kk
theorem cr_readSum {Z : MZ} {cc : ByteArray} {nL : Nat} {ret : Option FieldType} {d rk : Nat} {pc : Nat} {lv : List (Nat × AV)} {st : List AV} {V : VV} {g : Int → VV → Option (Int × VV)} (hX : MX Z cc nL ret d rk) {a0 : Int} {dr : Nat} {R_readSum : Int → VV → Option (Int × VV)} (hR : ∀ (a0 : Int) (V : VV), okV V → oks [(0, a0)] → ∀ fin, R_readSum a0 V = some fin → mSpec (zL Z) yX4_readSum cX4_readSum 2 none dr 2 [(3, 0), (0, a0)] V fin) (hdd : dr + 1 ≤ d) (hcat : (st.map fun v => if v.1 = 1 then 2 else 1).sum ≤ 8) (hdg : decode cc pc = .ok (.invokevirtual 209, 3)) (kk : ∀ r V1, MG Z (pc + 3) lv st V1 (g r V1)) : MG Z pc lv ((0, a0) :: (3, 0) :: st) V (mb (R_readSum a0 V) g) :=
  m_callVv hX [(0, a0)] 1 (fun hV ho fin hf => hR a0 V hV ho fin hf) (lw_V q1984 q1986 qs73 q131 q1987) (by decide +kernel) rfl hdd (by decide) rfl hcat hdg kk
theorem cr_readTerm {Z : MZ} {cc : ByteArray} {nL : Nat} {ret : Option FieldType} {d rk : Nat} {pc : Nat} {lv : List (Nat × AV)} {st : List AV} {V : VV} {g : Int → VV → Option (Int × VV)} (hX : MX Z cc nL ret d rk) {a0 : Int} {dr : Nat} {R_readTerm : Int → VV → Option (Int × VV)} (hR : ∀ (a0 : Int) (V : VV), okV V → oks [(0, a0)] → ∀ fin, R_readTerm a0 V = some fin → mSpec (zL Z) yX4_readTerm cX4_readTerm 2 none dr 2 [(3, 0), (0, a0)] V fin) (hdd : dr + 1 ≤ d) (hcat : (st.map fun v => if v.1 = 1 then 2 else 1).sum ≤ 8) (hdg : decode cc pc = .ok (.invokevirtual 225, 3)) (kk : ∀ r V1, MG Z (pc + 3) lv st V1 (g r V1)) : MG Z pc lv ((0, a0) :: (3, 0) :: st) V (mb (R_readTerm a0 V) g) :=
  m_callVv hX [(0, a0)] 1 (fun hV ho fin hf => hR a0 V hV ho fin hf) (lw_V q1988 q1990 qs74 q131 q1991) (by decide +kernel) rfl hdd (by decide) rfl hcat hdg kk
theorem cr_readPart {Z : MZ} {cc : ByteArray} {nL : Nat} {ret : Option FieldType} {d rk : Nat} {pc : Nat} {lv : List (Nat × AV)} {st : List AV} {V : VV} {g : Int → VV → Option (Int × VV)} (hX : MX Z cc nL ret d rk) {a0 : Int} {dr : Nat} {R_readPart : Int → VV → Option (Int × VV)} (hR : ∀ (a0 : Int) (V : VV), okV V → oks [(0, a0)] → ∀ fin, R_readPart a0 V = some fin → mSpec (zL Z) yX4_readPart cX4_readPart 3 none dr 2 [(3, 0), (0, a0)] V fin) (hdd : dr + 1 ≤ d) (hcat : (st.map fun v => if v.1 = 1 then 2 else 1).sum ≤ 8) (hdg : decode cc pc = .ok (.invokevirtual 228, 3)) (kk : ∀ r V1, MG Z (pc + 3) lv st V1 (g r V1)) : MG Z pc lv ((0, a0) :: (3, 0) :: st) V (mb (R_readPart a0 V) g) :=
  m_callVv hX [(0, a0)] 1 (fun hV ho fin hf => hR a0 V hV ho fin hf) (lw_V q1992 q1994 qs75 q131 q1995) (by decide +kernel) rfl hdd (by decide) rfl hcat hdg kk
noncomputable def M_readSum_29 (R_readSum : Int → VV → Option (Int × VV)) (R_readTerm : Int → VV → Option (Int × VV)) (R_readPart : Int → VV → Option (Int × VV)) (K5 : Int → VV → Option (Int × VV)) (x1 : Int) (V : VV) : Option (Int × VV) := mb (R_readTerm x1 V) fun r1 V2 => K5 x1 V2
theorem WM_readSum_29 {Z : MZ} {d : Nat} {dr : Nat} (hX : MX Z cX4_readSum 2 none d 2) (hdd : dr + 1 ≤ d ∧ 4 ≤ d) {R_readSum : Int → VV → Option (Int × VV)} {R_readTerm : Int → VV → Option (Int × VV)} {R_readPart : Int → VV → Option (Int × VV)} (hR_readSum : ∀ (a0 : Int) (V : VV), okV V → oks [(0, a0)] → ∀ fin, R_readSum a0 V = some fin → mSpec (zL Z) yX4_readSum cX4_readSum 2 none dr 2 [(3, 0), (0, a0)] V fin) (hR_readTerm : ∀ (a0 : Int) (V : VV), okV V → oks [(0, a0)] → ∀ fin, R_readTerm a0 V = some fin → mSpec (zL Z) yX4_readTerm cX4_readTerm 2 none dr 2 [(3, 0), (0, a0)] V fin) (hR_readPart : ∀ (a0 : Int) (V : VV), okV V → oks [(0, a0)] → ∀ fin, R_readPart a0 V = some fin → mSpec (zL Z) yX4_readPart cX4_readPart 3 none dr 2 [(3, 0), (0, a0)] V fin) {K5 : Int → VV → Option (Int × VV)} (hK5 : ∀ x1 V, MG Z 5 [(0, (3, 0)), (1, (0, x1))] [] V (K5 x1 V)) : ∀ x1 V, MG Z 29 [(0, (3, 0)), (1, (0, x1))] [] V (M_readSum_29 R_readSum R_readTerm R_readPart K5 x1 V) := by
  intro x1 V
  unfold M_readSum_29
  refine m_aload_n hX 0 dX4_readSum_29 rfl rfl ?_
  refine m_iload_n hX 1 dX4_readSum_30 rfl rfl ?_
  refine cr_readTerm hX hR_readTerm hdd.1 (Nat.le_of_ble_eq_true rfl) dX4_readSum_31 fun r1 V2 => ?_
  refine m_goto hX 5 dX4_readSum_34 (by decide) ?_
  exact m_sub [0, 1] rfl (hK5 x1 V2)
noncomputable def M_readSum_5 (R_readSum : Int → VV → Option (Int × VV)) (R_readTerm : Int → VV → Option (Int × VV)) (R_readPart : Int → VV → Option (Int × VV)) : Nat → Int → VV → Option (Int × VV)
  | 0, _, _ => none
  | n + 1, x1, V => mb (M_sign 43 V) fun r1 V2 => mb (M_takes0 r1 V2) fun r3 V4 => if r3 = 0 then (mb (M_sign 45 V4) fun r5 V6 => mb (M_takes0 r5 V6) fun r7 V8 => if r7 = 0 then (some (0, V8)) else (M_readSum_29 R_readSum R_readTerm R_readPart (M_readSum_5 R_readSum R_readTerm R_readPart n) x1 V8)) else (M_readSum_29 R_readSum R_readTerm R_readPart (M_readSum_5 R_readSum R_readTerm R_readPart n) x1 V4)
theorem WM_readSum_5 {Z : MZ} {d : Nat} {dr : Nat} (hX : MX Z cX4_readSum 2 none d 2) (hdd : dr + 1 ≤ d ∧ 4 ≤ d) {R_readSum : Int → VV → Option (Int × VV)} {R_readTerm : Int → VV → Option (Int × VV)} {R_readPart : Int → VV → Option (Int × VV)} (hR_readSum : ∀ (a0 : Int) (V : VV), okV V → oks [(0, a0)] → ∀ fin, R_readSum a0 V = some fin → mSpec (zL Z) yX4_readSum cX4_readSum 2 none dr 2 [(3, 0), (0, a0)] V fin) (hR_readTerm : ∀ (a0 : Int) (V : VV), okV V → oks [(0, a0)] → ∀ fin, R_readTerm a0 V = some fin → mSpec (zL Z) yX4_readTerm cX4_readTerm 2 none dr 2 [(3, 0), (0, a0)] V fin) (hR_readPart : ∀ (a0 : Int) (V : VV), okV V → oks [(0, a0)] → ∀ fin, R_readPart a0 V = some fin → mSpec (zL Z) yX4_readPart cX4_readPart 3 none dr 2 [(3, 0), (0, a0)] V fin) : ∀ n x1 V, MG Z 5 [(0, (3, 0)), (1, (0, x1))] [] V (M_readSum_5 R_readSum R_readTerm R_readPart n x1 V) := by
  intro n
  induction n with
  | zero => intro x1 V; exact m_none
  | succ n ih =>
    intro x1 V
    rw [M_readSum_5]
    refine m_aload_n hX 0 dX4_readSum_5 rfl rfl ?_
    refine m_bp hX dX4_readSum_6 (by decide) (by decide) ?_
    refine cl_sign hX (by omega) (Nat.le_of_ble_eq_true rfl) dX4_readSum_8 fun r1 V2 => ?_
    refine cl_takes0 hX (by omega) (Nat.le_of_ble_eq_true rfl) dX4_readSum_11 fun r3 V4 => ?_
    refine m_if_ne hX 29 dX4_readSum_14 (by decide) (fun _ => ?_) (fun _ => ?_)
    · exact m_sub [0, 1] rfl (WM_readSum_29 hX hdd hR_readSum hR_readTerm hR_readPart ih x1 V4)
    · refine m_aload_n hX 0 dX4_readSum_17 rfl rfl ?_
      refine m_bp hX dX4_readSum_18 (by decide) (by decide) ?_
      refine cl_sign hX (by omega) (Nat.le_of_ble_eq_true rfl) dX4_readSum_20 fun r5 V6 => ?_
      refine cl_takes0 hX (by omega) (Nat.le_of_ble_eq_true rfl) dX4_readSum_23 fun r7 V8 => ?_
      refine m_if_eq hX 37 dX4_readSum_26 (by decide) (fun _ => ?_) (fun _ => ?_)
      · exact m_vret hX rfl dX4_readSum_37
      · exact m_sub [0, 1] rfl (WM_readSum_29 hX hdd hR_readSum hR_readTerm hR_readPart ih x1 V8)
noncomputable def M_readSum_b (R_readSum : Int → VV → Option (Int × VV)) (R_readTerm : Int → VV → Option (Int × VV)) (R_readPart : Int → VV → Option (Int × VV)) (x1 : Int) (V : VV) : Option (Int × VV) := mb (R_readTerm x1 V) fun r1 V2 => M_readSum_5 R_readSum R_readTerm R_readPart FU x1 V2
theorem WM_readSum_b (l : Launch) {d dr : Nat} (hdd : dr + 1 ≤ d ∧ 4 ≤ d) {R_readSum : Int → VV → Option (Int × VV)} {R_readTerm : Int → VV → Option (Int × VV)} {R_readPart : Int → VV → Option (Int × VV)} (hR_readSum : ∀ (a0 : Int) (V : VV), okV V → oks [(0, a0)] → ∀ fin, R_readSum a0 V = some fin → mSpec (l) yX4_readSum cX4_readSum 2 none dr 2 [(3, 0), (0, a0)] V fin) (hR_readTerm : ∀ (a0 : Int) (V : VV), okV V → oks [(0, a0)] → ∀ fin, R_readTerm a0 V = some fin → mSpec (l) yX4_readTerm cX4_readTerm 2 none dr 2 [(3, 0), (0, a0)] V fin) (hR_readPart : ∀ (a0 : Int) (V : VV), okV V → oks [(0, a0)] → ∀ fin, R_readPart a0 V = some fin → mSpec (l) yX4_readPart cX4_readPart 3 none dr 2 [(3, 0), (0, a0)] V fin) (x1 : Int) (V : VV) (hV : okV V) (ho : oks [(0, x1)]) (fin : Int × VV) (hf : M_readSum_b R_readSum R_readTerm R_readPart x1 V = some fin) : mSpec l yX4_readSum cX4_readSum 2 none d 2 [(3, 0), (0, x1)] V fin := by
  refine m_enter (lv := [(0, (3, 0)), (1, (0, x1))]) (by decide) rfl (Nat.le_of_ble_eq_true rfl) rfl (fun Z hZ hX => ?_) hV (ho.c (okA.t 0)) fin hf
  subst hZ
  unfold M_readSum_b
  refine m_aload_n hX 0 dX4_readSum_0 rfl rfl ?_
  refine m_iload_n hX 1 dX4_readSum_1 rfl rfl ?_
  refine cr_readTerm hX hR_readTerm hdd.1 (Nat.le_of_ble_eq_true rfl) dX4_readSum_2 fun r1 V2 => ?_
  exact m_sub [0, 1] rfl (WM_readSum_5 hX hdd hR_readSum hR_readTerm hR_readPart FU x1 V2)
noncomputable def M_readTerm_29 (R_readSum : Int → VV → Option (Int × VV)) (R_readTerm : Int → VV → Option (Int × VV)) (R_readPart : Int → VV → Option (Int × VV)) (K5 : Int → VV → Option (Int × VV)) (x1 : Int) (V : VV) : Option (Int × VV) := mb (R_readPart x1 V) fun r1 V2 => K5 x1 V2
theorem WM_readTerm_29 {Z : MZ} {d : Nat} {dr : Nat} (hX : MX Z cX4_readTerm 2 none d 2) (hdd : dr + 1 ≤ d ∧ 4 ≤ d) {R_readSum : Int → VV → Option (Int × VV)} {R_readTerm : Int → VV → Option (Int × VV)} {R_readPart : Int → VV → Option (Int × VV)} (hR_readSum : ∀ (a0 : Int) (V : VV), okV V → oks [(0, a0)] → ∀ fin, R_readSum a0 V = some fin → mSpec (zL Z) yX4_readSum cX4_readSum 2 none dr 2 [(3, 0), (0, a0)] V fin) (hR_readTerm : ∀ (a0 : Int) (V : VV), okV V → oks [(0, a0)] → ∀ fin, R_readTerm a0 V = some fin → mSpec (zL Z) yX4_readTerm cX4_readTerm 2 none dr 2 [(3, 0), (0, a0)] V fin) (hR_readPart : ∀ (a0 : Int) (V : VV), okV V → oks [(0, a0)] → ∀ fin, R_readPart a0 V = some fin → mSpec (zL Z) yX4_readPart cX4_readPart 3 none dr 2 [(3, 0), (0, a0)] V fin) {K5 : Int → VV → Option (Int × VV)} (hK5 : ∀ x1 V, MG Z 5 [(0, (3, 0)), (1, (0, x1))] [] V (K5 x1 V)) : ∀ x1 V, MG Z 29 [(0, (3, 0)), (1, (0, x1))] [] V (M_readTerm_29 R_readSum R_readTerm R_readPart K5 x1 V) := by
  intro x1 V
  unfold M_readTerm_29
  refine m_aload_n hX 0 dX4_readTerm_29 rfl rfl ?_
  refine m_iload_n hX 1 dX4_readTerm_30 rfl rfl ?_
  refine cr_readPart hX hR_readPart hdd.1 (Nat.le_of_ble_eq_true rfl) dX4_readTerm_31 fun r1 V2 => ?_
  refine m_goto hX 5 dX4_readTerm_34 (by decide) ?_
  exact m_sub [0, 1] rfl (hK5 x1 V2)
noncomputable def M_readTerm_5 (R_readSum : Int → VV → Option (Int × VV)) (R_readTerm : Int → VV → Option (Int × VV)) (R_readPart : Int → VV → Option (Int × VV)) : Nat → Int → VV → Option (Int × VV)
  | 0, _, _ => none
  | n + 1, x1, V => mb (M_sign 42 V) fun r1 V2 => mb (M_takes0 r1 V2) fun r3 V4 => if r3 = 0 then (mb (M_sign 47 V4) fun r5 V6 => mb (M_takes0 r5 V6) fun r7 V8 => if r7 = 0 then (some (0, V8)) else (M_readTerm_29 R_readSum R_readTerm R_readPart (M_readTerm_5 R_readSum R_readTerm R_readPart n) x1 V8)) else (M_readTerm_29 R_readSum R_readTerm R_readPart (M_readTerm_5 R_readSum R_readTerm R_readPart n) x1 V4)
theorem WM_readTerm_5 {Z : MZ} {d : Nat} {dr : Nat} (hX : MX Z cX4_readTerm 2 none d 2) (hdd : dr + 1 ≤ d ∧ 4 ≤ d) {R_readSum : Int → VV → Option (Int × VV)} {R_readTerm : Int → VV → Option (Int × VV)} {R_readPart : Int → VV → Option (Int × VV)} (hR_readSum : ∀ (a0 : Int) (V : VV), okV V → oks [(0, a0)] → ∀ fin, R_readSum a0 V = some fin → mSpec (zL Z) yX4_readSum cX4_readSum 2 none dr 2 [(3, 0), (0, a0)] V fin) (hR_readTerm : ∀ (a0 : Int) (V : VV), okV V → oks [(0, a0)] → ∀ fin, R_readTerm a0 V = some fin → mSpec (zL Z) yX4_readTerm cX4_readTerm 2 none dr 2 [(3, 0), (0, a0)] V fin) (hR_readPart : ∀ (a0 : Int) (V : VV), okV V → oks [(0, a0)] → ∀ fin, R_readPart a0 V = some fin → mSpec (zL Z) yX4_readPart cX4_readPart 3 none dr 2 [(3, 0), (0, a0)] V fin) : ∀ n x1 V, MG Z 5 [(0, (3, 0)), (1, (0, x1))] [] V (M_readTerm_5 R_readSum R_readTerm R_readPart n x1 V) := by
  intro n
  induction n with
  | zero => intro x1 V; exact m_none
  | succ n ih =>
    intro x1 V
    rw [M_readTerm_5]
    refine m_aload_n hX 0 dX4_readTerm_5 rfl rfl ?_
    refine m_bp hX dX4_readTerm_6 (by decide) (by decide) ?_
    refine cl_sign hX (by omega) (Nat.le_of_ble_eq_true rfl) dX4_readTerm_8 fun r1 V2 => ?_
    refine cl_takes0 hX (by omega) (Nat.le_of_ble_eq_true rfl) dX4_readTerm_11 fun r3 V4 => ?_
    refine m_if_ne hX 29 dX4_readTerm_14 (by decide) (fun _ => ?_) (fun _ => ?_)
    · exact m_sub [0, 1] rfl (WM_readTerm_29 hX hdd hR_readSum hR_readTerm hR_readPart ih x1 V4)
    · refine m_aload_n hX 0 dX4_readTerm_17 rfl rfl ?_
      refine m_bp hX dX4_readTerm_18 (by decide) (by decide) ?_
      refine cl_sign hX (by omega) (Nat.le_of_ble_eq_true rfl) dX4_readTerm_20 fun r5 V6 => ?_
      refine cl_takes0 hX (by omega) (Nat.le_of_ble_eq_true rfl) dX4_readTerm_23 fun r7 V8 => ?_
      refine m_if_eq hX 37 dX4_readTerm_26 (by decide) (fun _ => ?_) (fun _ => ?_)
      · exact m_vret hX rfl dX4_readTerm_37
      · exact m_sub [0, 1] rfl (WM_readTerm_29 hX hdd hR_readSum hR_readTerm hR_readPart ih x1 V8)
noncomputable def M_readTerm_b (R_readSum : Int → VV → Option (Int × VV)) (R_readTerm : Int → VV → Option (Int × VV)) (R_readPart : Int → VV → Option (Int × VV)) (x1 : Int) (V : VV) : Option (Int × VV) := mb (R_readPart x1 V) fun r1 V2 => M_readTerm_5 R_readSum R_readTerm R_readPart FU x1 V2
theorem WM_readTerm_b (l : Launch) {d dr : Nat} (hdd : dr + 1 ≤ d ∧ 4 ≤ d) {R_readSum : Int → VV → Option (Int × VV)} {R_readTerm : Int → VV → Option (Int × VV)} {R_readPart : Int → VV → Option (Int × VV)} (hR_readSum : ∀ (a0 : Int) (V : VV), okV V → oks [(0, a0)] → ∀ fin, R_readSum a0 V = some fin → mSpec (l) yX4_readSum cX4_readSum 2 none dr 2 [(3, 0), (0, a0)] V fin) (hR_readTerm : ∀ (a0 : Int) (V : VV), okV V → oks [(0, a0)] → ∀ fin, R_readTerm a0 V = some fin → mSpec (l) yX4_readTerm cX4_readTerm 2 none dr 2 [(3, 0), (0, a0)] V fin) (hR_readPart : ∀ (a0 : Int) (V : VV), okV V → oks [(0, a0)] → ∀ fin, R_readPart a0 V = some fin → mSpec (l) yX4_readPart cX4_readPart 3 none dr 2 [(3, 0), (0, a0)] V fin) (x1 : Int) (V : VV) (hV : okV V) (ho : oks [(0, x1)]) (fin : Int × VV) (hf : M_readTerm_b R_readSum R_readTerm R_readPart x1 V = some fin) : mSpec l yX4_readTerm cX4_readTerm 2 none d 2 [(3, 0), (0, x1)] V fin := by
  refine m_enter (lv := [(0, (3, 0)), (1, (0, x1))]) (by decide) rfl (Nat.le_of_ble_eq_true rfl) rfl (fun Z hZ hX => ?_) hV (ho.c (okA.t 0)) fin hf
  subst hZ
  unfold M_readTerm_b
  refine m_aload_n hX 0 dX4_readTerm_0 rfl rfl ?_
  refine m_iload_n hX 1 dX4_readTerm_1 rfl rfl ?_
  refine cr_readPart hX hR_readPart hdd.1 (Nat.le_of_ble_eq_true rfl) dX4_readTerm_2 fun r1 V2 => ?_
  exact m_sub [0, 1] rfl (WM_readTerm_5 hX hdd hR_readSum hR_readTerm hR_readPart FU x1 V2)
noncomputable def M_readPart_37 (R_readSum : Int → VV → Option (Int × VV)) (R_readTerm : Int → VV → Option (Int × VV)) (R_readPart : Int → VV → Option (Int × VV)) (x1 : Int) (V : VV) : Option (Int × VV) := mb (M_fine V) fun r1 V2 => if r1 = 0 then (some (0, V2)) else (nm (vup V2 15 0 (w32 ((V2 15 0) + 1))) fun V3 => mb (R_readSum (w32 (x1 + 1)) V3) fun r4 V5 => mb (M_sign 93 V5) fun r6 V7 => mb (M_must r6 V7) fun r8 V9 => some (0, V9))
theorem WM_readPart_37 {Z : MZ} {d : Nat} {dr : Nat} (hX : MX Z cX4_readPart 3 none d 2) (hdd : dr + 1 ≤ d ∧ 4 ≤ d) {R_readSum : Int → VV → Option (Int × VV)} {R_readTerm : Int → VV → Option (Int × VV)} {R_readPart : Int → VV → Option (Int × VV)} (hR_readSum : ∀ (a0 : Int) (V : VV), okV V → oks [(0, a0)] → ∀ fin, R_readSum a0 V = some fin → mSpec (zL Z) yX4_readSum cX4_readSum 2 none dr 2 [(3, 0), (0, a0)] V fin) (hR_readTerm : ∀ (a0 : Int) (V : VV), okV V → oks [(0, a0)] → ∀ fin, R_readTerm a0 V = some fin → mSpec (zL Z) yX4_readTerm cX4_readTerm 2 none dr 2 [(3, 0), (0, a0)] V fin) (hR_readPart : ∀ (a0 : Int) (V : VV), okV V → oks [(0, a0)] → ∀ fin, R_readPart a0 V = some fin → mSpec (zL Z) yX4_readPart cX4_readPart 3 none dr 2 [(3, 0), (0, a0)] V fin) : ∀ x1 V, MG Z 37 [(0, (3, 0)), (1, (0, x1))] [] V (M_readPart_37 R_readSum R_readTerm R_readPart x1 V) := by
  intro x1 V
  unfold M_readPart_37
  refine m_aload_n hX 0 dX4_readPart_37 rfl rfl ?_
  refine cl_fine hX (by omega) (Nat.le_of_ble_eq_true rfl) dX4_readPart_38 fun r1 V2 => ?_
  refine m_if_ne hX 45 dX4_readPart_41 (by decide) (fun _ => ?_) (fun _ => ?_)
  · refine m_aload_n hX 0 dX4_readPart_45 rfl rfl ?_
    refine m_dup hX dX4_readPart_46 rfl ?_
    refine fg_15 hX dX4_readPart_47 ?_
    refine m_ic hX dX4_readPart_50 (by decide) (by decide) ?_
    refine m_iadd hX dX4_readPart_51 ?_
    refine fp_15 hX dX4_readPart_52 fun V3 => ?_
    refine m_aload_n hX 0 dX4_readPart_55 rfl rfl ?_
    refine m_iload_n hX 1 dX4_readPart_56 rfl rfl ?_
    refine m_ic hX dX4_readPart_57 (by decide) (by decide) ?_
    refine m_iadd hX dX4_readPart_58 ?_
    refine cr_readSum hX hR_readSum hdd.1 (Nat.le_of_ble_eq_true rfl) dX4_readPart_59 fun r4 V5 => ?_
    refine m_aload_n hX 0 dX4_readPart_62 rfl rfl ?_
    refine m_bp hX dX4_readPart_63 (by decide) (by decide) ?_
    refine cl_sign hX (by omega) (Nat.le_of_ble_eq_true rfl) dX4_readPart_65 fun r6 V7 => ?_
    refine cl_must hX (by omega) (Nat.le_of_ble_eq_true rfl) dX4_readPart_68 fun r8 V9 => ?_
    refine m_goto hX 118 dX4_readPart_71 (by decide) ?_
    exact m_vret hX rfl dX4_readPart_118
  · exact m_vret hX rfl dX4_readPart_44
noncomputable def M_readPart_107 (R_readSum : Int → VV → Option (Int × VV)) (R_readTerm : Int → VV → Option (Int × VV)) (R_readPart : Int → VV → Option (Int × VV)) (V : VV) : Option (Int × VV) := mb (M_leaf V) fun r1 V2 => some (0, V2)
theorem WM_readPart_107 {Z : MZ} {d : Nat} {dr : Nat} (hX : MX Z cX4_readPart 3 none d 2) (hdd : dr + 1 ≤ d ∧ 4 ≤ d) {R_readSum : Int → VV → Option (Int × VV)} {R_readTerm : Int → VV → Option (Int × VV)} {R_readPart : Int → VV → Option (Int × VV)} (hR_readSum : ∀ (a0 : Int) (V : VV), okV V → oks [(0, a0)] → ∀ fin, R_readSum a0 V = some fin → mSpec (zL Z) yX4_readSum cX4_readSum 2 none dr 2 [(3, 0), (0, a0)] V fin) (hR_readTerm : ∀ (a0 : Int) (V : VV), okV V → oks [(0, a0)] → ∀ fin, R_readTerm a0 V = some fin → mSpec (zL Z) yX4_readTerm cX4_readTerm 2 none dr 2 [(3, 0), (0, a0)] V fin) (hR_readPart : ∀ (a0 : Int) (V : VV), okV V → oks [(0, a0)] → ∀ fin, R_readPart a0 V = some fin → mSpec (zL Z) yX4_readPart cX4_readPart 3 none dr 2 [(3, 0), (0, a0)] V fin) : ∀ V, MG Z 107 [(0, (3, 0))] [] V (M_readPart_107 R_readSum R_readTerm R_readPart V) := by
  intro V
  unfold M_readPart_107
  refine m_aload_n hX 0 dX4_readPart_107 rfl rfl ?_
  refine cl_leaf hX (by omega) (Nat.le_of_ble_eq_true rfl) dX4_readPart_108 fun r1 V2 => ?_
  refine m_goto hX 118 dX4_readPart_111 (by decide) ?_
  exact m_vret hX rfl dX4_readPart_118
noncomputable def M_readPart_114 (R_readSum : Int → VV → Option (Int × VV)) (R_readTerm : Int → VV → Option (Int × VV)) (R_readPart : Int → VV → Option (Int × VV)) (V : VV) : Option (Int × VV) := mb (M_faults V) fun r1 V2 => some (0, V2)
theorem WM_readPart_114 {Z : MZ} {d : Nat} {dr : Nat} (hX : MX Z cX4_readPart 3 none d 2) (hdd : dr + 1 ≤ d ∧ 4 ≤ d) {R_readSum : Int → VV → Option (Int × VV)} {R_readTerm : Int → VV → Option (Int × VV)} {R_readPart : Int → VV → Option (Int × VV)} (hR_readSum : ∀ (a0 : Int) (V : VV), okV V → oks [(0, a0)] → ∀ fin, R_readSum a0 V = some fin → mSpec (zL Z) yX4_readSum cX4_readSum 2 none dr 2 [(3, 0), (0, a0)] V fin) (hR_readTerm : ∀ (a0 : Int) (V : VV), okV V → oks [(0, a0)] → ∀ fin, R_readTerm a0 V = some fin → mSpec (zL Z) yX4_readTerm cX4_readTerm 2 none dr 2 [(3, 0), (0, a0)] V fin) (hR_readPart : ∀ (a0 : Int) (V : VV), okV V → oks [(0, a0)] → ∀ fin, R_readPart a0 V = some fin → mSpec (zL Z) yX4_readPart cX4_readPart 3 none dr 2 [(3, 0), (0, a0)] V fin) : ∀ V, MG Z 114 [(0, (3, 0))] [] V (M_readPart_114 R_readSum R_readTerm R_readPart V) := by
  intro V
  unfold M_readPart_114
  refine m_aload_n hX 0 dX4_readPart_114 rfl rfl ?_
  refine cl_faults hX (by omega) (Nat.le_of_ble_eq_true rfl) dX4_readPart_115 fun r1 V2 => ?_
  exact m_vret hX rfl dX4_readPart_118
noncomputable def M_readPart_95 (R_readSum : Int → VV → Option (Int × VV)) (R_readTerm : Int → VV → Option (Int × VV)) (R_readPart : Int → VV → Option (Int × VV)) (x2 : Int) (V : VV) : Option (Int × VV) := if x2 < 8 then (M_readPart_114 R_readSum R_readTerm R_readPart V) else (if 14 < x2 then (M_readPart_114 R_readSum R_readTerm R_readPart V) else (M_readPart_107 R_readSum R_readTerm R_readPart V))
theorem WM_readPart_95 {Z : MZ} {d : Nat} {dr : Nat} (hX : MX Z cX4_readPart 3 none d 2) (hdd : dr + 1 ≤ d ∧ 4 ≤ d) {R_readSum : Int → VV → Option (Int × VV)} {R_readTerm : Int → VV → Option (Int × VV)} {R_readPart : Int → VV → Option (Int × VV)} (hR_readSum : ∀ (a0 : Int) (V : VV), okV V → oks [(0, a0)] → ∀ fin, R_readSum a0 V = some fin → mSpec (zL Z) yX4_readSum cX4_readSum 2 none dr 2 [(3, 0), (0, a0)] V fin) (hR_readTerm : ∀ (a0 : Int) (V : VV), okV V → oks [(0, a0)] → ∀ fin, R_readTerm a0 V = some fin → mSpec (zL Z) yX4_readTerm cX4_readTerm 2 none dr 2 [(3, 0), (0, a0)] V fin) (hR_readPart : ∀ (a0 : Int) (V : VV), okV V → oks [(0, a0)] → ∀ fin, R_readPart a0 V = some fin → mSpec (zL Z) yX4_readPart cX4_readPart 3 none dr 2 [(3, 0), (0, a0)] V fin) : ∀ x2 V, MG Z 95 [(0, (3, 0)), (2, (0, x2))] [] V (M_readPart_95 R_readSum R_readTerm R_readPart x2 V) := by
  intro x2 V
  unfold M_readPart_95
  refine m_iload_n hX 1 dX4_readPart_95 rfl rfl ?_
  refine m_bp hX dX4_readPart_96 (by decide) (by decide) ?_
  refine m_icmp_lt hX 114 dX4_readPart_98 (by decide) (fun _ => ?_) (fun _ => ?_)
  · exact m_sub [0] rfl (WM_readPart_114 hX hdd hR_readSum hR_readTerm hR_readPart V)
  · refine m_iload_n hX 1 dX4_readPart_101 rfl rfl ?_
    refine m_bp hX dX4_readPart_102 (by decide) (by decide) ?_
    refine m_icmp_gt hX 114 dX4_readPart_104 (by decide) (fun _ => ?_) (fun _ => ?_)
    · exact m_sub [0] rfl (WM_readPart_114 hX hdd hR_readSum hR_readTerm hR_readPart V)
    · exact m_sub [0] rfl (WM_readPart_107 hX hdd hR_readSum hR_readTerm hR_readPart V)
noncomputable def M_readPart_b (R_readSum : Int → VV → Option (Int × VV)) (R_readTerm : Int → VV → Option (Int × VV)) (R_readPart : Int → VV → Option (Int × VV)) (x1 : Int) (V : VV) : Option (Int × VV) := mb (M_fine V) fun r1 V2 => if r1 = 0 then (some (0, V2)) else (ck (V2 15 0) 401 <| nm (α := Int) (V2 11 (V2 15 0)) fun v3 => mb (M_sign 91 V2) fun r4 V5 => if v3 = r4 then (if x1 = 8 then (mb (M_faults V5) fun r6 V7 => M_readPart_37 R_readSum R_readTerm R_readPart x1 V7) else (M_readPart_37 R_readSum R_readTerm R_readPart x1 V5)) else (if v3 = 50 then (ck (V5 15 0) 401 <| if V5 12 (V5 15 0) ≤ 1000 then (M_readPart_107 R_readSum R_readTerm R_readPart V5) else (M_readPart_95 R_readSum R_readTerm R_readPart v3 V5)) else (M_readPart_95 R_readSum R_readTerm R_readPart v3 V5)))
theorem WM_readPart_b (l : Launch) {d dr : Nat} (hdd : dr + 1 ≤ d ∧ 4 ≤ d) {R_readSum : Int → VV → Option (Int × VV)} {R_readTerm : Int → VV → Option (Int × VV)} {R_readPart : Int → VV → Option (Int × VV)} (hR_readSum : ∀ (a0 : Int) (V : VV), okV V → oks [(0, a0)] → ∀ fin, R_readSum a0 V = some fin → mSpec (l) yX4_readSum cX4_readSum 2 none dr 2 [(3, 0), (0, a0)] V fin) (hR_readTerm : ∀ (a0 : Int) (V : VV), okV V → oks [(0, a0)] → ∀ fin, R_readTerm a0 V = some fin → mSpec (l) yX4_readTerm cX4_readTerm 2 none dr 2 [(3, 0), (0, a0)] V fin) (hR_readPart : ∀ (a0 : Int) (V : VV), okV V → oks [(0, a0)] → ∀ fin, R_readPart a0 V = some fin → mSpec (l) yX4_readPart cX4_readPart 3 none dr 2 [(3, 0), (0, a0)] V fin) (x1 : Int) (V : VV) (hV : okV V) (ho : oks [(0, x1)]) (fin : Int × VV) (hf : M_readPart_b R_readSum R_readTerm R_readPart x1 V = some fin) : mSpec l yX4_readPart cX4_readPart 3 none d 2 [(3, 0), (0, x1)] V fin := by
  refine m_enter (lv := [(0, (3, 0)), (1, (0, x1))]) (by decide) rfl (Nat.le_of_ble_eq_true rfl) rfl (fun Z hZ hX => ?_) hV (ho.c (okA.t 0)) fin hf
  subst hZ
  unfold M_readPart_b
  refine m_aload_n hX 0 dX4_readPart_0 rfl rfl ?_
  refine cl_fine hX (by omega) (Nat.le_of_ble_eq_true rfl) dX4_readPart_1 fun r1 V2 => ?_
  refine m_if_ne hX 8 dX4_readPart_4 (by decide) (fun _ => ?_) (fun _ => ?_)
  · refine m_aload_n hX 0 dX4_readPart_8 rfl rfl ?_
    refine fg_11 hX dX4_readPart_9 ?_
    refine m_aload_n hX 0 dX4_readPart_12 rfl rfl ?_
    refine fg_15 hX dX4_readPart_13 ?_
    refine al_11 hX dX4_readPart_16 ?_
    refine m_nmT fun v3 => ?_
    refine m_istore_n hX (lv' := [(2, (0, v3)), (0, (3, 0)), (1, (0, x1))]) dX4_readPart_17 rfl (by decide) rfl ?_
    refine m_iload_n hX 0 dX4_readPart_18 rfl rfl ?_
    refine m_bp hX dX4_readPart_19 (by decide) (by decide) ?_
    refine cl_sign hX (by omega) (Nat.le_of_ble_eq_true rfl) dX4_readPart_21 fun r4 V5 => ?_
    refine m_icmp_ne hX 74 dX4_readPart_24 (by decide) (fun _ => ?_) (fun _ => ?_)
    · refine m_iload_n hX 0 dX4_readPart_74 rfl rfl ?_
      refine m_bp hX dX4_readPart_75 (by decide) (by decide) ?_
      refine m_icmp_ne hX 95 dX4_readPart_77 (by decide) (fun _ => ?_) (fun _ => ?_)
      · exact m_sub [1, 0] rfl (WM_readPart_95 hX hdd hR_readSum hR_readTerm hR_readPart v3 V5)
      · refine m_aload_n hX 1 dX4_readPart_80 rfl rfl ?_
        refine fg_12 hX dX4_readPart_81 ?_
        refine m_aload_n hX 1 dX4_readPart_84 rfl rfl ?_
        refine fg_15 hX dX4_readPart_85 ?_
        refine al_12 hX dX4_readPart_88 ?_
        refine m_sp hX dX4_readPart_89 (by decide) (by decide) ?_
        refine m_icmp_le hX 107 dX4_readPart_92 (by decide) (fun _ => ?_) (fun _ => ?_)
        · exact m_sub [1] rfl (WM_readPart_107 hX hdd hR_readSum hR_readTerm hR_readPart V5)
        · exact m_sub [1, 0] rfl (WM_readPart_95 hX hdd hR_readSum hR_readTerm hR_readPart v3 V5)
    · refine m_iload_n hX 2 dX4_readPart_27 rfl rfl ?_
      refine m_bp hX dX4_readPart_28 (by decide) (by decide) ?_
      refine m_icmp_ne hX 37 dX4_readPart_30 (by decide) (fun _ => ?_) (fun _ => ?_)
      · exact m_sub [1, 2] rfl (WM_readPart_37 hX hdd hR_readSum hR_readTerm hR_readPart x1 V5)
      · refine m_aload_n hX 1 dX4_readPart_33 rfl rfl ?_
        refine cl_faults hX (by omega) (Nat.le_of_ble_eq_true rfl) dX4_readPart_34 fun r6 V7 => ?_
        exact m_sub [1, 2] rfl (WM_readPart_37 hX hdd hR_readSum hR_readTerm hR_readPart x1 V7)
  · exact m_vret hX rfl dX4_readPart_7
noncomputable def MR_readSum : Nat → (Int → VV → Option (Int × VV)) × (Int → VV → Option (Int × VV)) × (Int → VV → Option (Int × VV))
  | 0 => (fun _ _ => none, fun _ _ => none, fun _ _ => none)
  | n + 1 => (M_readSum_b (MR_readSum n).1 (MR_readSum n).2.1 (MR_readSum n).2.2, M_readTerm_b (MR_readSum n).1 (MR_readSum n).2.1 (MR_readSum n).2.2, M_readPart_b (MR_readSum n).1 (MR_readSum n).2.1 (MR_readSum n).2.2)
noncomputable def M_readSum (n : Nat) (a0 : Int) (V : VV) : Option (Int × VV) := (MR_readSum n).1 a0 V
noncomputable def M_readTerm (n : Nat) (a0 : Int) (V : VV) : Option (Int × VV) := (MR_readSum n).2.1 a0 V
noncomputable def M_readPart (n : Nat) (a0 : Int) (V : VV) : Option (Int × VV) := (MR_readSum n).2.2 a0 V
theorem WMR_readSum (l : Launch) : ∀ (n dr : Nat), 3 + n ≤ dr → (∀ (a0 : Int) (V : VV), okV V → oks [(0, a0)] → ∀ fin, (MR_readSum n).1 a0 V = some fin → mSpec (l) yX4_readSum cX4_readSum 2 none dr 2 [(3, 0), (0, a0)] V fin) ∧ (∀ (a0 : Int) (V : VV), okV V → oks [(0, a0)] → ∀ fin, (MR_readSum n).2.1 a0 V = some fin → mSpec (l) yX4_readTerm cX4_readTerm 2 none dr 2 [(3, 0), (0, a0)] V fin) ∧ (∀ (a0 : Int) (V : VV), okV V → oks [(0, a0)] → ∀ fin, (MR_readSum n).2.2 a0 V = some fin → mSpec (l) yX4_readPart cX4_readPart 3 none dr 2 [(3, 0), (0, a0)] V fin) := by
  intro n
  induction n with
  | zero => intro dr _; exact ⟨(fun a0 V _ _ fin h => by cases h), (fun a0 V _ _ fin h => by cases h), (fun a0 V _ _ fin h => by cases h)⟩
  | succ n ih =>
    intro dr h
    obtain ⟨hR_readSum, hR_readTerm, hR_readPart⟩ := ih (dr - 1) (by omega)
    exact ⟨(fun a0 V hV ho fin hf => WM_readSum_b l (dr := dr - 1) (by omega) hR_readSum hR_readTerm hR_readPart a0 V hV ho fin hf), (fun a0 V hV ho fin hf => WM_readTerm_b l (dr := dr - 1) (by omega) hR_readSum hR_readTerm hR_readPart a0 V hV ho fin hf), (fun a0 V hV ho fin hf => WM_readPart_b l (dr := dr - 1) (by omega) hR_readSum hR_readTerm hR_readPart a0 V hV ho fin hf)⟩
theorem WM_readSum (l : Launch) {d : Nat} (hdd : 64 ≤ d) (a0 : Int) (V : VV) (hV : okV V) (ho : oks [(0, a0)]) (fin : Int × VV) (hf : M_readSum RF a0 V = some fin) : mSpec l yX4_readSum cX4_readSum 2 none d 2 [(3, 0), (0, a0)] V fin := (WMR_readSum l RF d (by rw [RF_eq]; omega)).1 a0 V hV ho fin hf
theorem cl_readSum {Z : MZ} {cc : ByteArray} {nL : Nat} {ret : Option FieldType} {d rk : Nat} {pc : Nat} {lv : List (Nat × AV)} {st : List AV} {V : VV} {g : Int → VV → Option (Int × VV)} (hX : MX Z cc nL ret d rk) {a0 : Int} (hdd : 65 ≤ d) (hcat : (st.map fun v => if v.1 = 1 then 2 else 1).sum ≤ 8) (hdg : decode cc pc = .ok (.invokevirtual 209, 3)) (kk : ∀ r V1, MG Z (pc + 3) lv st V1 (g r V1)) : MG Z pc lv ((0, a0) :: (3, 0) :: st) V (mb (M_readSum RF a0 V) g) :=
  m_callVv hX [(0, a0)] 1 (fun hV ho fin hf => WM_readSum (zL Z) (Nat.le_refl 64) a0 V hV ho fin hf) (lw_V q1984 q1986 qs73 q131 q1987) (by decide +kernel) rfl (by omega) (by decide) rfl hcat hdg kk
theorem WM_readTerm (l : Launch) {d : Nat} (hdd : 64 ≤ d) (a0 : Int) (V : VV) (hV : okV V) (ho : oks [(0, a0)]) (fin : Int × VV) (hf : M_readTerm RF a0 V = some fin) : mSpec l yX4_readTerm cX4_readTerm 2 none d 2 [(3, 0), (0, a0)] V fin := (WMR_readSum l RF d (by rw [RF_eq]; omega)).2.1 a0 V hV ho fin hf
theorem cl_readTerm {Z : MZ} {cc : ByteArray} {nL : Nat} {ret : Option FieldType} {d rk : Nat} {pc : Nat} {lv : List (Nat × AV)} {st : List AV} {V : VV} {g : Int → VV → Option (Int × VV)} (hX : MX Z cc nL ret d rk) {a0 : Int} (hdd : 65 ≤ d) (hcat : (st.map fun v => if v.1 = 1 then 2 else 1).sum ≤ 8) (hdg : decode cc pc = .ok (.invokevirtual 225, 3)) (kk : ∀ r V1, MG Z (pc + 3) lv st V1 (g r V1)) : MG Z pc lv ((0, a0) :: (3, 0) :: st) V (mb (M_readTerm RF a0 V) g) :=
  m_callVv hX [(0, a0)] 1 (fun hV ho fin hf => WM_readTerm (zL Z) (Nat.le_refl 64) a0 V hV ho fin hf) (lw_V q1988 q1990 qs74 q131 q1991) (by decide +kernel) rfl (by omega) (by decide) rfl hcat hdg kk
theorem WM_readPart (l : Launch) {d : Nat} (hdd : 64 ≤ d) (a0 : Int) (V : VV) (hV : okV V) (ho : oks [(0, a0)]) (fin : Int × VV) (hf : M_readPart RF a0 V = some fin) : mSpec l yX4_readPart cX4_readPart 3 none d 2 [(3, 0), (0, a0)] V fin := (WMR_readSum l RF d (by rw [RF_eq]; omega)).2.2 a0 V hV ho fin hf
theorem cl_readPart {Z : MZ} {cc : ByteArray} {nL : Nat} {ret : Option FieldType} {d rk : Nat} {pc : Nat} {lv : List (Nat × AV)} {st : List AV} {V : VV} {g : Int → VV → Option (Int × VV)} (hX : MX Z cc nL ret d rk) {a0 : Int} (hdd : 65 ≤ d) (hcat : (st.map fun v => if v.1 = 1 then 2 else 1).sum ≤ 8) (hdg : decode cc pc = .ok (.invokevirtual 228, 3)) (kk : ∀ r V1, MG Z (pc + 3) lv st V1 (g r V1)) : MG Z pc lv ((0, a0) :: (3, 0) :: st) V (mb (M_readPart RF a0 V) g) :=
  m_callVv hX [(0, a0)] 1 (fun hV ho fin hf => WM_readPart (zL Z) (Nat.le_refl 64) a0 V hV ho fin hf) (lw_V q1992 q1994 qs75 q131 q1995) (by decide +kernel) rfl (by omega) (by decide) rfl hcat hdg kk
