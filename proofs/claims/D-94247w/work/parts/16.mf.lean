/-! printed by tools/genm.py: the model's methods as pure functions, and their walks -/
set_option maxRecDepth 100000
set_option maxHeartbeats 4000000
noncomputable def M_seldom_61 (x2 : Int) (V : VV) : Option (Int × VV) := mb (M_questions V) fun r1 V2 => mb (M_lesser 1000000 (w32 (x2 * r1)) V2) fun r3 V4 => some (r3, V4)
theorem WM_seldom_61 {Z : MZ} {d : Nat} (hX : MX Z cX4_seldom 4 (some .int) d 0) (hdd : 3 ≤ d) : ∀ x2 V, MG Z 61 [(0, (3, 0)), (2, (0, x2))] [] V (M_seldom_61 x2 V) := by
  intro x2 V
  unfold M_seldom_61
  refine m_ldc hX (n := 1000000) q1963 dX4_seldom_61 (by decide +kernel) ⟨by decide, by decide⟩ ?_
  refine m_iload_n hX 1 dX4_seldom_63 rfl rfl ?_
  refine m_aload_n hX 0 dX4_seldom_64 rfl rfl ?_
  refine cl_questions hX (by omega) (Nat.le_of_ble_eq_true rfl) dX4_seldom_65 fun r1 V2 => ?_
  refine m_imul hX dX4_seldom_68 ?_
  refine cl_lesser hX (by omega) (Nat.le_of_ble_eq_true rfl) dX4_seldom_69 fun r3 V4 => ?_
  exact m_iret hX rfl dX4_seldom_72
noncomputable def M_seldom_37 : Nat → Int → Int → VV → Option (Int × VV)
  | 0, _, _, _ => none
  | n + 1, x2, x3, V => mb (M_questions V) fun r1 V2 => if r1 ≤ x3 then (M_seldom_61 x2 V2) else (mb (M_seldomOf x3 V2) fun r3 V4 => mb (M_lesser x2 r3 V4) fun r5 V6 => nm (w32 (x3 + 1)) fun v7 => M_seldom_37 n r5 v7 V6)
theorem WM_seldom_37 {Z : MZ} {d : Nat} (hX : MX Z cX4_seldom 4 (some .int) d 0) (hdd : 3 ≤ d) : ∀ n x2 x3 V, MG Z 37 [(0, (3, 0)), (2, (0, x2)), (3, (0, x3))] [] V (M_seldom_37 n x2 x3 V) := by
  intro n
  induction n with
  | zero => intro x2 x3 V; exact m_none
  | succ n ih =>
    intro x2 x3 V
    rw [M_seldom_37]
    refine m_iload_n hX 2 dX4_seldom_37 rfl rfl ?_
    refine m_aload_n hX 0 dX4_seldom_38 rfl rfl ?_
    refine cl_questions hX (by omega) (Nat.le_of_ble_eq_true rfl) dX4_seldom_39 fun r1 V2 => ?_
    refine m_icmp_ge hX 61 dX4_seldom_42 (by decide) (fun _ => ?_) (fun _ => ?_)
    · exact m_sub [0, 1] rfl (WM_seldom_61 hX hdd x2 V2)
    · refine m_iload_n hX 1 dX4_seldom_45 rfl rfl ?_
      refine m_aload_n hX 0 dX4_seldom_46 rfl rfl ?_
      refine m_iload_n hX 2 dX4_seldom_47 rfl rfl ?_
      refine cl_seldomOf hX (by omega) (Nat.le_of_ble_eq_true rfl) dX4_seldom_48 fun r3 V4 => ?_
      refine cl_lesser hX (by omega) (Nat.le_of_ble_eq_true rfl) dX4_seldom_51 fun r5 V6 => ?_
      refine m_istore_n hX (lv' := [(2, (0, r5)), (0, (3, 0)), (3, (0, x3))]) dX4_seldom_54 rfl (by decide) rfl ?_
      refine m_iinc hX 2 dX4_seldom_55 rfl (by decide) fun v7 => m_lv (lv' := [(3, (0, v7)), (2, (0, r5)), (0, (3, 0))]) rfl ?_
      refine m_goto hX 37 dX4_seldom_58 (by decide) ?_
      exact m_sub [2, 1, 0] rfl (ih r5 v7 V6)
noncomputable def M_seldom (x1 : Int) (V : VV) : Option (Int × VV) := if x1 = (-1) then (mb (M_questions V) fun r1 V2 => if r1 = 0 then (some ((-1), V2)) else (M_seldom_37 FU 1000000 0 V2)) else (mb (M_isQuestion x1 V) fun r3 V4 => if r3 = 0 then (some ((-1), V4)) else (mb (M_seldomOf x1 V4) fun r5 V6 => some (r5, V6)))
theorem WM_seldom (l : Launch) {d : Nat} (hdd : 3 ≤ d) (x1 : Int) (V : VV) (hV : okV V) (ho : oks [(0, x1)]) (fin : Int × VV) (hf : M_seldom x1 V = some fin) : mSpec l yX4_seldom cX4_seldom 4 (some .int) d 0 [(3, 0), (0, x1)] V fin := by
  refine m_enter (lv := [(0, (3, 0)), (1, (0, x1))]) (by decide) rfl (Nat.le_of_ble_eq_true rfl) rfl (fun Z hZ hX => ?_) hV (ho.c (okA.t 0)) fin hf
  unfold M_seldom
  refine m_iload_n hX 1 dX4_seldom_0 rfl rfl ?_
  refine m_ic hX dX4_seldom_1 (by decide) (by decide) ?_
  refine m_icmp_eq hX 23 dX4_seldom_2 (by decide) (fun _ => ?_) (fun _ => ?_)
  · refine m_aload_n hX 0 dX4_seldom_23 rfl rfl ?_
    refine cl_questions hX (by omega) (Nat.le_of_ble_eq_true rfl) dX4_seldom_24 fun r1 V2 => ?_
    refine m_if_ne hX 32 dX4_seldom_27 (by decide) (fun _ => ?_) (fun _ => ?_)
    · refine m_ldc hX (n := 1000000) q1963 dX4_seldom_32 (by decide +kernel) ⟨by decide, by decide⟩ ?_
      refine m_istore_n hX (lv' := [(2, (0, 1000000)), (0, (3, 0)), (1, (0, x1))]) dX4_seldom_34 rfl (by decide) rfl ?_
      refine m_ic hX dX4_seldom_35 (by decide) (by decide) ?_
      refine m_istore_n hX (lv' := [(3, (0, 0)), (2, (0, 1000000)), (0, (3, 0)), (1, (0, x1))]) dX4_seldom_36 rfl (by decide) rfl ?_
      exact m_sub [2, 1, 0] rfl (WM_seldom_37 hX hdd FU 1000000 0 V2)
    · refine m_ic hX dX4_seldom_30 (by decide) (by decide) ?_
      exact m_iret hX rfl dX4_seldom_31
  · refine m_aload_n hX 0 dX4_seldom_5 rfl rfl ?_
    refine m_iload_n hX 1 dX4_seldom_6 rfl rfl ?_
    refine cl_isQuestion hX (by omega) (Nat.le_of_ble_eq_true rfl) dX4_seldom_7 fun r3 V4 => ?_
    refine m_if_eq hX 21 dX4_seldom_10 (by decide) (fun _ => ?_) (fun _ => ?_)
    · refine m_ic hX dX4_seldom_21 (by decide) (by decide) ?_
      exact m_iret hX rfl dX4_seldom_22
    · refine m_aload_n hX 0 dX4_seldom_13 rfl rfl ?_
      refine m_iload_n hX 1 dX4_seldom_14 rfl rfl ?_
      refine cl_seldomOf hX (by omega) (Nat.le_of_ble_eq_true rfl) dX4_seldom_15 fun r5 V6 => ?_
      refine m_goto hX 22 dX4_seldom_18 (by decide) ?_
      exact m_iret hX rfl dX4_seldom_22
-- seldom: not called inside
noncomputable def M_draws (x1 : Int) (V : VV) : Option (Int × VV) := nm (vup V 63 0 (w32 ((w64 ((w64 (1103 * (V 63 0))) + 12345)).tmod 1000003))) fun V1 => cz x1 <| some ((V1 63 0).tmod x1, V1)
theorem WM_draws (l : Launch) {d : Nat} (hdd : 1 ≤ d) (x1 : Int) (V : VV) (hV : okV V) (ho : oks [(0, x1)]) (fin : Int × VV) (hf : M_draws x1 V = some fin) : mSpec l yX4_draws cX4_draws 2 (some .int) d 0 [(3, 0), (0, x1)] V fin := by
  refine m_enter (lv := [(0, (3, 0)), (1, (0, x1))]) (by decide) rfl (Nat.le_of_ble_eq_true rfl) rfl (fun Z hZ hX => ?_) hV (ho.c (okA.t 0)) fin hf
  unfold M_draws
  refine m_aload_n hX 0 dX4_draws_0 rfl rfl ?_
  refine m_ldc2 hX (n := 1103) q2348 dX4_draws_1 (by decide +kernel) ⟨by decide, by decide⟩ ?_
  refine m_aload_n hX 0 dX4_draws_4 rfl rfl ?_
  refine fg_63 hX dX4_draws_5 ?_
  refine m_i2l hX dX4_draws_8 ?_
  refine m_lmul hX dX4_draws_9 ?_
  refine m_ldc2 hX (n := 12345) q2349 dX4_draws_10 (by decide +kernel) ⟨by decide, by decide⟩ ?_
  refine m_ladd hX dX4_draws_13 ?_
  refine m_ldc2 hX (n := 1000003) q2350 dX4_draws_14 (by decide +kernel) ⟨by decide, by decide⟩ ?_
  refine m_nz (b := 1000003) (by decide) (m_lrem hX dX4_draws_17 ?_)
  refine m_l2i hX dX4_draws_18 ?_
  refine fp_63 hX dX4_draws_19 fun V1 => ?_
  refine m_aload_n hX 0 dX4_draws_22 rfl rfl ?_
  refine fg_63 hX dX4_draws_23 ?_
  refine m_iload_n hX 1 dX4_draws_26 rfl rfl ?_
  refine m_irem hX dX4_draws_27 ?_
  exact m_iret hX rfl dX4_draws_28
theorem cl_draws {Z : MZ} {cc : ByteArray} {nL : Nat} {ret : Option FieldType} {d rk : Nat} {pc : Nat} {lv : List (Nat × AV)} {st : List AV} {V : VV} {g : Int → VV → Option (Int × VV)} (hX : MX Z cc nL ret d rk) {a0 : Int} (hdd : 2 ≤ d) (hcat : (st.map fun v => if v.1 = 1 then 2 else 1).sum ≤ 8) (hdg : decode cc pc = .ok (.invokevirtual 508, 3)) (kk : ∀ r V1, MG Z (pc + 3) lv ((0, r) :: st) V1 (g r V1)) : MG Z pc lv ((0, a0) :: (3, 0) :: st) V (mb (M_draws a0 V) g) :=
  m_callVi hX [(0, a0)] 1 (fun hV ho fin hf => WM_draws (zL Z) (Nat.le_refl 1) a0 V hV ho fin hf) (lw_V q2344 q2346 qs122 q131 q2347) (by decide +kernel) rfl (by omega) (by decide) rfl hcat hdg kk
noncomputable def M_nth_31 (K4 : Int → Int → Int → Int → VV → Option (Int × VV)) (x0 : Int) (x1 : Int) (x2 : Int) (x3 : Int) (V : VV) : Option (Int × VV) := nm (w32 (x3 + 1)) fun v1 => K4 x0 x1 x2 v1 V
theorem WM_nth_31 {Z : MZ} {d : Nat} (hX : MX Z cX4_nth 4 (some .int) d 0) (hdd : 1 ≤ d) {K4 : Int → Int → Int → Int → VV → Option (Int × VV)} (hK4 : ∀ x0 x1 x2 x3 V, MG Z 4 [(0, (0, x0)), (1, (0, x1)), (2, (0, x2)), (3, (0, x3))] [] V (K4 x0 x1 x2 x3 V)) : ∀ x0 x1 x2 x3 V, MG Z 31 [(0, (0, x0)), (1, (0, x1)), (2, (0, x2)), (3, (0, x3))] [] V (M_nth_31 K4 x0 x1 x2 x3 V) := by
  intro x0 x1 x2 x3 V
  unfold M_nth_31
  refine m_iinc hX 3 dX4_nth_31 rfl (by decide) fun v1 => m_lv (lv' := [(3, (0, v1)), (0, (0, x0)), (1, (0, x1)), (2, (0, x2))]) rfl ?_
  refine m_goto hX 4 dX4_nth_34 (by decide) ?_
  exact m_sub [1, 2, 3, 0] rfl (hK4 x0 x1 x2 v1 V)
noncomputable def M_nth_4 : Nat → Int → Int → Int → Int → VV → Option (Int × VV)
  | 0, _, _, _, _, _ => none
  | n + 1, x0, x1, x2, x3, V => if 20 ≤ x3 then (some ((-1), V)) else (if iand (ishr x0 x3) 1 = 0 then (M_nth_31 (M_nth_4 n) x0 x1 x2 x3 V) else (if x2 = x1 then (some (x3, V)) else (nm (w32 (x2 + 1)) fun v1 => M_nth_31 (M_nth_4 n) x0 x1 v1 x3 V)))
theorem WM_nth_4 {Z : MZ} {d : Nat} (hX : MX Z cX4_nth 4 (some .int) d 0) (hdd : 1 ≤ d) : ∀ n x0 x1 x2 x3 V, MG Z 4 [(0, (0, x0)), (1, (0, x1)), (2, (0, x2)), (3, (0, x3))] [] V (M_nth_4 n x0 x1 x2 x3 V) := by
  intro n
  induction n with
  | zero => intro x0 x1 x2 x3 V; exact m_none
  | succ n ih =>
    intro x0 x1 x2 x3 V
    rw [M_nth_4]
    refine m_iload_n hX 3 dX4_nth_4 rfl rfl ?_
    refine m_bp hX dX4_nth_5 (by decide) (by decide) ?_
    refine m_icmp_ge hX 37 dX4_nth_7 (by decide) (fun _ => ?_) (fun _ => ?_)
    · refine m_ic hX dX4_nth_37 (by decide) (by decide) ?_
      exact m_iret hX rfl dX4_nth_38
    · refine m_iload_n hX 0 dX4_nth_10 rfl rfl ?_
      refine m_iload_n hX 3 dX4_nth_11 rfl rfl ?_
      refine m_ishr hX dX4_nth_12 ?_
      refine m_ic hX dX4_nth_13 (by decide) (by decide) ?_
      refine m_iand hX dX4_nth_14 ?_
      refine m_if_ne hX 21 dX4_nth_15 (by decide) (fun _ => ?_) (fun _ => ?_)
      · refine m_iload_n hX 2 dX4_nth_21 rfl rfl ?_
        refine m_iload_n hX 1 dX4_nth_22 rfl rfl ?_
        refine m_icmp_ne hX 28 dX4_nth_23 (by decide) (fun _ => ?_) (fun _ => ?_)
        · refine m_iinc hX 2 dX4_nth_28 rfl (by decide) fun v1 => m_lv (lv' := [(2, (0, v1)), (0, (0, x0)), (1, (0, x1)), (3, (0, x3))]) rfl ?_
          exact m_sub [1, 2, 0, 3] rfl (WM_nth_31 hX hdd ih x0 x1 v1 x3 V)
        · refine m_iload_n hX 3 dX4_nth_26 rfl rfl ?_
          exact m_iret hX rfl dX4_nth_27
      · refine m_goto hX 31 dX4_nth_18 (by decide) ?_
        exact m_sub [0, 1, 2, 3] rfl (WM_nth_31 hX hdd ih x0 x1 x2 x3 V)
noncomputable def M_nth (x0 : Int) (x1 : Int) (V : VV) : Option (Int × VV) := M_nth_4 FU x0 x1 0 0 V
theorem WM_nth (l : Launch) {d : Nat} (hdd : 1 ≤ d) (x0 : Int) (x1 : Int) (V : VV) (hV : okV V) (ho : oks [(0, x0), (0, x1)]) (fin : Int × VV) (hf : M_nth x0 x1 V = some fin) : mSpec l yX4_nth cX4_nth 4 (some .int) d 0 [(0, x0), (0, x1)] V fin := by
  refine m_enter (lv := [(0, (0, x0)), (1, (0, x1))]) (by decide) rfl (Nat.le_of_ble_eq_true rfl) rfl (fun Z hZ hX => ?_) hV ho fin hf
  unfold M_nth
  refine m_ic hX dX4_nth_0 (by decide) (by decide) ?_
  refine m_istore_n hX (lv' := [(2, (0, 0)), (0, (0, x0)), (1, (0, x1))]) dX4_nth_1 rfl (by decide) rfl ?_
  refine m_ic hX dX4_nth_2 (by decide) (by decide) ?_
  refine m_istore_n hX (lv' := [(3, (0, 0)), (2, (0, 0)), (0, (0, x0)), (1, (0, x1))]) dX4_nth_3 rfl (by decide) rfl ?_
  exact m_sub [2, 3, 1, 0] rfl (WM_nth_4 hX hdd FU x0 x1 0 0 V)
theorem cl_nth {Z : MZ} {cc : ByteArray} {nL : Nat} {ret : Option FieldType} {d rk : Nat} {pc : Nat} {lv : List (Nat × AV)} {st : List AV} {V : VV} {g : Int → VV → Option (Int × VV)} (hX : MX Z cc nL ret d rk) {a0 a1 : Int} (hdd : 2 ≤ d) (hcat : (st.map fun v => if v.1 = 1 then 2 else 1).sum ≤ 8) (hdg : decode cc pc = .ok (.invokestatic 511, 3)) (kk : ∀ r V1, MG Z (pc + 3) lv ((0, r) :: st) V1 (g r V1)) : MG Z pc lv ((0, a1) :: (0, a0) :: st) V (mb (M_nth a0 a1 V) g) :=
  m_callSi hX [(0, a0), (0, a1)] 2 (fun hV ho fin hf => WM_nth (zL Z) (Nat.le_refl 1) a0 a1 V hV ho fin hf) (lw_S q2351 q2352 q131 q2353) (by decide +kernel) rfl (by omega) (by decide) rfl hcat hdg kk
noncomputable def M_ones_4 : Nat → Int → Int → Int → VV → Option (Int × VV)
  | 0, _, _, _, _ => none
  | n + 1, x0, x1, x2, V => if 20 ≤ x2 then (some (x1, V)) else (nm (α := Int) (w32 (x1 + (iand (ishr x0 x2) 1))) fun v1 => nm (w32 (x2 + 1)) fun v2 => M_ones_4 n x0 v1 v2 V)
theorem WM_ones_4 {Z : MZ} {d : Nat} (hX : MX Z cX4_ones 3 (some .int) d 0) (hdd : 1 ≤ d) : ∀ n x0 x1 x2 V, MG Z 4 [(0, (0, x0)), (1, (0, x1)), (2, (0, x2))] [] V (M_ones_4 n x0 x1 x2 V) := by
  intro n
  induction n with
  | zero => intro x0 x1 x2 V; exact m_none
  | succ n ih =>
    intro x0 x1 x2 V
    rw [M_ones_4]
    refine m_iload_n hX 2 dX4_ones_4 rfl rfl ?_
    refine m_bp hX dX4_ones_5 (by decide) (by decide) ?_
    refine m_icmp_ge hX 24 dX4_ones_7 (by decide) (fun _ => ?_) (fun _ => ?_)
    · refine m_iload_n hX 1 dX4_ones_24 rfl rfl ?_
      exact m_iret hX rfl dX4_ones_25
    · refine m_iload_n hX 1 dX4_ones_10 rfl rfl ?_
      refine m_iload_n hX 0 dX4_ones_11 rfl rfl ?_
      refine m_iload_n hX 2 dX4_ones_12 rfl rfl ?_
      refine m_ishr hX dX4_ones_13 ?_
      refine m_ic hX dX4_ones_14 (by decide) (by decide) ?_
      refine m_iand hX dX4_ones_15 ?_
      refine m_iadd hX dX4_ones_16 ?_
      refine m_nmT fun v1 => ?_
      refine m_istore_n hX (lv' := [(1, (0, v1)), (0, (0, x0)), (2, (0, x2))]) dX4_ones_17 rfl (by decide) rfl ?_
      refine m_iinc hX 2 dX4_ones_18 rfl (by decide) fun v2 => m_lv (lv' := [(2, (0, v2)), (1, (0, v1)), (0, (0, x0))]) rfl ?_
      refine m_goto hX 4 dX4_ones_21 (by decide) ?_
      exact m_sub [2, 1, 0] rfl (ih x0 v1 v2 V)
noncomputable def M_ones (x0 : Int) (V : VV) : Option (Int × VV) := M_ones_4 FU x0 0 0 V
theorem WM_ones (l : Launch) {d : Nat} (hdd : 1 ≤ d) (x0 : Int) (V : VV) (hV : okV V) (ho : oks [(0, x0)]) (fin : Int × VV) (hf : M_ones x0 V = some fin) : mSpec l yX4_ones cX4_ones 3 (some .int) d 0 [(0, x0)] V fin := by
  refine m_enter (lv := [(0, (0, x0))]) (by decide) rfl (Nat.le_of_ble_eq_true rfl) rfl (fun Z hZ hX => ?_) hV ho fin hf
  unfold M_ones
  refine m_ic hX dX4_ones_0 (by decide) (by decide) ?_
  refine m_istore_n hX (lv' := [(1, (0, 0)), (0, (0, x0))]) dX4_ones_1 rfl (by decide) rfl ?_
  refine m_ic hX dX4_ones_2 (by decide) (by decide) ?_
  refine m_istore_n hX (lv' := [(2, (0, 0)), (1, (0, 0)), (0, (0, x0))]) dX4_ones_3 rfl (by decide) rfl ?_
  exact m_sub [2, 1, 0] rfl (WM_ones_4 hX hdd FU x0 0 0 V)
theorem cl_ones {Z : MZ} {cc : ByteArray} {nL : Nat} {ret : Option FieldType} {d rk : Nat} {pc : Nat} {lv : List (Nat × AV)} {st : List AV} {V : VV} {g : Int → VV → Option (Int × VV)} (hX : MX Z cc nL ret d rk) {a0 : Int} (hdd : 2 ≤ d) (hcat : (st.map fun v => if v.1 = 1 then 2 else 1).sum ≤ 8) (hdg : decode cc pc = .ok (.invokestatic 502, 3)) (kk : ∀ r V1, MG Z (pc + 3) lv ((0, r) :: st) V1 (g r V1)) : MG Z pc lv ((0, a0) :: st) V (mb (M_ones a0 V) g) :=
  m_callSi hX [(0, a0)] 1 (fun hV ho fin hf => WM_ones (zL Z) (Nat.le_refl 1) a0 V hV ho fin hf) (lw_S q2341 q2342 q131 q2343) (by decide +kernel) rfl (by omega) (by decide) rfl hcat hdg kk
noncomputable def M_goes_46 (K10 : Int → Int → Int → VV → Option (Int × VV)) (x1 : Int) (x2 : Int) (x3 : Int) (V : VV) : Option (Int × VV) := nm (w32 (x3 + 1)) fun v1 => K10 x1 x2 v1 V
theorem WM_goes_46 {Z : MZ} {d : Nat} (hX : MX Z cX4_goes 10 (some .int) d 0) (hdd : 128 ≤ d) {K10 : Int → Int → Int → VV → Option (Int × VV)} (hK10 : ∀ x1 x2 x3 V, MG Z 10 [(0, (3, 0)), (1, (0, x1)), (2, (0, x2)), (3, (0, x3))] [] V (K10 x1 x2 x3 V)) : ∀ x1 x2 x3 V, MG Z 46 [(0, (3, 0)), (1, (0, x1)), (2, (0, x2)), (3, (0, x3))] [] V (M_goes_46 K10 x1 x2 x3 V) := by
  intro x1 x2 x3 V
  unfold M_goes_46
  refine m_iinc hX 3 dX4_goes_46 rfl (by decide) fun v1 => m_lv (lv' := [(3, (0, v1)), (0, (3, 0)), (1, (0, x1)), (2, (0, x2))]) rfl ?_
  refine m_goto hX 10 dX4_goes_49 (by decide) ?_
  exact m_sub [1, 2, 3, 0] rfl (hK10 x1 x2 v1 V)
noncomputable def M_goes_316 (K232 : Int → Int → Int → VV → Option (Int × VV)) (K245 : Int → Int → Int → Int → Int → VV → Option (Int × VV)) (x5 : Int) (x6 : Int) (x7 : Int) (x8 : Int) (x9 : Int) (V : VV) : Option (Int × VV) := nm (w32 (x9 + 1)) fun v1 => K245 x5 x6 x7 x8 v1 V
theorem WM_goes_316 {Z : MZ} {d : Nat} (hX : MX Z cX4_goes 10 (some .int) d 0) (hdd : 128 ≤ d) {K232 : Int → Int → Int → VV → Option (Int × VV)} (hK232 : ∀ x5 x6 x7 V, MG Z 232 [(0, (3, 0)), (5, (0, x5)), (6, (0, x6)), (7, (0, x7))] [] V (K232 x5 x6 x7 V)) {K245 : Int → Int → Int → Int → Int → VV → Option (Int × VV)} (hK245 : ∀ x5 x6 x7 x8 x9 V, MG Z 245 [(0, (3, 0)), (5, (0, x5)), (6, (0, x6)), (7, (0, x7)), (8, (0, x8)), (9, (0, x9))] [] V (K245 x5 x6 x7 x8 x9 V)) : ∀ x5 x6 x7 x8 x9 V, MG Z 316 [(0, (3, 0)), (5, (0, x5)), (6, (0, x6)), (7, (0, x7)), (8, (0, x8)), (9, (0, x9))] [] V (M_goes_316 K232 K245 x5 x6 x7 x8 x9 V) := by
  intro x5 x6 x7 x8 x9 V
  unfold M_goes_316
  refine m_iinc hX 5 dX4_goes_316 rfl (by decide) fun v1 => m_lv (lv' := [(9, (0, v1)), (0, (3, 0)), (5, (0, x5)), (6, (0, x6)), (7, (0, x7)), (8, (0, x8))]) rfl ?_
  refine m_goto hX 245 dX4_goes_319 (by decide) ?_
  exact m_sub [1, 2, 3, 4, 5, 0] rfl (hK245 x5 x6 x7 x8 v1 V)
noncomputable def M_goes_312 (K232 : Int → Int → Int → VV → Option (Int × VV)) (K245 : Int → Int → Int → Int → Int → VV → Option (Int × VV)) (x5 : Int) (x6 : Int) (x7 : Int) (x9 : Int) (V : VV) : Option (Int × VV) := M_goes_316 K232 K245 x5 x6 x7 x9 x9 V
theorem WM_goes_312 {Z : MZ} {d : Nat} (hX : MX Z cX4_goes 10 (some .int) d 0) (hdd : 128 ≤ d) {K232 : Int → Int → Int → VV → Option (Int × VV)} (hK232 : ∀ x5 x6 x7 V, MG Z 232 [(0, (3, 0)), (5, (0, x5)), (6, (0, x6)), (7, (0, x7))] [] V (K232 x5 x6 x7 V)) {K245 : Int → Int → Int → Int → Int → VV → Option (Int × VV)} (hK245 : ∀ x5 x6 x7 x8 x9 V, MG Z 245 [(0, (3, 0)), (5, (0, x5)), (6, (0, x6)), (7, (0, x7)), (8, (0, x8)), (9, (0, x9))] [] V (K245 x5 x6 x7 x8 x9 V)) : ∀ x5 x6 x7 x9 V, MG Z 312 [(0, (3, 0)), (5, (0, x5)), (6, (0, x6)), (7, (0, x7)), (9, (0, x9))] [] V (M_goes_312 K232 K245 x5 x6 x7 x9 V) := by
  intro x5 x6 x7 x9 V
  unfold M_goes_312
  refine m_iload hX 4 dX4_goes_312 rfl ?_
  refine m_istore hX (lv' := [(8, (0, x9)), (0, (3, 0)), (5, (0, x5)), (6, (0, x6)), (7, (0, x7)), (9, (0, x9))]) dX4_goes_314 (by decide) rfl ?_
  exact m_sub [1, 2, 3, 4, 0, 5] rfl (WM_goes_316 hX hdd hK232 hK245 x5 x6 x7 x9 x9 V)
noncomputable def M_goes_375 (K232 : Int → Int → Int → VV → Option (Int × VV)) (x5 : Int) (x6 : Int) (x7 : Int) (V : VV) : Option (Int × VV) := nm (w32 (x7 + 1)) fun v1 => K232 x5 x6 v1 V
theorem WM_goes_375 {Z : MZ} {d : Nat} (hX : MX Z cX4_goes 10 (some .int) d 0) (hdd : 128 ≤ d) {K232 : Int → Int → Int → VV → Option (Int × VV)} (hK232 : ∀ x5 x6 x7 V, MG Z 232 [(0, (3, 0)), (5, (0, x5)), (6, (0, x6)), (7, (0, x7))] [] V (K232 x5 x6 x7 V)) : ∀ x5 x6 x7 V, MG Z 375 [(0, (3, 0)), (5, (0, x5)), (6, (0, x6)), (7, (0, x7))] [] V (M_goes_375 K232 x5 x6 x7 V) := by
  intro x5 x6 x7 V
  unfold M_goes_375
  refine m_iinc hX 3 dX4_goes_375 rfl (by decide) fun v1 => m_lv (lv' := [(7, (0, v1)), (0, (3, 0)), (5, (0, x5)), (6, (0, x6))]) rfl ?_
  refine m_goto hX 232 dX4_goes_378 (by decide) ?_
  exact m_sub [1, 2, 3, 0] rfl (hK232 x5 x6 v1 V)
noncomputable def M_goes_322 (K232 : Int → Int → Int → VV → Option (Int × VV)) (x5 : Int) (x6 : Int) (x7 : Int) (x8 : Int) (V : VV) : Option (Int × VV) := nm (vup V 68 0 (ior (V 68 0) (ishl 1 x8))) fun V1 => mb (M_draws 100 V1) fun r2 V3 => mb (M_factOf x8 2 V3) fun r4 V5 => ck r4 3 <| if r2 < V5 22 r4 then (nm (vup V5 69 0 (ior (V5 69 0) (ishl 1 x8))) fun V6 => nm (w32 (x5 + 1)) fun v7 => M_goes_375 K232 v7 x6 x7 V6) else (M_goes_375 K232 x5 x6 x7 V5)
theorem WM_goes_322 {Z : MZ} {d : Nat} (hX : MX Z cX4_goes 10 (some .int) d 0) (hdd : 128 ≤ d) {K232 : Int → Int → Int → VV → Option (Int × VV)} (hK232 : ∀ x5 x6 x7 V, MG Z 232 [(0, (3, 0)), (5, (0, x5)), (6, (0, x6)), (7, (0, x7))] [] V (K232 x5 x6 x7 V)) : ∀ x5 x6 x7 x8 V, MG Z 322 [(0, (3, 0)), (5, (0, x5)), (6, (0, x6)), (7, (0, x7)), (8, (0, x8))] [] V (M_goes_322 K232 x5 x6 x7 x8 V) := by
  intro x5 x6 x7 x8 V
  unfold M_goes_322
  refine m_aload_n hX 0 dX4_goes_322 rfl rfl ?_
  refine m_dup hX dX4_goes_323 rfl ?_
  refine fg_68 hX dX4_goes_324 ?_
  refine m_ic hX dX4_goes_327 (by decide) (by decide) ?_
  refine m_iload hX 4 dX4_goes_328 rfl ?_
  refine m_ishl hX dX4_goes_330 ?_
  refine m_ior hX dX4_goes_331 ?_
  refine fp_68 hX dX4_goes_332 fun V1 => ?_
  refine m_aload_n hX 0 dX4_goes_335 rfl rfl ?_
  refine m_bp hX dX4_goes_336 (by decide) (by decide) ?_
  refine cl_draws hX (by omega) (Nat.le_of_ble_eq_true rfl) dX4_goes_338 fun r2 V3 => ?_
  refine m_aload_n hX 0 dX4_goes_341 rfl rfl ?_
  refine fg_22 hX dX4_goes_342 ?_
  refine m_aload_n hX 0 dX4_goes_345 rfl rfl ?_
  refine m_iload hX 4 dX4_goes_346 rfl ?_
  refine m_ic hX dX4_goes_348 (by decide) (by decide) ?_
  refine cl_factOf hX (by omega) (Nat.le_of_ble_eq_true rfl) dX4_goes_349 fun r4 V5 => ?_
  refine al_22 hX dX4_goes_352 ?_
  refine m_icmp_lt hX 359 dX4_goes_353 (by decide) (fun _ => ?_) (fun _ => ?_)
  · refine m_aload_n hX 0 dX4_goes_359 rfl rfl ?_
    refine m_dup hX dX4_goes_360 rfl ?_
    refine fg_69 hX dX4_goes_361 ?_
    refine m_ic hX dX4_goes_364 (by decide) (by decide) ?_
    refine m_iload hX 4 dX4_goes_365 rfl ?_
    refine m_ishl hX dX4_goes_367 ?_
    refine m_ior hX dX4_goes_368 ?_
    refine fp_69 hX dX4_goes_369 fun V6 => ?_
    refine m_iinc hX 1 dX4_goes_372 rfl (by decide) fun v7 => m_lv (lv' := [(5, (0, v7)), (0, (3, 0)), (6, (0, x6)), (7, (0, x7)), (8, (0, x8))]) rfl ?_
    exact m_sub [1, 0, 2, 3] rfl (WM_goes_375 hX hdd hK232 v7 x6 x7 V6)
  · refine m_goto hX 375 dX4_goes_356 (by decide) ?_
    exact m_sub [0, 1, 2, 3] rfl (WM_goes_375 hX hdd hK232 x5 x6 x7 V5)
noncomputable def M_goes_245 (K232 : Int → Int → Int → VV → Option (Int × VV)) : Nat → Int → Int → Int → Int → Int → VV → Option (Int × VV)
  | 0, _, _, _, _, _, _ => none
  | n + 1, x5, x6, x7, x8, x9, V => mb (M_questions V) fun r1 V2 => if r1 ≤ x9 then (M_goes_322 K232 x5 x6 x7 x8 V2) else (if iand (ishr (V2 67 0) x9) 1 = 1 then (if iand (ishr (V2 68 0) x9) 1 = 0 then (if x8 = (-1) then (M_goes_312 K232 (M_goes_245 K232 n) x5 x6 x7 x9 V2) else (mb (M_factOf x9 2 V2) fun r3 V4 => ck r3 3 <| mb (M_factOf x8 2 V4) fun r5 V6 => ck r5 3 <| if V4 22 r3 ≤ V6 22 r5 then (M_goes_316 K232 (M_goes_245 K232 n) x5 x6 x7 x8 x9 V6) else (M_goes_312 K232 (M_goes_245 K232 n) x5 x6 x7 x9 V6))) else (M_goes_316 K232 (M_goes_245 K232 n) x5 x6 x7 x8 x9 V2)) else (M_goes_316 K232 (M_goes_245 K232 n) x5 x6 x7 x8 x9 V2))
theorem WM_goes_245 {Z : MZ} {d : Nat} (hX : MX Z cX4_goes 10 (some .int) d 0) (hdd : 128 ≤ d) {K232 : Int → Int → Int → VV → Option (Int × VV)} (hK232 : ∀ x5 x6 x7 V, MG Z 232 [(0, (3, 0)), (5, (0, x5)), (6, (0, x6)), (7, (0, x7))] [] V (K232 x5 x6 x7 V)) : ∀ n x5 x6 x7 x8 x9 V, MG Z 245 [(0, (3, 0)), (5, (0, x5)), (6, (0, x6)), (7, (0, x7)), (8, (0, x8)), (9, (0, x9))] [] V (M_goes_245 K232 n x5 x6 x7 x8 x9 V) := by
  intro n
  induction n with
  | zero => intro x5 x6 x7 x8 x9 V; exact m_none
  | succ n ih =>
    intro x5 x6 x7 x8 x9 V
    rw [M_goes_245]
    refine m_iload hX 5 dX4_goes_245 rfl ?_
    refine m_aload_n hX 0 dX4_goes_247 rfl rfl ?_
    refine cl_questions hX (by omega) (Nat.le_of_ble_eq_true rfl) dX4_goes_248 fun r1 V2 => ?_
    refine m_icmp_ge hX 322 dX4_goes_251 (by decide) (fun _ => ?_) (fun _ => ?_)
    · exact m_sub [0, 1, 2, 3, 4] rfl (WM_goes_322 hX hdd hK232 x5 x6 x7 x8 V2)
    · refine m_aload_n hX 0 dX4_goes_254 rfl rfl ?_
      refine fg_67 hX dX4_goes_255 ?_
      refine m_iload hX 5 dX4_goes_258 rfl ?_
      refine m_ishr hX dX4_goes_260 ?_
      refine m_ic hX dX4_goes_261 (by decide) (by decide) ?_
      refine m_iand hX dX4_goes_262 ?_
      refine m_ic hX dX4_goes_263 (by decide) (by decide) ?_
      refine m_icmp_ne hX 316 dX4_goes_264 (by decide) (fun _ => ?_) (fun _ => ?_)
      · exact m_sub [0, 1, 2, 3, 4, 5] rfl (WM_goes_316 hX hdd hK232 ih x5 x6 x7 x8 x9 V2)
      · refine m_aload_n hX 0 dX4_goes_267 rfl rfl ?_
        refine fg_68 hX dX4_goes_268 ?_
        refine m_iload hX 5 dX4_goes_271 rfl ?_
        refine m_ishr hX dX4_goes_273 ?_
        refine m_ic hX dX4_goes_274 (by decide) (by decide) ?_
        refine m_iand hX dX4_goes_275 ?_
        refine m_if_ne hX 316 dX4_goes_276 (by decide) (fun _ => ?_) (fun _ => ?_)
        · exact m_sub [0, 1, 2, 3, 4, 5] rfl (WM_goes_316 hX hdd hK232 ih x5 x6 x7 x8 x9 V2)
        · refine m_iload hX 4 dX4_goes_279 rfl ?_
          refine m_ic hX dX4_goes_281 (by decide) (by decide) ?_
          refine m_icmp_eq hX 312 dX4_goes_282 (by decide) (fun _ => ?_) (fun _ => ?_)
          · exact m_sub [0, 1, 2, 3, 5] rfl (WM_goes_312 hX hdd hK232 ih x5 x6 x7 x9 V2)
          · refine m_aload_n hX 0 dX4_goes_285 rfl rfl ?_
            refine fg_22 hX dX4_goes_286 ?_
            refine m_aload_n hX 0 dX4_goes_289 rfl rfl ?_
            refine m_iload hX 5 dX4_goes_290 rfl ?_
            refine m_ic hX dX4_goes_292 (by decide) (by decide) ?_
            refine cl_factOf hX (by omega) (Nat.le_of_ble_eq_true rfl) dX4_goes_293 fun r3 V4 => ?_
            refine al_22 hX dX4_goes_296 ?_
            refine m_aload_n hX 0 dX4_goes_297 rfl rfl ?_
            refine fg_22 hX dX4_goes_298 ?_
            refine m_aload_n hX 0 dX4_goes_301 rfl rfl ?_
            refine m_iload hX 4 dX4_goes_302 rfl ?_
            refine m_ic hX dX4_goes_304 (by decide) (by decide) ?_
            refine cl_factOf hX (by omega) (Nat.le_of_ble_eq_true rfl) dX4_goes_305 fun r5 V6 => ?_
            refine al_22 hX dX4_goes_308 ?_
            refine m_icmp_le hX 316 dX4_goes_309 (by decide) (fun _ => ?_) (fun _ => ?_)
            · exact m_sub [0, 1, 2, 3, 4, 5] rfl (WM_goes_316 hX hdd hK232 ih x5 x6 x7 x8 x9 V6)
            · exact m_sub [0, 1, 2, 3, 5] rfl (WM_goes_312 hX hdd hK232 ih x5 x6 x7 x9 V6)
noncomputable def M_goes_232 : Nat → Int → Int → Int → VV → Option (Int × VV)
  | 0, _, _, _, _ => none
  | n + 1, x5, x6, x7, V => if x6 ≤ x7 then (some (x5, V)) else (M_goes_245 (M_goes_232 n) FU x5 x6 x7 (-1) 0 V)
theorem WM_goes_232 {Z : MZ} {d : Nat} (hX : MX Z cX4_goes 10 (some .int) d 0) (hdd : 128 ≤ d) : ∀ n x5 x6 x7 V, MG Z 232 [(0, (3, 0)), (5, (0, x5)), (6, (0, x6)), (7, (0, x7))] [] V (M_goes_232 n x5 x6 x7 V) := by
  intro n
  induction n with
  | zero => intro x5 x6 x7 V; exact m_none
  | succ n ih =>
    intro x5 x6 x7 V
    rw [M_goes_232]
    refine m_iload hX 3 dX4_goes_232 rfl ?_
    refine m_iload hX 2 dX4_goes_234 rfl ?_
    refine m_icmp_ge hX 381 dX4_goes_236 (by decide) (fun _ => ?_) (fun _ => ?_)
    · refine m_iload hX 1 dX4_goes_381 rfl ?_
      exact m_iret hX rfl dX4_goes_383
    · refine m_ic hX dX4_goes_239 (by decide) (by decide) ?_
      refine m_istore hX (lv' := [(8, (0, (-1))), (0, (3, 0)), (5, (0, x5)), (6, (0, x6)), (7, (0, x7))]) dX4_goes_240 (by decide) rfl ?_
      refine m_ic hX dX4_goes_242 (by decide) (by decide) ?_
      refine m_istore hX (lv' := [(9, (0, 0)), (8, (0, (-1))), (0, (3, 0)), (5, (0, x5)), (6, (0, x6)), (7, (0, x7))]) dX4_goes_243 (by decide) rfl ?_
      exact m_sub [2, 3, 4, 5, 1, 0] rfl (WM_goes_245 hX hdd ih FU x5 x6 x7 (-1) 0 V)
noncomputable def M_goes_227 (s0 : Int) (x5 : Int) (V : VV) : Option (Int × VV) := M_goes_232 FU x5 s0 0 V
theorem WM_goes_227 {Z : MZ} {d : Nat} (hX : MX Z cX4_goes 10 (some .int) d 0) (hdd : 128 ≤ d) : ∀ s0 x5 V, MG Z 227 [(0, (3, 0)), (5, (0, x5))] [(0, s0)] V (M_goes_227 s0 x5 V) := by
  intro s0 x5 V
  unfold M_goes_227
  refine m_istore hX (lv' := [(6, (0, s0)), (0, (3, 0)), (5, (0, x5))]) dX4_goes_227 (by decide) rfl ?_
  refine m_ic hX dX4_goes_229 (by decide) (by decide) ?_
  refine m_istore hX (lv' := [(7, (0, 0)), (6, (0, s0)), (0, (3, 0)), (5, (0, x5))]) dX4_goes_230 (by decide) rfl ?_
  exact m_sub [2, 3, 1, 0] rfl (WM_goes_232 hX hdd FU x5 s0 0 V)
noncomputable def M_goes_184 (V : VV) : Option (Int × VV) := nm (vup V 68 0 0) fun V1 => nm (vup V1 69 0 0) fun V2 => mb (M_term 1 V2) fun r3 V4 => mb (M_ones (V4 67 0) V4) fun r5 V6 => if r5 ≤ r3 then (mb (M_ones (V6 67 0) V6) fun r7 V8 => M_goes_227 r7 0 V8) else (mb (M_term 1 V6) fun r9 V10 => M_goes_227 r9 0 V10)
theorem WM_goes_184 {Z : MZ} {d : Nat} (hX : MX Z cX4_goes 10 (some .int) d 0) (hdd : 128 ≤ d) : ∀ V, MG Z 184 [(0, (3, 0))] [] V (M_goes_184 V) := by
  intro V
  unfold M_goes_184
  refine m_aload_n hX 0 dX4_goes_184 rfl rfl ?_
  refine m_ic hX dX4_goes_185 (by decide) (by decide) ?_
  refine fp_68 hX dX4_goes_186 fun V1 => ?_
  refine m_aload_n hX 0 dX4_goes_189 rfl rfl ?_
  refine m_ic hX dX4_goes_190 (by decide) (by decide) ?_
  refine fp_69 hX dX4_goes_191 fun V2 => ?_
  refine m_ic hX dX4_goes_194 (by decide) (by decide) ?_
  refine m_istore hX (lv' := [(5, (0, 0)), (0, (3, 0))]) dX4_goes_195 (by decide) rfl ?_
  refine m_aload_n hX 1 dX4_goes_197 rfl rfl ?_
  refine m_ic hX dX4_goes_198 (by decide) (by decide) ?_
  refine cl_term hX (by omega) (Nat.le_of_ble_eq_true rfl) dX4_goes_199 fun r3 V4 => ?_
  refine m_aload_n hX 1 dX4_goes_202 rfl rfl ?_
  refine fg_67 hX dX4_goes_203 ?_
  refine cl_ones hX (by omega) (Nat.le_of_ble_eq_true rfl) dX4_goes_206 fun r5 V6 => ?_
  refine m_icmp_ge hX 220 dX4_goes_209 (by decide) (fun _ => ?_) (fun _ => ?_)
  · refine m_aload_n hX 1 dX4_goes_220 rfl rfl ?_
    refine fg_67 hX dX4_goes_221 ?_
    refine cl_ones hX (by omega) (Nat.le_of_ble_eq_true rfl) dX4_goes_224 fun r7 V8 => ?_
    exact m_sub [1, 0] rfl (WM_goes_227 hX hdd r7 0 V8)
  · refine m_aload_n hX 1 dX4_goes_212 rfl rfl ?_
    refine m_ic hX dX4_goes_213 (by decide) (by decide) ?_
    refine cl_term hX (by omega) (Nat.le_of_ble_eq_true rfl) dX4_goes_214 fun r9 V10 => ?_
    refine m_goto hX 227 dX4_goes_217 (by decide) ?_
    exact m_sub [1, 0] rfl (WM_goes_227 hX hdd r9 0 V10)
noncomputable def M_goes_128 : Nat → Int → Int → Int → VV → Option (Int × VV)
  | 0, _, _, _, _ => none
  | n + 1, x1, x3, x4, V => if x4 = 0 then (M_goes_184 V) else (mb (M_ones (V 67 0) V) fun r1 V2 => if x3 ≤ r1 then (M_goes_184 V2) else (mb (M_ones (iand x1 (ixor (V2 67 0) (-1))) V2) fun r3 V4 => mb (M_draws r3 V4) fun r5 V6 => mb (M_nth (iand x1 (ixor (V2 67 0) (-1))) r5 V6) fun r7 V8 => nm (vup V8 67 0 (ior (V2 67 0) (ishl 1 r7))) fun V9 => M_goes_128 n x1 x3 x4 V9))
theorem WM_goes_128 {Z : MZ} {d : Nat} (hX : MX Z cX4_goes 10 (some .int) d 0) (hdd : 128 ≤ d) : ∀ n x1 x3 x4 V, MG Z 128 [(0, (3, 0)), (1, (0, x1)), (3, (0, x3)), (4, (0, x4))] [] V (M_goes_128 n x1 x3 x4 V) := by
  intro n
  induction n with
  | zero => intro x1 x3 x4 V; exact m_none
  | succ n ih =>
    intro x1 x3 x4 V
    rw [M_goes_128]
    refine m_iload hX 3 dX4_goes_128 rfl ?_
    refine m_if_eq hX 184 dX4_goes_130 (by decide) (fun _ => ?_) (fun _ => ?_)
    · exact m_sub [0] rfl (WM_goes_184 hX hdd V)
    · refine m_aload_n hX 0 dX4_goes_133 rfl rfl ?_
      refine fg_67 hX dX4_goes_134 ?_
      refine cl_ones hX (by omega) (Nat.le_of_ble_eq_true rfl) dX4_goes_137 fun r1 V2 => ?_
      refine m_iload_n hX 2 dX4_goes_140 rfl rfl ?_
      refine m_icmp_ge hX 184 dX4_goes_141 (by decide) (fun _ => ?_) (fun _ => ?_)
      · exact m_sub [0] rfl (WM_goes_184 hX hdd V2)
      · refine m_aload_n hX 0 dX4_goes_144 rfl rfl ?_
        refine m_aload_n hX 0 dX4_goes_145 rfl rfl ?_
        refine fg_67 hX dX4_goes_146 ?_
        refine m_ic hX dX4_goes_149 (by decide) (by decide) ?_
        refine m_iload_n hX 1 dX4_goes_150 rfl rfl ?_
        refine m_aload_n hX 0 dX4_goes_151 rfl rfl ?_
        refine fg_67 hX dX4_goes_152 ?_
        refine m_ic hX dX4_goes_155 (by decide) (by decide) ?_
        refine m_ixor hX dX4_goes_156 ?_
        refine m_iand hX dX4_goes_157 ?_
        refine m_aload_n hX 0 dX4_goes_158 rfl rfl ?_
        refine m_iload_n hX 1 dX4_goes_159 rfl rfl ?_
        refine m_aload_n hX 0 dX4_goes_160 rfl rfl ?_
        refine fg_67 hX dX4_goes_161 ?_
        refine m_ic hX dX4_goes_164 (by decide) (by decide) ?_
        refine m_ixor hX dX4_goes_165 ?_
        refine m_iand hX dX4_goes_166 ?_
        refine cl_ones hX (by omega) (Nat.le_of_ble_eq_true rfl) dX4_goes_167 fun r3 V4 => ?_
        refine cl_draws hX (by omega) (Nat.le_of_ble_eq_true rfl) dX4_goes_170 fun r5 V6 => ?_
        refine cl_nth hX (by omega) (Nat.le_of_ble_eq_true rfl) dX4_goes_173 fun r7 V8 => ?_
        refine m_ishl hX dX4_goes_176 ?_
        refine m_ior hX dX4_goes_177 ?_
        refine fp_67 hX dX4_goes_178 fun V9 => ?_
        refine m_goto hX 128 dX4_goes_181 (by decide) ?_
        exact m_sub [0, 1, 2, 3] rfl (ih x1 x3 x4 V9)
noncomputable def M_goes_52 (x1 : Int) (x2 : Int) (V : VV) : Option (Int × VV) := mb (M_term 0 V) fun r1 V2 => mb (M_ones x1 V2) fun r3 V4 => nm (α := Int) (if r3 ≤ r1 then 0 else 1) fun v5 => nm (α := Int) (if v5 = 0 then x1 else 0) fun v6 => nm (vup V4 67 0 v6) fun V7 => if v5 = 0 then (M_goes_128 FU x1 r1 v5 V7) else (if x2 = 0 then (M_goes_128 FU x1 r1 v5 V7) else (mb (M_draws 100 V7) fun r8 V9 => mb (M_term 3 V9) fun r10 V11 => if r10 ≤ r8 then (M_goes_128 FU x1 r1 v5 V11) else (mb (M_ones x2 V11) fun r12 V13 => mb (M_draws r12 V13) fun r14 V15 => mb (M_nth x2 r14 V15) fun r16 V17 => nm (vup V17 67 0 (ishl 1 r16)) fun V18 => M_goes_128 FU x1 r1 v5 V18)))
theorem WM_goes_52 {Z : MZ} {d : Nat} (hX : MX Z cX4_goes 10 (some .int) d 0) (hdd : 128 ≤ d) : ∀ x1 x2 V, MG Z 52 [(0, (3, 0)), (1, (0, x1)), (2, (0, x2))] [] V (M_goes_52 x1 x2 V) := by
  intro x1 x2 V
  unfold M_goes_52
  refine m_aload_n hX 0 dX4_goes_52 rfl rfl ?_
  refine m_ic hX dX4_goes_53 (by decide) (by decide) ?_
  refine cl_term hX (by omega) (Nat.le_of_ble_eq_true rfl) dX4_goes_54 fun r1 V2 => ?_
  refine m_istore_n hX (lv' := [(3, (0, r1)), (0, (3, 0)), (1, (0, x1)), (2, (0, x2))]) dX4_goes_57 rfl (by decide) rfl ?_
  refine m_iload_n hX 0 dX4_goes_58 rfl rfl ?_
  refine m_iload_n hX 2 dX4_goes_59 rfl rfl ?_
  refine cl_ones hX (by omega) (Nat.le_of_ble_eq_true rfl) dX4_goes_60 fun r3 V4 => ?_
  refine m_join 71 (fun v5 => [(0, v5)]) (fun v5 => ?_) (fun hJ => ?_)
  · refine m_istore hX (lv' := [(4, (0, v5)), (3, (0, r1)), (0, (3, 0)), (1, (0, x1)), (2, (0, x2))]) dX4_goes_71 (by decide) rfl ?_
    refine m_aload_n hX 2 dX4_goes_73 rfl rfl ?_
    refine m_iload hX 0 dX4_goes_74 rfl ?_
    refine m_join 84 (fun v6 => [(0, v6), (3, 0)]) (fun v6 => ?_) (fun hJ => ?_)
    · refine fp_67 hX dX4_goes_84 fun V7 => ?_
      refine m_iload hX 0 dX4_goes_87 rfl ?_
      refine m_if_eq hX 128 dX4_goes_89 (by decide) (fun _ => ?_) (fun _ => ?_)
      · exact m_sub [2, 3, 1, 0] rfl (WM_goes_128 hX hdd FU x1 r1 v5 V7)
      · refine m_iload_n hX 4 dX4_goes_92 rfl rfl ?_
        refine m_if_eq hX 128 dX4_goes_93 (by decide) (fun _ => ?_) (fun _ => ?_)
        · exact m_sub [2, 3, 1, 0] rfl (WM_goes_128 hX hdd FU x1 r1 v5 V7)
        · refine m_aload_n hX 2 dX4_goes_96 rfl rfl ?_
          refine m_bp hX dX4_goes_97 (by decide) (by decide) ?_
          refine cl_draws hX (by omega) (Nat.le_of_ble_eq_true rfl) dX4_goes_99 fun r8 V9 => ?_
          refine m_aload_n hX 2 dX4_goes_102 rfl rfl ?_
          refine m_ic hX dX4_goes_103 (by decide) (by decide) ?_
          refine cl_term hX (by omega) (Nat.le_of_ble_eq_true rfl) dX4_goes_104 fun r10 V11 => ?_
          refine m_icmp_ge hX 128 dX4_goes_107 (by decide) (fun _ => ?_) (fun _ => ?_)
          · exact m_sub [2, 3, 1, 0] rfl (WM_goes_128 hX hdd FU x1 r1 v5 V11)
          · refine m_aload_n hX 2 dX4_goes_110 rfl rfl ?_
            refine m_ic hX dX4_goes_111 (by decide) (by decide) ?_
            refine m_iload_n hX 4 dX4_goes_112 rfl rfl ?_
            refine m_aload_n hX 2 dX4_goes_113 rfl rfl ?_
            refine m_iload_n hX 4 dX4_goes_114 rfl rfl ?_
            refine cl_ones hX (by omega) (Nat.le_of_ble_eq_true rfl) dX4_goes_115 fun r12 V13 => ?_
            refine cl_draws hX (by omega) (Nat.le_of_ble_eq_true rfl) dX4_goes_118 fun r14 V15 => ?_
            refine cl_nth hX (by omega) (Nat.le_of_ble_eq_true rfl) dX4_goes_121 fun r16 V17 => ?_
            refine m_ishl hX dX4_goes_124 ?_
            refine fp_67 hX dX4_goes_125 fun V18 => ?_
            exact m_sub [2, 3, 1, 0] rfl (WM_goes_128 hX hdd FU x1 r1 v5 V18)
    · refine m_if_eqF hX 83 dX4_goes_76 (by decide) (fun _ => ?_) (fun _ => ?_)
      · refine m_iload_n hX 3 dX4_goes_83 rfl rfl ?_
        exact hJ _
      · refine m_ic hX dX4_goes_79 (by decide) (by decide) ?_
        refine m_goto hX 84 dX4_goes_80 (by decide) ?_
        exact hJ _
  · refine m_icmp_geF hX 70 dX4_goes_63 (by decide) (fun _ => ?_) (fun _ => ?_)
    · refine m_ic hX dX4_goes_70 (by decide) (by decide) ?_
      exact hJ _
    · refine m_ic hX dX4_goes_66 (by decide) (by decide) ?_
      refine m_goto hX 71 dX4_goes_67 (by decide) ?_
      exact hJ _
noncomputable def M_goes_10 : Nat → Int → Int → Int → VV → Option (Int × VV)
  | 0, _, _, _, _ => none
  | n + 1, x1, x2, x3, V => mb (M_questions V) fun r1 V2 => if r1 ≤ x3 then (M_goes_52 x1 x2 V2) else (mb (M_isBowl x3 V2) fun r3 V4 => if r3 = 0 then (M_goes_46 (M_goes_10 n) x1 x2 x3 V4) else (nm (α := Int) (ior x1 (ishl 1 x3)) fun v5 => mb (M_factOf x3 3 V4) fun r6 V7 => nm (α := Int) (ior x2 (ishl r6 x3)) fun v8 => M_goes_46 (M_goes_10 n) v5 v8 x3 V7))
theorem WM_goes_10 {Z : MZ} {d : Nat} (hX : MX Z cX4_goes 10 (some .int) d 0) (hdd : 128 ≤ d) : ∀ n x1 x2 x3 V, MG Z 10 [(0, (3, 0)), (1, (0, x1)), (2, (0, x2)), (3, (0, x3))] [] V (M_goes_10 n x1 x2 x3 V) := by
  intro n
  induction n with
  | zero => intro x1 x2 x3 V; exact m_none
  | succ n ih =>
    intro x1 x2 x3 V
    rw [M_goes_10]
    refine m_iload_n hX 3 dX4_goes_10 rfl rfl ?_
    refine m_aload_n hX 0 dX4_goes_11 rfl rfl ?_
    refine cl_questions hX (by omega) (Nat.le_of_ble_eq_true rfl) dX4_goes_12 fun r1 V2 => ?_
    refine m_icmp_ge hX 52 dX4_goes_15 (by decide) (fun _ => ?_) (fun _ => ?_)
    · exact m_sub [0, 1, 2] rfl (WM_goes_52 hX hdd x1 x2 V2)
    · refine m_aload_n hX 0 dX4_goes_18 rfl rfl ?_
      refine m_iload_n hX 3 dX4_goes_19 rfl rfl ?_
      refine cl_isBowl hX (by omega) (Nat.le_of_ble_eq_true rfl) dX4_goes_20 fun r3 V4 => ?_
      refine m_if_ne hX 29 dX4_goes_23 (by decide) (fun _ => ?_) (fun _ => ?_)
      · refine m_iload_n hX 1 dX4_goes_29 rfl rfl ?_
        refine m_ic hX dX4_goes_30 (by decide) (by decide) ?_
        refine m_iload_n hX 3 dX4_goes_31 rfl rfl ?_
        refine m_ishl hX dX4_goes_32 ?_
        refine m_ior hX dX4_goes_33 ?_
        refine m_nmT fun v5 => ?_
        refine m_istore_n hX (lv' := [(1, (0, v5)), (0, (3, 0)), (2, (0, x2)), (3, (0, x3))]) dX4_goes_34 rfl (by decide) rfl ?_
        refine m_iload_n hX 2 dX4_goes_35 rfl rfl ?_
        refine m_aload_n hX 1 dX4_goes_36 rfl rfl ?_
        refine m_iload_n hX 3 dX4_goes_37 rfl rfl ?_
        refine m_ic hX dX4_goes_38 (by decide) (by decide) ?_
        refine cl_factOf hX (by omega) (Nat.le_of_ble_eq_true rfl) dX4_goes_39 fun r6 V7 => ?_
        refine m_iload_n hX 3 dX4_goes_42 rfl rfl ?_
        refine m_ishl hX dX4_goes_43 ?_
        refine m_ior hX dX4_goes_44 ?_
        refine m_nmT fun v8 => ?_
        refine m_istore_n hX (lv' := [(2, (0, v8)), (1, (0, v5)), (0, (3, 0)), (3, (0, x3))]) dX4_goes_45 rfl (by decide) rfl ?_
        exact m_sub [2, 1, 0, 3] rfl (WM_goes_46 hX hdd ih v5 v8 x3 V7)
      · refine m_goto hX 46 dX4_goes_26 (by decide) ?_
        exact m_sub [0, 1, 2, 3] rfl (WM_goes_46 hX hdd ih x1 x2 x3 V4)
noncomputable def M_goes (V : VV) : Option (Int × VV) := mb (M_laysChances V) fun r1 V2 => M_goes_10 FU 0 0 0 V2
theorem WM_goes (l : Launch) {d : Nat} (hdd : 128 ≤ d) (V : VV) (hV : okV V) (ho : oks []) (fin : Int × VV) (hf : M_goes V = some fin) : mSpec l yX4_goes cX4_goes 10 (some .int) d 0 [(3, 0)] V fin := by
  refine m_enter (lv := [(0, (3, 0))]) (by decide) rfl (Nat.le_of_ble_eq_true rfl) rfl (fun Z hZ hX => ?_) hV (ho.c (okA.t 0)) fin hf
  unfold M_goes
  refine m_aload_n hX 0 dX4_goes_0 rfl rfl ?_
  refine cl_laysChances hX (by omega) (Nat.le_of_ble_eq_true rfl) dX4_goes_1 fun r1 V2 => ?_
  refine m_ic hX dX4_goes_4 (by decide) (by decide) ?_
  refine m_istore_n hX (lv' := [(1, (0, 0)), (0, (3, 0))]) dX4_goes_5 rfl (by decide) rfl ?_
  refine m_ic hX dX4_goes_6 (by decide) (by decide) ?_
  refine m_istore_n hX (lv' := [(2, (0, 0)), (1, (0, 0)), (0, (3, 0))]) dX4_goes_7 rfl (by decide) rfl ?_
  refine m_ic hX dX4_goes_8 (by decide) (by decide) ?_
  refine m_istore_n hX (lv' := [(3, (0, 0)), (2, (0, 0)), (1, (0, 0)), (0, (3, 0))]) dX4_goes_9 rfl (by decide) rfl ?_
  exact m_sub [3, 2, 1, 0] rfl (WM_goes_10 hX hdd FU 0 0 0 V2)
theorem cl_goes {Z : MZ} {cc : ByteArray} {nL : Nat} {ret : Option FieldType} {d rk : Nat} {pc : Nat} {lv : List (Nat × AV)} {st : List AV} {V : VV} {g : Int → VV → Option (Int × VV)} (hX : MX Z cc nL ret d rk) (hdd : 129 ≤ d) (hcat : (st.map fun v => if v.1 = 1 then 2 else 1).sum ≤ 8) (hdg : decode cc pc = .ok (.invokevirtual 520, 3)) (kk : ∀ r V1, MG Z (pc + 3) lv ((0, r) :: st) V1 (g r V1)) : MG Z pc lv ((3, 0) :: st) V (mb (M_goes V) g) :=
  m_callVi hX [] 0 (fun hV ho fin hf => WM_goes (zL Z) (Nat.le_refl 128) V hV ho fin hf) (lw_V q2337 q2339 qs121 q131 q2340) (by decide +kernel) rfl (by omega) (by decide) rfl hcat hdg kk
noncomputable def M_exam (x1 : Int) (V : VV) : Option (Int × VV) := mb (M_lies x1 0 1000000 V) fun r1 V2 => if r1 = 0 then (mb (M_refuses (-1) V2) fun r11 V12 => some (r11, V12)) else (nm (vup V2 63 0 x1) fun V3 => mb (M_goes V3) fun r4 V5 => nm (vup V5 64 0 (V5 67 0)) fun V6 => nm (vup V6 65 0 (V6 68 0)) fun V7 => nm (vup V7 66 0 (V7 69 0)) fun V8 => mb (M_good r4 V8) fun r9 V10 => some (r9, V10))
theorem WM_exam (l : Launch) {d : Nat} (hdd : 129 ≤ d) (x1 : Int) (V : VV) (hV : okV V) (ho : oks [(0, x1)]) (fin : Int × VV) (hf : M_exam x1 V = some fin) : mSpec l yX4_exam cX4_exam 3 (some .int) d 0 [(3, 0), (0, x1)] V fin := by
  refine m_enter (lv := [(0, (3, 0)), (1, (0, x1))]) (by decide) rfl (Nat.le_of_ble_eq_true rfl) rfl (fun Z hZ hX => ?_) hV (ho.c (okA.t 0)) fin hf
  unfold M_exam
  refine m_iload_n hX 1 dX4_exam_0 rfl rfl ?_
  refine m_ic hX dX4_exam_1 (by decide) (by decide) ?_
  refine m_ldc hX (n := 1000000) q1963 dX4_exam_2 (by decide +kernel) ⟨by decide, by decide⟩ ?_
  refine cl_lies hX (by omega) (Nat.le_of_ble_eq_true rfl) dX4_exam_4 fun r1 V2 => ?_
  refine m_if_ne hX 16 dX4_exam_7 (by decide) (fun _ => ?_) (fun _ => ?_)
  · refine m_aload_n hX 0 dX4_exam_16 rfl rfl ?_
    refine m_iload_n hX 1 dX4_exam_17 rfl rfl ?_
    refine fp_63 hX dX4_exam_18 fun V3 => ?_
    refine m_aload_n hX 0 dX4_exam_21 rfl rfl ?_
    refine cl_goes hX (by omega) (Nat.le_of_ble_eq_true rfl) dX4_exam_22 fun r4 V5 => ?_
    refine m_istore_n hX (lv' := [(2, (0, r4)), (0, (3, 0)), (1, (0, x1))]) dX4_exam_25 rfl (by decide) rfl ?_
    refine m_aload_n hX 1 dX4_exam_26 rfl rfl ?_
    refine m_aload_n hX 1 dX4_exam_27 rfl rfl ?_
    refine fg_67 hX dX4_exam_28 ?_
    refine fp_64 hX dX4_exam_31 fun V6 => ?_
    refine m_aload_n hX 1 dX4_exam_34 rfl rfl ?_
    refine m_aload_n hX 1 dX4_exam_35 rfl rfl ?_
    refine fg_68 hX dX4_exam_36 ?_
    refine fp_65 hX dX4_exam_39 fun V7 => ?_
    refine m_aload_n hX 1 dX4_exam_42 rfl rfl ?_
    refine m_aload_n hX 1 dX4_exam_43 rfl rfl ?_
    refine fg_69 hX dX4_exam_44 ?_
    refine fp_66 hX dX4_exam_47 fun V8 => ?_
    refine m_aload_n hX 1 dX4_exam_50 rfl rfl ?_
    refine m_iload_n hX 0 dX4_exam_51 rfl rfl ?_
    refine cl_good hX (by omega) (Nat.le_of_ble_eq_true rfl) dX4_exam_52 fun r9 V10 => ?_
    exact m_iret hX rfl dX4_exam_55
  · refine m_aload_n hX 0 dX4_exam_10 rfl rfl ?_
    refine m_ic hX dX4_exam_11 (by decide) (by decide) ?_
    refine cl_refuses hX (by omega) (Nat.le_of_ble_eq_true rfl) dX4_exam_12 fun r11 V12 => ?_
    exact m_iret hX rfl dX4_exam_15
-- exam: not called inside
noncomputable def M_table (x1 : Int) (V : VV) : Option (Int × VV) := if V 64 0 = (-1) then (some ((-1), V)) else (mb (M_lies x1 0 2 V) fun r1 V2 => if r1 = 0 then (some ((-1), V2)) else (if x1 = 0 then (some (V2 64 0, V2)) else (if x1 = 1 then (some (V2 65 0, V2)) else (some (V2 66 0, V2)))))
theorem WM_table (l : Launch) {d : Nat} (hdd : 2 ≤ d) (x1 : Int) (V : VV) (hV : okV V) (ho : oks [(0, x1)]) (fin : Int × VV) (hf : M_table x1 V = some fin) : mSpec l yX4_table cX4_table 2 (some .int) d 0 [(3, 0), (0, x1)] V fin := by
  refine m_enter (lv := [(0, (3, 0)), (1, (0, x1))]) (by decide) rfl (Nat.le_of_ble_eq_true rfl) rfl (fun Z hZ hX => ?_) hV (ho.c (okA.t 0)) fin hf
  unfold M_table
  refine m_aload_n hX 0 dX4_table_0 rfl rfl ?_
  refine fg_64 hX dX4_table_1 ?_
  refine m_ic hX dX4_table_4 (by decide) (by decide) ?_
  refine m_icmp_eq hX 17 dX4_table_5 (by decide) (fun _ => ?_) (fun _ => ?_)
  · refine m_ic hX dX4_table_17 (by decide) (by decide) ?_
    refine m_goto hX 48 dX4_table_18 (by decide) ?_
    exact m_iret hX rfl dX4_table_48
  · refine m_iload_n hX 1 dX4_table_8 rfl rfl ?_
    refine m_ic hX dX4_table_9 (by decide) (by decide) ?_
    refine m_ic hX dX4_table_10 (by decide) (by decide) ?_
    refine cl_lies hX (by omega) (Nat.le_of_ble_eq_true rfl) dX4_table_11 fun r1 V2 => ?_
    refine m_if_ne hX 21 dX4_table_14 (by decide) (fun _ => ?_) (fun _ => ?_)
    · refine m_iload_n hX 1 dX4_table_21 rfl rfl ?_
      refine m_if_ne hX 32 dX4_table_22 (by decide) (fun _ => ?_) (fun _ => ?_)
      · refine m_iload_n hX 1 dX4_table_32 rfl rfl ?_
        refine m_ic hX dX4_table_33 (by decide) (by decide) ?_
        refine m_icmp_ne hX 44 dX4_table_34 (by decide) (fun _ => ?_) (fun _ => ?_)
        · refine m_aload_n hX 0 dX4_table_44 rfl rfl ?_
          refine fg_66 hX dX4_table_45 ?_
          exact m_iret hX rfl dX4_table_48
        · refine m_aload_n hX 0 dX4_table_37 rfl rfl ?_
          refine fg_65 hX dX4_table_38 ?_
          refine m_goto hX 48 dX4_table_41 (by decide) ?_
          exact m_iret hX rfl dX4_table_48
      · refine m_aload_n hX 0 dX4_table_25 rfl rfl ?_
        refine fg_64 hX dX4_table_26 ?_
        refine m_goto hX 48 dX4_table_29 (by decide) ?_
        exact m_iret hX rfl dX4_table_48
    · refine m_ic hX dX4_table_17 (by decide) (by decide) ?_
      refine m_goto hX 48 dX4_table_18 (by decide) ?_
      exact m_iret hX rfl dX4_table_48
-- table: not called inside
noncomputable def M_exams_33 : Nat → Int → Int → Int → VV → Option (Int × VV)
  | 0, _, _, _, _ => none
  | n + 1, x1, x3, x4, V => if x1 ≤ x4 then (some (x3, V)) else (mb (M_goes V) fun r1 V2 => mb (M_term 2 V2) fun r3 V4 => nm (α := Int) (if r1 < r3 then 0 else 1) fun v5 => nm (α := Int) (w32 (x3 + v5)) fun v6 => nm (w32 (x4 + 1)) fun v7 => M_exams_33 n x1 v6 v7 V4)
theorem WM_exams_33 {Z : MZ} {d : Nat} (hX : MX Z cX4_exams 5 (some .int) d 0) (hdd : 129 ≤ d) : ∀ n x1 x3 x4 V, MG Z 33 [(0, (3, 0)), (1, (0, x1)), (3, (0, x3)), (4, (0, x4))] [] V (M_exams_33 n x1 x3 x4 V) := by
  intro n
  induction n with
  | zero => intro x1 x3 x4 V; exact m_none
  | succ n ih =>
    intro x1 x3 x4 V
    rw [M_exams_33]
    refine m_iload hX 3 dX4_exams_33 rfl ?_
    refine m_iload_n hX 1 dX4_exams_35 rfl rfl ?_
    refine m_icmp_ge hX 65 dX4_exams_36 (by decide) (fun _ => ?_) (fun _ => ?_)
    · refine m_iload_n hX 2 dX4_exams_65 rfl rfl ?_
      exact m_iret hX rfl dX4_exams_66
    · refine m_iload_n hX 2 dX4_exams_39 rfl rfl ?_
      refine m_aload_n hX 0 dX4_exams_40 rfl rfl ?_
      refine cl_goes hX (by omega) (Nat.le_of_ble_eq_true rfl) dX4_exams_41 fun r1 V2 => ?_
      refine m_aload_n hX 0 dX4_exams_44 rfl rfl ?_
      refine m_ic hX dX4_exams_45 (by decide) (by decide) ?_
      refine cl_term hX (by omega) (Nat.le_of_ble_eq_true rfl) dX4_exams_46 fun r3 V4 => ?_
      refine m_join 57 (fun v5 => [(0, v5), (0, x3)]) (fun v5 => ?_) (fun hJ => ?_)
      · refine m_iadd hX dX4_exams_57 ?_
        refine m_nmT fun v6 => ?_
        refine m_istore_n hX (lv' := [(3, (0, v6)), (0, (3, 0)), (1, (0, x1)), (4, (0, x4))]) dX4_exams_58 rfl (by decide) rfl ?_
        refine m_iinc hX 3 dX4_exams_59 rfl (by decide) fun v7 => m_lv (lv' := [(4, (0, v7)), (3, (0, v6)), (0, (3, 0)), (1, (0, x1))]) rfl ?_
        refine m_goto hX 33 dX4_exams_62 (by decide) ?_
        exact m_sub [2, 3, 1, 0] rfl (ih x1 v6 v7 V4)
      · refine m_icmp_ltF hX 56 dX4_exams_49 (by decide) (fun _ => ?_) (fun _ => ?_)
        · refine m_ic hX dX4_exams_56 (by decide) (by decide) ?_
          exact hJ _
        · refine m_ic hX dX4_exams_52 (by decide) (by decide) ?_
          refine m_goto hX 57 dX4_exams_53 (by decide) ?_
          exact hJ _
noncomputable def M_exams (x1 : Int) (x2 : Int) (V : VV) : Option (Int × VV) := mb (M_lies x1 1 500 V) fun r1 V2 => if r1 = 0 then (some ((-1), V2)) else (mb (M_lies x2 0 1000000 V2) fun r3 V4 => if r3 = 0 then (some ((-1), V4)) else (nm (vup V4 63 0 x2) fun V5 => M_exams_33 FU x1 0 0 V5))
theorem WM_exams (l : Launch) {d : Nat} (hdd : 129 ≤ d) (x1 : Int) (x2 : Int) (V : VV) (hV : okV V) (ho : oks [(0, x1), (0, x2)]) (fin : Int × VV) (hf : M_exams x1 x2 V = some fin) : mSpec l yX4_exams cX4_exams 5 (some .int) d 0 [(3, 0), (0, x1), (0, x2)] V fin := by
  refine m_enter (lv := [(0, (3, 0)), (1, (0, x1)), (2, (0, x2))]) (by decide) rfl (Nat.le_of_ble_eq_true rfl) rfl (fun Z hZ hX => ?_) hV (ho.c (okA.t 0)) fin hf
  unfold M_exams
  refine m_iload_n hX 1 dX4_exams_0 rfl rfl ?_
  refine m_ic hX dX4_exams_1 (by decide) (by decide) ?_
  refine m_sp hX dX4_exams_2 (by decide) (by decide) ?_
  refine cl_lies hX (by omega) (Nat.le_of_ble_eq_true rfl) dX4_exams_5 fun r1 V2 => ?_
  refine m_if_eq hX 21 dX4_exams_8 (by decide) (fun _ => ?_) (fun _ => ?_)
  · refine m_ic hX dX4_exams_21 (by decide) (by decide) ?_
    exact m_iret hX rfl dX4_exams_22
  · refine m_iload_n hX 2 dX4_exams_11 rfl rfl ?_
    refine m_ic hX dX4_exams_12 (by decide) (by decide) ?_
    refine m_ldc hX (n := 1000000) q1963 dX4_exams_13 (by decide +kernel) ⟨by decide, by decide⟩ ?_
    refine cl_lies hX (by omega) (Nat.le_of_ble_eq_true rfl) dX4_exams_15 fun r3 V4 => ?_
    refine m_if_ne hX 23 dX4_exams_18 (by decide) (fun _ => ?_) (fun _ => ?_)
    · refine m_aload_n hX 0 dX4_exams_23 rfl rfl ?_
      refine m_iload_n hX 2 dX4_exams_24 rfl rfl ?_
      refine fp_63 hX dX4_exams_25 fun V5 => ?_
      refine m_ic hX dX4_exams_28 (by decide) (by decide) ?_
      refine m_istore_n hX (lv' := [(3, (0, 0)), (0, (3, 0)), (1, (0, x1)), (2, (0, x2))]) dX4_exams_29 rfl (by decide) rfl ?_
      refine m_ic hX dX4_exams_30 (by decide) (by decide) ?_
      refine m_istore hX (lv' := [(4, (0, 0)), (3, (0, 0)), (0, (3, 0)), (1, (0, x1)), (2, (0, x2))]) dX4_exams_31 (by decide) rfl ?_
      exact m_sub [2, 3, 1, 0] rfl (WM_exams_33 hX hdd FU x1 0 0 V5)
    · refine m_ic hX dX4_exams_21 (by decide) (by decide) ?_
      exact m_iret hX rfl dX4_exams_22
-- exams: not called inside
noncomputable def M_count_148 (x1 : Int) (V : VV) : Option (Int × VV) := ck (w32 (x1 - 6)) 7 <| some (V 2 (w32 (x1 - 6)), V)
theorem WM_count_148 {Z : MZ} {d : Nat} (hX : MX Z cX4_count 4 (some .int) d 0) (hdd : 4 ≤ d) : ∀ x1 V, MG Z 148 [(0, (3, 0)), (1, (0, x1))] [] V (M_count_148 x1 V) := by
  intro x1 V
  unfold M_count_148
  refine m_aload_n hX 0 dX4_count_148 rfl rfl ?_
  refine fg_2 hX dX4_count_149 ?_
  refine m_iload_n hX 1 dX4_count_152 rfl rfl ?_
  refine m_bp hX dX4_count_153 (by decide) (by decide) ?_
  refine m_isub hX dX4_count_155 ?_
  refine al_2 hX dX4_count_156 ?_
  exact m_iret hX rfl dX4_count_157
noncomputable def M_count_35 (x1 : Int) (x2 : Int) (V : VV) : Option (Int × VV) := if x1 = 0 then (mb (M_questions V) fun r1 V2 => some (r1, V2)) else if x1 = 1 then (mb (M_bowl V) fun r3 V4 => some (r3, V4)) else if x1 = 2 then (some (V 3 393, V)) else if x1 = 3 then (some (V 3 391, V)) else if x1 = 4 then (some (V 3 392, V)) else if x1 = 5 then (some (x2, V)) else if x1 = 6 then (some (V 9 0, V)) else if x1 = 7 then (M_count_148 x1 V) else if x1 = 8 then (M_count_148 x1 V) else if x1 = 9 then (M_count_148 x1 V) else if x1 = 10 then (some (V 2 5, V)) else if x1 = 11 then (some (V 2 6, V)) else if x1 = 12 then (some (V 3 394, V)) else (some ((-1), V))
theorem WM_count_35 {Z : MZ} {d : Nat} (hX : MX Z cX4_count 4 (some .int) d 0) (hdd : 4 ≤ d) : ∀ x1 x2 V, MG Z 35 [(0, (3, 0)), (1, (0, x1)), (2, (0, x2))] [] V (M_count_35 x1 x2 V) := by
  intro x1 x2 V
  unfold M_count_35
  refine m_iload_n hX 1 dX4_count_35 rfl rfl ?_
  refine m_tswC hX (c := 0) 104 dX4_count_36 ⟨by decide, by decide⟩ (by decide) (by decide) rfl (by decide) (fun _ => ?_) (fun _ => ?_)
  · refine m_aload_n hX 0 dX4_count_104 rfl rfl ?_
    refine cl_questions hX (by omega) (Nat.le_of_ble_eq_true rfl) dX4_count_105 fun r1 V2 => ?_
    exact m_iret hX rfl dX4_count_108
  refine m_tswC hX (c := 1) 109 dX4_count_36 ⟨by decide, by decide⟩ (by decide) (by decide) rfl (by decide) (fun _ => ?_) (fun _ => ?_)
  · refine m_aload_n hX 0 dX4_count_109 rfl rfl ?_
    refine cl_bowl hX (by omega) (Nat.le_of_ble_eq_true rfl) dX4_count_110 fun r3 V4 => ?_
    exact m_iret hX rfl dX4_count_113
  refine m_tswC hX (c := 2) 114 dX4_count_36 ⟨by decide, by decide⟩ (by decide) (by decide) rfl (by decide) (fun _ => ?_) (fun _ => ?_)
  · refine m_aload_n hX 0 dX4_count_114 rfl rfl ?_
    refine fg_3 hX dX4_count_115 ?_
    refine m_sp hX dX4_count_118 (by decide) (by decide) ?_
    refine m_in (by decide) (by decide) (al_3 hX dX4_count_121 ?_)
    exact m_iret hX rfl dX4_count_122
  refine m_tswC hX (c := 3) 123 dX4_count_36 ⟨by decide, by decide⟩ (by decide) (by decide) rfl (by decide) (fun _ => ?_) (fun _ => ?_)
  · refine m_aload_n hX 0 dX4_count_123 rfl rfl ?_
    refine fg_3 hX dX4_count_124 ?_
    refine m_sp hX dX4_count_127 (by decide) (by decide) ?_
    refine m_in (by decide) (by decide) (al_3 hX dX4_count_130 ?_)
    exact m_iret hX rfl dX4_count_131
  refine m_tswC hX (c := 4) 132 dX4_count_36 ⟨by decide, by decide⟩ (by decide) (by decide) rfl (by decide) (fun _ => ?_) (fun _ => ?_)
  · refine m_aload_n hX 0 dX4_count_132 rfl rfl ?_
    refine fg_3 hX dX4_count_133 ?_
    refine m_sp hX dX4_count_136 (by decide) (by decide) ?_
    refine m_in (by decide) (by decide) (al_3 hX dX4_count_139 ?_)
    exact m_iret hX rfl dX4_count_140
  refine m_tswC hX (c := 5) 141 dX4_count_36 ⟨by decide, by decide⟩ (by decide) (by decide) rfl (by decide) (fun _ => ?_) (fun _ => ?_)
  · refine m_iload_n hX 2 dX4_count_141 rfl rfl ?_
    exact m_iret hX rfl dX4_count_142
  refine m_tswC hX (c := 6) 143 dX4_count_36 ⟨by decide, by decide⟩ (by decide) (by decide) rfl (by decide) (fun _ => ?_) (fun _ => ?_)
  · refine m_aload_n hX 0 dX4_count_143 rfl rfl ?_
    refine fg_9 hX dX4_count_144 ?_
    exact m_iret hX rfl dX4_count_147
  refine m_tswC hX (c := 7) 148 dX4_count_36 ⟨by decide, by decide⟩ (by decide) (by decide) rfl (by decide) (fun _ => ?_) (fun _ => ?_)
  · exact m_sub [0, 1] rfl (WM_count_148 hX hdd x1 V)
  refine m_tswC hX (c := 8) 148 dX4_count_36 ⟨by decide, by decide⟩ (by decide) (by decide) rfl (by decide) (fun _ => ?_) (fun _ => ?_)
  · exact m_sub [0, 1] rfl (WM_count_148 hX hdd x1 V)
  refine m_tswC hX (c := 9) 148 dX4_count_36 ⟨by decide, by decide⟩ (by decide) (by decide) rfl (by decide) (fun _ => ?_) (fun _ => ?_)
  · exact m_sub [0, 1] rfl (WM_count_148 hX hdd x1 V)
  refine m_tswC hX (c := 10) 158 dX4_count_36 ⟨by decide, by decide⟩ (by decide) (by decide) rfl (by decide) (fun _ => ?_) (fun _ => ?_)
  · refine m_aload_n hX 0 dX4_count_158 rfl rfl ?_
    refine fg_2 hX dX4_count_159 ?_
    refine m_ic hX dX4_count_162 (by decide) (by decide) ?_
    refine m_in (by decide) (by decide) (al_2 hX dX4_count_163 ?_)
    exact m_iret hX rfl dX4_count_164
  refine m_tswC hX (c := 11) 165 dX4_count_36 ⟨by decide, by decide⟩ (by decide) (by decide) rfl (by decide) (fun _ => ?_) (fun _ => ?_)
  · refine m_aload_n hX 0 dX4_count_165 rfl rfl ?_
    refine fg_2 hX dX4_count_166 ?_
    refine m_bp hX dX4_count_169 (by decide) (by decide) ?_
    refine m_in (by decide) (by decide) (al_2 hX dX4_count_171 ?_)
    exact m_iret hX rfl dX4_count_172
  refine m_tswC hX (c := 12) 173 dX4_count_36 ⟨by decide, by decide⟩ (by decide) (by decide) rfl (by decide) (fun _ => ?_) (fun _ => ?_)
  · refine m_aload_n hX 0 dX4_count_173 rfl rfl ?_
    refine fg_3 hX dX4_count_174 ?_
    refine m_sp hX dX4_count_177 (by decide) (by decide) ?_
    refine m_in (by decide) (by decide) (al_3 hX dX4_count_180 ?_)
    exact m_iret hX rfl dX4_count_181
  refine m_tswO hX 182 dX4_count_36 (by omega) (by decide) ?_
  refine m_ic hX dX4_count_182 (by decide) (by decide) ?_
  exact m_iret hX rfl dX4_count_183
noncomputable def M_count_4 : Nat → Int → Int → Int → VV → Option (Int × VV)
  | 0, _, _, _, _ => none
  | n + 1, x1, x2, x3, V => mb (M_questions V) fun r1 V2 => if r1 ≤ x3 then (M_count_35 x1 x2 V2) else (mb (M_factOf x3 2 V2) fun r3 V4 => nm (α := Int) (if r3 ≤ 0 then 0 else 1) fun v5 => nm (α := Int) (w32 (x2 + v5)) fun v6 => nm (w32 (x3 + 1)) fun v7 => M_count_4 n x1 v6 v7 V4)
theorem WM_count_4 {Z : MZ} {d : Nat} (hX : MX Z cX4_count 4 (some .int) d 0) (hdd : 4 ≤ d) : ∀ n x1 x2 x3 V, MG Z 4 [(0, (3, 0)), (1, (0, x1)), (2, (0, x2)), (3, (0, x3))] [] V (M_count_4 n x1 x2 x3 V) := by
  intro n
  induction n with
  | zero => intro x1 x2 x3 V; exact m_none
  | succ n ih =>
    intro x1 x2 x3 V
    rw [M_count_4]
    refine m_iload_n hX 3 dX4_count_4 rfl rfl ?_
    refine m_aload_n hX 0 dX4_count_5 rfl rfl ?_
    refine cl_questions hX (by omega) (Nat.le_of_ble_eq_true rfl) dX4_count_6 fun r1 V2 => ?_
    refine m_icmp_ge hX 35 dX4_count_9 (by decide) (fun _ => ?_) (fun _ => ?_)
    · exact m_sub [0, 1, 2] rfl (WM_count_35 hX hdd x1 x2 V2)
    · refine m_iload_n hX 2 dX4_count_12 rfl rfl ?_
      refine m_aload_n hX 0 dX4_count_13 rfl rfl ?_
      refine m_iload_n hX 3 dX4_count_14 rfl rfl ?_
      refine m_ic hX dX4_count_15 (by decide) (by decide) ?_
      refine cl_factOf hX (by omega) (Nat.le_of_ble_eq_true rfl) dX4_count_16 fun r3 V4 => ?_
      refine m_join 27 (fun v5 => [(0, v5), (0, x2)]) (fun v5 => ?_) (fun hJ => ?_)
      · refine m_iadd hX dX4_count_27 ?_
        refine m_nmT fun v6 => ?_
        refine m_istore_n hX (lv' := [(2, (0, v6)), (0, (3, 0)), (1, (0, x1)), (3, (0, x3))]) dX4_count_28 rfl (by decide) rfl ?_
        refine m_iinc hX 3 dX4_count_29 rfl (by decide) fun v7 => m_lv (lv' := [(3, (0, v7)), (2, (0, v6)), (0, (3, 0)), (1, (0, x1))]) rfl ?_
        refine m_goto hX 4 dX4_count_32 (by decide) ?_
        exact m_sub [2, 3, 1, 0] rfl (ih x1 v6 v7 V4)
      · refine m_if_leF hX 26 dX4_count_19 (by decide) (fun _ => ?_) (fun _ => ?_)
        · refine m_ic hX dX4_count_26 (by decide) (by decide) ?_
          exact hJ _
        · refine m_ic hX dX4_count_22 (by decide) (by decide) ?_
          refine m_goto hX 27 dX4_count_23 (by decide) ?_
          exact hJ _
noncomputable def M_count (x1 : Int) (V : VV) : Option (Int × VV) := M_count_4 FU x1 0 0 V
theorem WM_count (l : Launch) {d : Nat} (hdd : 4 ≤ d) (x1 : Int) (V : VV) (hV : okV V) (ho : oks [(0, x1)]) (fin : Int × VV) (hf : M_count x1 V = some fin) : mSpec l yX4_count cX4_count 4 (some .int) d 0 [(3, 0), (0, x1)] V fin := by
  refine m_enter (lv := [(0, (3, 0)), (1, (0, x1))]) (by decide) rfl (Nat.le_of_ble_eq_true rfl) rfl (fun Z hZ hX => ?_) hV (ho.c (okA.t 0)) fin hf
  unfold M_count
  refine m_ic hX dX4_count_0 (by decide) (by decide) ?_
  refine m_istore_n hX (lv' := [(2, (0, 0)), (0, (3, 0)), (1, (0, x1))]) dX4_count_1 rfl (by decide) rfl ?_
  refine m_ic hX dX4_count_2 (by decide) (by decide) ?_
  refine m_istore_n hX (lv' := [(3, (0, 0)), (2, (0, 0)), (0, (3, 0)), (1, (0, x1))]) dX4_count_3 rfl (by decide) rfl ?_
  exact m_sub [2, 3, 1, 0] rfl (WM_count_4 hX hdd FU x1 0 0 V)
-- count: not called inside
noncomputable def M_status (V : VV) : Option (Int × VV) := some (V 0 0, V)
theorem WM_status (l : Launch) {d : Nat} (hdd : 1 ≤ d) (V : VV) (hV : okV V) (ho : oks []) (fin : Int × VV) (hf : M_status V = some fin) : mSpec l yX4_status cX4_status 1 (some .int) d 0 [(3, 0)] V fin := by
  refine m_enter (lv := [(0, (3, 0))]) (by decide) rfl (Nat.le_of_ble_eq_true rfl) rfl (fun Z hZ hX => ?_) hV (ho.c (okA.t 0)) fin hf
  unfold M_status
  refine m_aload_n hX 0 dX4_status_0 rfl rfl ?_
  refine fg_0 hX dX4_status_1 ?_
  exact m_iret hX rfl dX4_status_4
-- status: not called inside
