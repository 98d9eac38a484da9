/-! printed by tools/genm.py: the model's methods as pure functions, and their walks -/
set_option maxRecDepth 100000
set_option maxHeartbeats 4000000
noncomputable def M_costOf (x1 : Int) (x2 : Int) (x3 : Int) (V : VV) : Option (Int × VV) := if x2 = 0 then (some (0, V)) else (if x2 = 1 then (ck (w32 ((w32 (4 * x1)) + (w32 (2 * x3)))) 80 <| some (V 33 (w32 ((w32 (4 * x1)) + (w32 (2 * x3)))), V)) else (ck (w32 ((w32 (4 * x1)) + (w32 (2 * x3)))) 80 <| ck (w32 ((w32 ((w32 (4 * x1)) + (w32 (2 * x3)))) + 1)) 80 <| some (w32 ((V 33 (w32 ((w32 (4 * x1)) + (w32 (2 * x3))))) + (V 33 (w32 ((w32 ((w32 (4 * x1)) + (w32 (2 * x3)))) + 1)))), V)))
theorem WM_costOf (l : Launch) {d : Nat} (hdd : 1 ≤ d) (x1 : Int) (x2 : Int) (x3 : Int) (V : VV) (hV : okV V) (ho : oks [(0, x1), (0, x2), (0, x3)]) (fin : Int × VV) (hf : M_costOf x1 x2 x3 V = some fin) : mSpec l yX4_costOf cX4_costOf 4 (some .int) d 0 [(3, 0), (0, x1), (0, x2), (0, x3)] V fin := by
  refine m_enter (lv := [(0, (3, 0)), (1, (0, x1)), (2, (0, x2)), (3, (0, x3))]) (by decide) rfl (Nat.le_of_ble_eq_true rfl) rfl (fun Z hZ hX => ?_) hV (ho.c (okA.t 0)) fin hf
  unfold M_costOf
  refine m_iload_n hX 2 dX4_costOf_0 rfl rfl ?_
  refine m_if_ne hX 8 dX4_costOf_1 (by decide) (fun _ => ?_) (fun _ => ?_)
  · refine m_iload_n hX 2 dX4_costOf_8 rfl rfl ?_
    refine m_ic hX dX4_costOf_9 (by decide) (by decide) ?_
    refine m_icmp_ne hX 28 dX4_costOf_10 (by decide) (fun _ => ?_) (fun _ => ?_)
    · refine m_aload_n hX 0 dX4_costOf_28 rfl rfl ?_
      refine fg_33 hX dX4_costOf_29 ?_
      refine m_ic hX dX4_costOf_32 (by decide) (by decide) ?_
      refine m_iload_n hX 1 dX4_costOf_33 rfl rfl ?_
      refine m_imul hX dX4_costOf_34 ?_
      refine m_ic hX dX4_costOf_35 (by decide) (by decide) ?_
      refine m_iload_n hX 3 dX4_costOf_36 rfl rfl ?_
      refine m_imul hX dX4_costOf_37 ?_
      refine m_iadd hX dX4_costOf_38 ?_
      refine al_33 hX dX4_costOf_39 ?_
      refine m_aload_n hX 0 dX4_costOf_40 rfl rfl ?_
      refine fg_33 hX dX4_costOf_41 ?_
      refine m_ic hX dX4_costOf_44 (by decide) (by decide) ?_
      refine m_iload_n hX 1 dX4_costOf_45 rfl rfl ?_
      refine m_imul hX dX4_costOf_46 ?_
      refine m_ic hX dX4_costOf_47 (by decide) (by decide) ?_
      refine m_iload_n hX 3 dX4_costOf_48 rfl rfl ?_
      refine m_imul hX dX4_costOf_49 ?_
      refine m_iadd hX dX4_costOf_50 ?_
      refine m_ic hX dX4_costOf_51 (by decide) (by decide) ?_
      refine m_iadd hX dX4_costOf_52 ?_
      refine al_33 hX dX4_costOf_53 ?_
      refine m_iadd hX dX4_costOf_54 ?_
      exact m_iret hX rfl dX4_costOf_55
    · refine m_aload_n hX 0 dX4_costOf_13 rfl rfl ?_
      refine fg_33 hX dX4_costOf_14 ?_
      refine m_ic hX dX4_costOf_17 (by decide) (by decide) ?_
      refine m_iload_n hX 1 dX4_costOf_18 rfl rfl ?_
      refine m_imul hX dX4_costOf_19 ?_
      refine m_ic hX dX4_costOf_20 (by decide) (by decide) ?_
      refine m_iload_n hX 3 dX4_costOf_21 rfl rfl ?_
      refine m_imul hX dX4_costOf_22 ?_
      refine m_iadd hX dX4_costOf_23 ?_
      refine al_33 hX dX4_costOf_24 ?_
      refine m_goto hX 55 dX4_costOf_25 (by decide) ?_
      exact m_iret hX rfl dX4_costOf_55
  · refine m_ic hX dX4_costOf_4 (by decide) (by decide) ?_
    refine m_goto hX 55 dX4_costOf_5 (by decide) ?_
    exact m_iret hX rfl dX4_costOf_55
theorem cl_costOf {Z : MZ} {cc : ByteArray} {nL : Nat} {ret : Option FieldType} {d rk : Nat} {pc : Nat} {lv : List (Nat × AV)} {st : List AV} {V : VV} {g : Int → VV → Option (Int × VV)} (hX : MX Z cc nL ret d rk) {a0 a1 a2 : Int} (hdd : 2 ≤ d) (hcat : (st.map fun v => if v.1 = 1 then 2 else 1).sum ≤ 8) (hdg : decode cc pc = .ok (.invokevirtual 390, 3)) (kk : ∀ r V1, MG Z (pc + 3) lv ((0, r) :: st) V1 (g r V1)) : MG Z pc lv ((0, a2) :: (0, a1) :: (0, a0) :: (3, 0) :: st) V (mb (M_costOf a0 a1 a2 V) g) :=
  m_callVi hX [(0, a0), (0, a1), (0, a2)] 3 (fun hV ho fin hf => WM_costOf (zL Z) (Nat.le_refl 1) a0 a1 a2 V hV ho fin hf) (lw_V q2206 q2208 qs110 q131 q2209) (by decide +kernel) rfl (by omega) (by decide) rfl hcat hdg kk
noncomputable def M_lesser (x0 : Int) (x1 : Int) (V : VV) : Option (Int × VV) := nm (α := Int) (if x1 ≤ x0 then x1 else x0) fun v1 => some (v1, V)
theorem WM_lesser (l : Launch) {d : Nat} (hdd : 1 ≤ d) (x0 : Int) (x1 : Int) (V : VV) (hV : okV V) (ho : oks [(0, x0), (0, x1)]) (fin : Int × VV) (hf : M_lesser x0 x1 V = some fin) : mSpec l yX4_lesser cX4_lesser 2 (some .int) d 0 [(0, x0), (0, x1)] V fin := by
  refine m_enter (lv := [(0, (0, x0)), (1, (0, x1))]) (by decide) rfl (Nat.le_of_ble_eq_true rfl) rfl (fun Z hZ hX => ?_) hV ho fin hf
  unfold M_lesser
  refine m_iload_n hX 0 dX4_lesser_0 rfl rfl ?_
  refine m_iload_n hX 1 dX4_lesser_1 rfl rfl ?_
  refine m_join 10 (fun v1 => [(0, v1)]) (fun v1 => ?_) (fun hJ => ?_)
  · exact m_iret hX rfl dX4_lesser_10
  · refine m_icmp_geF hX 9 dX4_lesser_2 (by decide) (fun _ => ?_) (fun _ => ?_)
    · refine m_iload_n hX 1 dX4_lesser_9 rfl rfl ?_
      exact hJ _
    · refine m_iload_n hX 0 dX4_lesser_5 rfl rfl ?_
      refine m_goto hX 10 dX4_lesser_6 (by decide) ?_
      exact hJ _
theorem cl_lesser {Z : MZ} {cc : ByteArray} {nL : Nat} {ret : Option FieldType} {d rk : Nat} {pc : Nat} {lv : List (Nat × AV)} {st : List AV} {V : VV} {g : Int → VV → Option (Int × VV)} (hX : MX Z cc nL ret d rk) {a0 a1 : Int} (hdd : 2 ≤ d) (hcat : (st.map fun v => if v.1 = 1 then 2 else 1).sum ≤ 8) (hdg : decode cc pc = .ok (.invokestatic 394, 3)) (kk : ∀ r V1, MG Z (pc + 3) lv ((0, r) :: st) V1 (g r V1)) : MG Z pc lv ((0, a1) :: (0, a0) :: st) V (mb (M_lesser a0 a1 V) g) :=
  m_callSi hX [(0, a0), (0, a1)] 2 (fun hV ho fin hf => WM_lesser (zL Z) (Nat.le_refl 1) a0 a1 V hV ho fin hf) (lw_S q2210 q2211 q131 q2212) (by decide +kernel) rfl (by omega) (by decide) rfl hcat hdg kk
noncomputable def M_fewest_82 (x1 : Int) (x3 : Int) (x4 : Int) (x5 : Int) (x6 : Int) (x7 : Int) (V : VV) : Option (Int × VV) := if x4 ≤ 0 then (some (x5, V)) else (mb (M_costOf x1 2 x6 V) fun r1 V2 => mb (M_cell (w32 (x1 + 1)) x7 x3 (w32 (x4 - 1)) V2) fun r3 V4 => ck r3 148176 <| mb (M_lesser x5 (w32 (r1 + (V4 31 r3))) V4) fun r5 V6 => some (r5, V6))
theorem WM_fewest_82 {Z : MZ} {d : Nat} (hX : MX Z cX4_fewest 8 (some .int) d 0) (hdd : 3 ≤ d) : ∀ x1 x3 x4 x5 x6 x7 V, MG Z 82 [(0, (3, 0)), (1, (0, x1)), (3, (0, x3)), (4, (0, x4)), (5, (0, x5)), (6, (0, x6)), (7, (0, x7))] [] V (M_fewest_82 x1 x3 x4 x5 x6 x7 V) := by
  intro x1 x3 x4 x5 x6 x7 V
  unfold M_fewest_82
  refine m_iload hX 3 dX4_fewest_82 rfl ?_
  refine m_if_le hX 121 dX4_fewest_84 (by decide) (fun _ => ?_) (fun _ => ?_)
  · refine m_iload hX 4 dX4_fewest_121 rfl ?_
    exact m_iret hX rfl dX4_fewest_123
  · refine m_iload hX 4 dX4_fewest_87 rfl ?_
    refine m_aload_n hX 0 dX4_fewest_89 rfl rfl ?_
    refine m_iload_n hX 1 dX4_fewest_90 rfl rfl ?_
    refine m_ic hX dX4_fewest_91 (by decide) (by decide) ?_
    refine m_iload hX 5 dX4_fewest_92 rfl ?_
    refine cl_costOf hX (by omega) (Nat.le_of_ble_eq_true rfl) dX4_fewest_94 fun r1 V2 => ?_
    refine m_aload_n hX 0 dX4_fewest_97 rfl rfl ?_
    refine fg_31 hX dX4_fewest_98 ?_
    refine m_iload_n hX 1 dX4_fewest_101 rfl rfl ?_
    refine m_ic hX dX4_fewest_102 (by decide) (by decide) ?_
    refine m_iadd hX dX4_fewest_103 ?_
    refine m_iload hX 6 dX4_fewest_104 rfl ?_
    refine m_iload_n hX 2 dX4_fewest_106 rfl rfl ?_
    refine m_iload hX 3 dX4_fewest_107 rfl ?_
    refine m_ic hX dX4_fewest_109 (by decide) (by decide) ?_
    refine m_isub hX dX4_fewest_110 ?_
    refine cl_cell hX (by omega) (Nat.le_of_ble_eq_true rfl) dX4_fewest_111 fun r3 V4 => ?_
    refine al_31 hX dX4_fewest_114 ?_
    refine m_iadd hX dX4_fewest_115 ?_
    refine cl_lesser hX (by omega) (Nat.le_of_ble_eq_true rfl) dX4_fewest_116 fun r5 V6 => ?_
    refine m_istore hX (lv' := [(5, (0, r5)), (0, (3, 0)), (1, (0, x1)), (3, (0, x3)), (4, (0, x4)), (6, (0, x6)), (7, (0, x7))]) dX4_fewest_119 (by decide) rfl ?_
    refine m_iload hX 0 dX4_fewest_121 rfl ?_
    exact m_iret hX rfl dX4_fewest_123
noncomputable def M_fewest (x1 : Int) (x2 : Int) (x3 : Int) (x4 : Int) (V : VV) : Option (Int × VV) := mb (M_cell (w32 (x1 + 1)) x2 x3 x4 V) fun r1 V2 => ck r1 148176 <| nm (α := Int) (V2 31 r1) fun v3 => mb (M_isBowl x1 V2) fun r4 V5 => if r4 = 0 then (some (v3, V5)) else (mb (M_helpedBy x1 x2 V5) fun r6 V7 => mb (M_kingsWith x1 x2 V7) fun r8 V9 => if x3 ≤ 0 then (M_fewest_82 x1 x3 x4 v3 r6 r8 V9) else (mb (M_costOf x1 1 r6 V9) fun r10 V11 => mb (M_cell (w32 (x1 + 1)) r8 (w32 (x3 - 1)) x4 V11) fun r12 V13 => ck r12 148176 <| mb (M_lesser v3 (w32 (r10 + (V13 31 r12))) V13) fun r14 V15 => M_fewest_82 x1 x3 x4 r14 r6 r8 V15))
theorem WM_fewest (l : Launch) {d : Nat} (hdd : 3 ≤ d) (x1 : Int) (x2 : Int) (x3 : Int) (x4 : Int) (V : VV) (hV : okV V) (ho : oks [(0, x1), (0, x2), (0, x3), (0, x4)]) (fin : Int × VV) (hf : M_fewest x1 x2 x3 x4 V = some fin) : mSpec l yX4_fewest cX4_fewest 8 (some .int) d 0 [(3, 0), (0, x1), (0, x2), (0, x3), (0, x4)] V fin := by
  refine m_enter (lv := [(0, (3, 0)), (1, (0, x1)), (2, (0, x2)), (3, (0, x3)), (4, (0, x4))]) (by decide) rfl (Nat.le_of_ble_eq_true rfl) rfl (fun Z hZ hX => ?_) hV (ho.c (okA.t 0)) fin hf
  unfold M_fewest
  refine m_aload_n hX 0 dX4_fewest_0 rfl rfl ?_
  refine fg_31 hX dX4_fewest_1 ?_
  refine m_iload_n hX 1 dX4_fewest_4 rfl rfl ?_
  refine m_ic hX dX4_fewest_5 (by decide) (by decide) ?_
  refine m_iadd hX dX4_fewest_6 ?_
  refine m_iload_n hX 2 dX4_fewest_7 rfl rfl ?_
  refine m_iload_n hX 3 dX4_fewest_8 rfl rfl ?_
  refine m_iload hX 4 dX4_fewest_9 rfl ?_
  refine cl_cell hX (by omega) (Nat.le_of_ble_eq_true rfl) dX4_fewest_11 fun r1 V2 => ?_
  refine al_31 hX dX4_fewest_14 ?_
  refine m_nmT fun v3 => ?_
  refine m_istore hX (lv' := [(5, (0, v3)), (0, (3, 0)), (1, (0, x1)), (2, (0, x2)), (3, (0, x3)), (4, (0, x4))]) dX4_fewest_15 (by decide) rfl ?_
  refine m_aload_n hX 1 dX4_fewest_17 rfl rfl ?_
  refine m_iload_n hX 2 dX4_fewest_18 rfl rfl ?_
  refine cl_isBowl hX (by omega) (Nat.le_of_ble_eq_true rfl) dX4_fewest_19 fun r4 V5 => ?_
  refine m_if_ne hX 28 dX4_fewest_22 (by decide) (fun _ => ?_) (fun _ => ?_)
  · refine m_aload_n hX 1 dX4_fewest_28 rfl rfl ?_
    refine m_iload_n hX 2 dX4_fewest_29 rfl rfl ?_
    refine m_iload_n hX 3 dX4_fewest_30 rfl rfl ?_
    refine cl_helpedBy hX (by omega) (Nat.le_of_ble_eq_true rfl) dX4_fewest_31 fun r6 V7 => ?_
    refine m_istore hX (lv' := [(6, (0, r6)), (5, (0, v3)), (0, (3, 0)), (1, (0, x1)), (2, (0, x2)), (3, (0, x3)), (4, (0, x4))]) dX4_fewest_34 (by decide) rfl ?_
    refine m_aload_n hX 2 dX4_fewest_36 rfl rfl ?_
    refine m_iload_n hX 3 dX4_fewest_37 rfl rfl ?_
    refine m_iload_n hX 4 dX4_fewest_38 rfl rfl ?_
    refine cl_kingsWith hX (by omega) (Nat.le_of_ble_eq_true rfl) dX4_fewest_39 fun r8 V9 => ?_
    refine m_istore hX (lv' := [(7, (0, r8)), (6, (0, r6)), (5, (0, v3)), (0, (3, 0)), (1, (0, x1)), (2, (0, x2)), (3, (0, x3)), (4, (0, x4))]) dX4_fewest_42 (by decide) rfl ?_
    refine m_iload_n hX 6 dX4_fewest_44 rfl rfl ?_
    refine m_if_le hX 82 dX4_fewest_45 (by decide) (fun _ => ?_) (fun _ => ?_)
    · exact m_sub [3, 4, 6, 7, 2, 1, 0] rfl (WM_fewest_82 hX hdd x1 x3 x4 v3 r6 r8 V9)
    · refine m_iload hX 2 dX4_fewest_48 rfl ?_
      refine m_aload_n hX 3 dX4_fewest_50 rfl rfl ?_
      refine m_iload_n hX 4 dX4_fewest_51 rfl rfl ?_
      refine m_ic hX dX4_fewest_52 (by decide) (by decide) ?_
      refine m_iload hX 1 dX4_fewest_53 rfl ?_
      refine cl_costOf hX (by omega) (Nat.le_of_ble_eq_true rfl) dX4_fewest_55 fun r10 V11 => ?_
      refine m_aload_n hX 3 dX4_fewest_58 rfl rfl ?_
      refine fg_31 hX dX4_fewest_59 ?_
      refine m_iload_n hX 4 dX4_fewest_62 rfl rfl ?_
      refine m_ic hX dX4_fewest_63 (by decide) (by decide) ?_
      refine m_iadd hX dX4_fewest_64 ?_
      refine m_iload hX 0 dX4_fewest_65 rfl ?_
      refine m_iload_n hX 6 dX4_fewest_67 rfl rfl ?_
      refine m_ic hX dX4_fewest_68 (by decide) (by decide) ?_
      refine m_isub hX dX4_fewest_69 ?_
      refine m_iload hX 7 dX4_fewest_70 rfl ?_
      refine cl_cell hX (by omega) (Nat.le_of_ble_eq_true rfl) dX4_fewest_72 fun r12 V13 => ?_
      refine al_31 hX dX4_fewest_75 ?_
      refine m_iadd hX dX4_fewest_76 ?_
      refine cl_lesser hX (by omega) (Nat.le_of_ble_eq_true rfl) dX4_fewest_77 fun r14 V15 => ?_
      refine m_istore hX (lv' := [(5, (0, r14)), (7, (0, r8)), (6, (0, r6)), (0, (3, 0)), (1, (0, x1)), (2, (0, x2)), (3, (0, x3)), (4, (0, x4))]) dX4_fewest_80 (by decide) rfl ?_
      exact m_sub [3, 4, 6, 7, 0, 2, 1] rfl (WM_fewest_82 hX hdd x1 x3 x4 r14 r6 r8 V15)
  · refine m_iload hX 0 dX4_fewest_25 rfl ?_
    exact m_iret hX rfl dX4_fewest_27
theorem cl_fewest {Z : MZ} {cc : ByteArray} {nL : Nat} {ret : Option FieldType} {d rk : Nat} {pc : Nat} {lv : List (Nat × AV)} {st : List AV} {V : VV} {g : Int → VV → Option (Int × VV)} (hX : MX Z cc nL ret d rk) {a0 a1 a2 a3 : Int} (hdd : 4 ≤ d) (hcat : (st.map fun v => if v.1 = 1 then 2 else 1).sum ≤ 8) (hdg : decode cc pc = .ok (.invokevirtual 378, 3)) (kk : ∀ r V1, MG Z (pc + 3) lv ((0, r) :: st) V1 (g r V1)) : MG Z pc lv ((0, a3) :: (0, a2) :: (0, a1) :: (0, a0) :: (3, 0) :: st) V (mb (M_fewest a0 a1 a2 a3 V) g) :=
  m_callVi hX [(0, a0), (0, a1), (0, a2), (0, a3)] 4 (fun hV ho fin hf => WM_fewest (zL Z) (Nat.le_refl 3) a0 a1 a2 a3 V hV ho fin hf) (lw_V q2194 q2196 qs107 q131 q2197) (by decide +kernel) rfl (by omega) (by decide) rfl hcat hdg kk
noncomputable def M_schemes_83 (K22 : Int → VV → Option (Int × VV)) (K32 : Int → Int → VV → Option (Int × VV)) (x1 : Int) (x2 : Int) (V : VV) : Option (Int × VV) := nm (w32 (x2 + 1)) fun v1 => K32 x1 v1 V
theorem WM_schemes_83 {Z : MZ} {d : Nat} (hX : MX Z cX4_schemes 6 none d 2) (hdd : 128 ≤ d) {K22 : Int → VV → Option (Int × VV)} (hK22 : ∀ x1 V, MG Z 22 [(0, (3, 0)), (1, (0, x1))] [] V (K22 x1 V)) {K32 : Int → Int → VV → Option (Int × VV)} (hK32 : ∀ x1 x2 V, MG Z 32 [(0, (3, 0)), (1, (0, x1)), (2, (0, x2))] [] V (K32 x1 x2 V)) : ∀ x1 x2 V, MG Z 83 [(0, (3, 0)), (1, (0, x1)), (2, (0, x2))] [] V (M_schemes_83 K22 K32 x1 x2 V) := by
  intro x1 x2 V
  unfold M_schemes_83
  refine m_iinc hX 2 dX4_schemes_83 rfl (by decide) fun v1 => m_lv (lv' := [(2, (0, v1)), (0, (3, 0)), (1, (0, x1))]) rfl ?_
  refine m_goto hX 32 dX4_schemes_86 (by decide) ?_
  exact m_sub [1, 2, 0] rfl (hK32 x1 v1 V)
noncomputable def M_schemes_39 (K22 : Int → VV → Option (Int × VV)) (K32 : Int → Int → VV → Option (Int × VV)) : Nat → Int → Int → Int → VV → Option (Int × VV)
  | 0, _, _, _, _ => none
  | n + 1, x1, x2, x3, V => if 3 ≤ x3 then (M_schemes_83 K22 K32 x1 x2 V) else (nm (α := Int) (if x2 = 1 then 1 else 0) fun v1 => mb (M_takesOf x1 x3 v1 0 V) fun r2 V3 => ck (w32 ((w32 ((w32 ((w32 (4 * x1)) + (w32 (2 * x2)))) + x3)) - 1)) 80 <| nm (vup V3 33 (w32 ((w32 ((w32 ((w32 (4 * x1)) + (w32 (2 * x2)))) + x3)) - 1)) r2) fun V4 => nm (w32 (x3 + 1)) fun v5 => M_schemes_39 K22 K32 n x1 x2 v5 V4)
theorem WM_schemes_39 {Z : MZ} {d : Nat} (hX : MX Z cX4_schemes 6 none d 2) (hdd : 128 ≤ d) {K22 : Int → VV → Option (Int × VV)} (hK22 : ∀ x1 V, MG Z 22 [(0, (3, 0)), (1, (0, x1))] [] V (K22 x1 V)) {K32 : Int → Int → VV → Option (Int × VV)} (hK32 : ∀ x1 x2 V, MG Z 32 [(0, (3, 0)), (1, (0, x1)), (2, (0, x2))] [] V (K32 x1 x2 V)) : ∀ n x1 x2 x3 V, MG Z 39 [(0, (3, 0)), (1, (0, x1)), (2, (0, x2)), (3, (0, x3))] [] V (M_schemes_39 K22 K32 n x1 x2 x3 V) := by
  intro n
  induction n with
  | zero => intro x1 x2 x3 V; exact m_none
  | succ n ih =>
    intro x1 x2 x3 V
    rw [M_schemes_39]
    refine m_iload_n hX 3 dX4_schemes_39 rfl rfl ?_
    refine m_ic hX dX4_schemes_40 (by decide) (by decide) ?_
    refine m_icmp_ge hX 83 dX4_schemes_41 (by decide) (fun _ => ?_) (fun _ => ?_)
    · exact m_sub [0, 1, 2] rfl (WM_schemes_83 hX hdd hK22 hK32 x1 x2 V)
    · refine m_aload_n hX 0 dX4_schemes_44 rfl rfl ?_
      refine fg_33 hX dX4_schemes_45 ?_
      refine m_ic hX dX4_schemes_48 (by decide) (by decide) ?_
      refine m_iload_n hX 1 dX4_schemes_49 rfl rfl ?_
      refine m_imul hX dX4_schemes_50 ?_
      refine m_ic hX dX4_schemes_51 (by decide) (by decide) ?_
      refine m_iload_n hX 2 dX4_schemes_52 rfl rfl ?_
      refine m_imul hX dX4_schemes_53 ?_
      refine m_iadd hX dX4_schemes_54 ?_
      refine m_iload_n hX 3 dX4_schemes_55 rfl rfl ?_
      refine m_iadd hX dX4_schemes_56 ?_
      refine m_ic hX dX4_schemes_57 (by decide) (by decide) ?_
      refine m_isub hX dX4_schemes_58 ?_
      refine m_aload_n hX 0 dX4_schemes_59 rfl rfl ?_
      refine m_iload_n hX 1 dX4_schemes_60 rfl rfl ?_
      refine m_iload_n hX 3 dX4_schemes_61 rfl rfl ?_
      refine m_iload_n hX 2 dX4_schemes_62 rfl rfl ?_
      refine m_ic hX dX4_schemes_63 (by decide) (by decide) ?_
      refine m_join 72 (fun v1 => [(0, v1), (0, x3), (0, x1), (3, 0), (0, w32 ((w32 ((w32 ((w32 (4 * x1)) + (w32 (2 * x2)))) + x3)) - 1)), (2, ((33 : Nat) : Int))]) (fun v1 => ?_) (fun hJ => ?_)
      · refine m_ic hX dX4_schemes_72 (by decide) (by decide) ?_
        refine cl_takesOf hX (by omega) (Nat.le_of_ble_eq_true rfl) dX4_schemes_73 fun r2 V3 => ?_
        refine as_33 hX dX4_schemes_76 fun V4 => ?_
        refine m_iinc hX 3 dX4_schemes_77 rfl (by decide) fun v5 => m_lv (lv' := [(3, (0, v5)), (0, (3, 0)), (1, (0, x1)), (2, (0, x2))]) rfl ?_
        refine m_goto hX 39 dX4_schemes_80 (by decide) ?_
        exact m_sub [1, 2, 3, 0] rfl (ih x1 x2 v5 V4)
      · refine m_icmp_neF hX 71 dX4_schemes_64 (by decide) (fun _ => ?_) (fun _ => ?_)
        · refine m_ic hX dX4_schemes_71 (by decide) (by decide) ?_
          exact hJ _
        · refine m_ic hX dX4_schemes_67 (by decide) (by decide) ?_
          refine m_goto hX 72 dX4_schemes_68 (by decide) ?_
          exact hJ _
noncomputable def M_schemes_89 (K22 : Int → VV → Option (Int × VV)) (x1 : Int) (V : VV) : Option (Int × VV) := nm (w32 (x1 + 1)) fun v1 => K22 v1 V
theorem WM_schemes_89 {Z : MZ} {d : Nat} (hX : MX Z cX4_schemes 6 none d 2) (hdd : 128 ≤ d) {K22 : Int → VV → Option (Int × VV)} (hK22 : ∀ x1 V, MG Z 22 [(0, (3, 0)), (1, (0, x1))] [] V (K22 x1 V)) : ∀ x1 V, MG Z 89 [(0, (3, 0)), (1, (0, x1))] [] V (M_schemes_89 K22 x1 V) := by
  intro x1 V
  unfold M_schemes_89
  refine m_iinc hX 1 dX4_schemes_89 rfl (by decide) fun v1 => m_lv (lv' := [(1, (0, v1)), (0, (3, 0))]) rfl ?_
  refine m_goto hX 22 dX4_schemes_92 (by decide) ?_
  exact m_sub [1, 0] rfl (hK22 v1 V)
noncomputable def M_schemes_32 (K22 : Int → VV → Option (Int × VV)) : Nat → Int → Int → VV → Option (Int × VV)
  | 0, _, _, _ => none
  | n + 1, x1, x2, V => if 2 ≤ x2 then (M_schemes_89 K22 x1 V) else (M_schemes_39 K22 (M_schemes_32 K22 n) FU x1 x2 1 V)
theorem WM_schemes_32 {Z : MZ} {d : Nat} (hX : MX Z cX4_schemes 6 none d 2) (hdd : 128 ≤ d) {K22 : Int → VV → Option (Int × VV)} (hK22 : ∀ x1 V, MG Z 22 [(0, (3, 0)), (1, (0, x1))] [] V (K22 x1 V)) : ∀ n x1 x2 V, MG Z 32 [(0, (3, 0)), (1, (0, x1)), (2, (0, x2))] [] V (M_schemes_32 K22 n x1 x2 V) := by
  intro n
  induction n with
  | zero => intro x1 x2 V; exact m_none
  | succ n ih =>
    intro x1 x2 V
    rw [M_schemes_32]
    refine m_iload_n hX 2 dX4_schemes_32 rfl rfl ?_
    refine m_ic hX dX4_schemes_33 (by decide) (by decide) ?_
    refine m_icmp_ge hX 89 dX4_schemes_34 (by decide) (fun _ => ?_) (fun _ => ?_)
    · exact m_sub [0, 1] rfl (WM_schemes_89 hX hdd hK22 x1 V)
    · refine m_ic hX dX4_schemes_37 (by decide) (by decide) ?_
      refine m_istore_n hX (lv' := [(3, (0, 1)), (0, (3, 0)), (1, (0, x1)), (2, (0, x2))]) dX4_schemes_38 rfl (by decide) rfl ?_
      exact m_sub [1, 2, 3, 0] rfl (WM_schemes_39 hX hdd hK22 ih FU x1 x2 1 V)
noncomputable def M_schemes_134 (K102 : Int → Int → VV → Option (Int × VV)) (s1 : Int) (s2 : Int) (x1 : Int) (x2 : Int) (V : VV) : Option (Int × VV) := ck s1 148176 <| nm (vup V 31 s1 s2) fun V1 => nm (w32 (x2 + 1)) fun v2 => K102 x1 v2 V1
theorem WM_schemes_134 {Z : MZ} {d : Nat} (hX : MX Z cX4_schemes 6 none d 2) (hdd : 128 ≤ d) {K102 : Int → Int → VV → Option (Int × VV)} (hK102 : ∀ x1 x2 V, MG Z 102 [(0, (3, 0)), (1, (0, x1)), (2, (0, x2))] [] V (K102 x1 x2 V)) : ∀ s1 s2 x1 x2 V, MG Z 134 [(0, (3, 0)), (1, (0, x1)), (2, (0, x2))] [(0, s2), (0, s1), (2, ((31 : Nat) : Int))] V (M_schemes_134 K102 s1 s2 x1 x2 V) := by
  intro s1 s2 x1 x2 V
  unfold M_schemes_134
  refine as_31 hX dX4_schemes_134 fun V1 => ?_
  refine m_iinc hX 2 dX4_schemes_135 rfl (by decide) fun v2 => m_lv (lv' := [(2, (0, v2)), (0, (3, 0)), (1, (0, x1))]) rfl ?_
  refine m_goto hX 102 dX4_schemes_138 (by decide) ?_
  exact m_sub [1, 2, 0] rfl (hK102 x1 v2 V1)
noncomputable def M_schemes_207 (K145 : Int → VV → Option (Int × VV)) (K151 : Int → Int → VV → Option (Int × VV)) (K160 : Int → Int → Int → VV → Option (Int × VV)) (x2 : Int) (x3 : Int) (x4 : Int) (V : VV) : Option (Int × VV) := nm (w32 (x4 + 1)) fun v1 => K160 x2 x3 v1 V
theorem WM_schemes_207 {Z : MZ} {d : Nat} (hX : MX Z cX4_schemes 6 none d 2) (hdd : 128 ≤ d) {K145 : Int → VV → Option (Int × VV)} (hK145 : ∀ x2 V, MG Z 145 [(0, (3, 0)), (2, (0, x2))] [] V (K145 x2 V)) {K151 : Int → Int → VV → Option (Int × VV)} (hK151 : ∀ x2 x3 V, MG Z 151 [(0, (3, 0)), (2, (0, x2)), (3, (0, x3))] [] V (K151 x2 x3 V)) {K160 : Int → Int → Int → VV → Option (Int × VV)} (hK160 : ∀ x2 x3 x4 V, MG Z 160 [(0, (3, 0)), (2, (0, x2)), (3, (0, x3)), (4, (0, x4))] [] V (K160 x2 x3 x4 V)) : ∀ x2 x3 x4 V, MG Z 207 [(0, (3, 0)), (2, (0, x2)), (3, (0, x3)), (4, (0, x4))] [] V (M_schemes_207 K145 K151 K160 x2 x3 x4 V) := by
  intro x2 x3 x4 V
  unfold M_schemes_207
  refine m_iinc hX 3 dX4_schemes_207 rfl (by decide) fun v1 => m_lv (lv' := [(4, (0, v1)), (0, (3, 0)), (2, (0, x2)), (3, (0, x3))]) rfl ?_
  refine m_goto hX 160 dX4_schemes_210 (by decide) ?_
  exact m_sub [1, 2, 3, 0] rfl (hK160 x2 x3 v1 V)
noncomputable def M_schemes_170 (K145 : Int → VV → Option (Int × VV)) (K151 : Int → Int → VV → Option (Int × VV)) (K160 : Int → Int → Int → VV → Option (Int × VV)) : Nat → Int → Int → Int → Int → VV → Option (Int × VV)
  | 0, _, _, _, _, _ => none
  | n + 1, x2, x3, x4, x5, V => if 21 ≤ x5 then (M_schemes_207 K145 K151 K160 x2 x3 x4 V) else (mb (M_cell x2 x3 x4 x5 V) fun r1 V2 => mb (M_fewest x2 x3 x4 x5 V2) fun r3 V4 => ck r1 148176 <| nm (vup V4 31 r1 r3) fun V5 => nm (w32 (x5 + 1)) fun v6 => M_schemes_170 K145 K151 K160 n x2 x3 x4 v6 V5)
theorem WM_schemes_170 {Z : MZ} {d : Nat} (hX : MX Z cX4_schemes 6 none d 2) (hdd : 128 ≤ d) {K145 : Int → VV → Option (Int × VV)} (hK145 : ∀ x2 V, MG Z 145 [(0, (3, 0)), (2, (0, x2))] [] V (K145 x2 V)) {K151 : Int → Int → VV → Option (Int × VV)} (hK151 : ∀ x2 x3 V, MG Z 151 [(0, (3, 0)), (2, (0, x2)), (3, (0, x3))] [] V (K151 x2 x3 V)) {K160 : Int → Int → Int → VV → Option (Int × VV)} (hK160 : ∀ x2 x3 x4 V, MG Z 160 [(0, (3, 0)), (2, (0, x2)), (3, (0, x3)), (4, (0, x4))] [] V (K160 x2 x3 x4 V)) : ∀ n x2 x3 x4 x5 V, MG Z 170 [(0, (3, 0)), (2, (0, x2)), (3, (0, x3)), (4, (0, x4)), (5, (0, x5))] [] V (M_schemes_170 K145 K151 K160 n x2 x3 x4 x5 V) := by
  intro n
  induction n with
  | zero => intro x2 x3 x4 x5 V; exact m_none
  | succ n ih =>
    intro x2 x3 x4 x5 V
    rw [M_schemes_170]
    refine m_iload hX 4 dX4_schemes_170 rfl ?_
    refine m_bp hX dX4_schemes_172 (by decide) (by decide) ?_
    refine m_icmp_ge hX 207 dX4_schemes_174 (by decide) (fun _ => ?_) (fun _ => ?_)
    · exact m_sub [0, 1, 2, 3] rfl (WM_schemes_207 hX hdd hK145 hK151 hK160 x2 x3 x4 V)
    · refine m_aload_n hX 0 dX4_schemes_177 rfl rfl ?_
      refine fg_31 hX dX4_schemes_178 ?_
      refine m_iload_n hX 1 dX4_schemes_181 rfl rfl ?_
      refine m_iload_n hX 2 dX4_schemes_182 rfl rfl ?_
      refine m_iload hX 3 dX4_schemes_183 rfl ?_
      refine m_iload hX 4 dX4_schemes_185 rfl ?_
      refine cl_cell hX (by omega) (Nat.le_of_ble_eq_true rfl) dX4_schemes_187 fun r1 V2 => ?_
      refine m_aload_n hX 0 dX4_schemes_190 rfl rfl ?_
      refine m_iload_n hX 1 dX4_schemes_191 rfl rfl ?_
      refine m_iload_n hX 2 dX4_schemes_192 rfl rfl ?_
      refine m_iload hX 3 dX4_schemes_193 rfl ?_
      refine m_iload hX 4 dX4_schemes_195 rfl ?_
      refine cl_fewest hX (by omega) (Nat.le_of_ble_eq_true rfl) dX4_schemes_197 fun r3 V4 => ?_
      refine as_31 hX dX4_schemes_200 fun V5 => ?_
      refine m_iinc hX 4 dX4_schemes_201 rfl (by decide) fun v6 => m_lv (lv' := [(5, (0, v6)), (0, (3, 0)), (2, (0, x2)), (3, (0, x3)), (4, (0, x4))]) rfl ?_
      refine m_goto hX 170 dX4_schemes_204 (by decide) ?_
      exact m_sub [1, 2, 3, 4, 0] rfl (ih x2 x3 x4 v6 V5)
noncomputable def M_schemes_213 (K145 : Int → VV → Option (Int × VV)) (K151 : Int → Int → VV → Option (Int × VV)) (x2 : Int) (x3 : Int) (V : VV) : Option (Int × VV) := nm (w32 (x3 + 1)) fun v1 => K151 x2 v1 V
theorem WM_schemes_213 {Z : MZ} {d : Nat} (hX : MX Z cX4_schemes 6 none d 2) (hdd : 128 ≤ d) {K145 : Int → VV → Option (Int × VV)} (hK145 : ∀ x2 V, MG Z 145 [(0, (3, 0)), (2, (0, x2))] [] V (K145 x2 V)) {K151 : Int → Int → VV → Option (Int × VV)} (hK151 : ∀ x2 x3 V, MG Z 151 [(0, (3, 0)), (2, (0, x2)), (3, (0, x3))] [] V (K151 x2 x3 V)) : ∀ x2 x3 V, MG Z 213 [(0, (3, 0)), (2, (0, x2)), (3, (0, x3))] [] V (M_schemes_213 K145 K151 x2 x3 V) := by
  intro x2 x3 V
  unfold M_schemes_213
  refine m_iinc hX 2 dX4_schemes_213 rfl (by decide) fun v1 => m_lv (lv' := [(3, (0, v1)), (0, (3, 0)), (2, (0, x2))]) rfl ?_
  refine m_goto hX 151 dX4_schemes_216 (by decide) ?_
  exact m_sub [1, 2, 0] rfl (hK151 x2 v1 V)
noncomputable def M_schemes_160 (K145 : Int → VV → Option (Int × VV)) (K151 : Int → Int → VV → Option (Int × VV)) : Nat → Int → Int → Int → VV → Option (Int × VV)
  | 0, _, _, _, _ => none
  | n + 1, x2, x3, x4, V => if 21 ≤ x4 then (M_schemes_213 K145 K151 x2 x3 V) else (M_schemes_170 K145 K151 (M_schemes_160 K145 K151 n) FU x2 x3 x4 0 V)
theorem WM_schemes_160 {Z : MZ} {d : Nat} (hX : MX Z cX4_schemes 6 none d 2) (hdd : 128 ≤ d) {K145 : Int → VV → Option (Int × VV)} (hK145 : ∀ x2 V, MG Z 145 [(0, (3, 0)), (2, (0, x2))] [] V (K145 x2 V)) {K151 : Int → Int → VV → Option (Int × VV)} (hK151 : ∀ x2 x3 V, MG Z 151 [(0, (3, 0)), (2, (0, x2)), (3, (0, x3))] [] V (K151 x2 x3 V)) : ∀ n x2 x3 x4 V, MG Z 160 [(0, (3, 0)), (2, (0, x2)), (3, (0, x3)), (4, (0, x4))] [] V (M_schemes_160 K145 K151 n x2 x3 x4 V) := by
  intro n
  induction n with
  | zero => intro x2 x3 x4 V; exact m_none
  | succ n ih =>
    intro x2 x3 x4 V
    rw [M_schemes_160]
    refine m_iload hX 3 dX4_schemes_160 rfl ?_
    refine m_bp hX dX4_schemes_162 (by decide) (by decide) ?_
    refine m_icmp_ge hX 213 dX4_schemes_164 (by decide) (fun _ => ?_) (fun _ => ?_)
    · exact m_sub [0, 1, 2] rfl (WM_schemes_213 hX hdd hK145 hK151 x2 x3 V)
    · refine m_ic hX dX4_schemes_167 (by decide) (by decide) ?_
      refine m_istore hX (lv' := [(5, (0, 0)), (0, (3, 0)), (2, (0, x2)), (3, (0, x3)), (4, (0, x4))]) dX4_schemes_168 (by decide) rfl ?_
      exact m_sub [1, 2, 3, 4, 0] rfl (WM_schemes_170 hX hdd hK145 hK151 ih FU x2 x3 x4 0 V)
noncomputable def M_schemes_219 (K145 : Int → VV → Option (Int × VV)) (x2 : Int) (V : VV) : Option (Int × VV) := nm (w32 (x2 + (-1))) fun v1 => K145 v1 V
theorem WM_schemes_219 {Z : MZ} {d : Nat} (hX : MX Z cX4_schemes 6 none d 2) (hdd : 128 ≤ d) {K145 : Int → VV → Option (Int × VV)} (hK145 : ∀ x2 V, MG Z 145 [(0, (3, 0)), (2, (0, x2))] [] V (K145 x2 V)) : ∀ x2 V, MG Z 219 [(0, (3, 0)), (2, (0, x2))] [] V (M_schemes_219 K145 x2 V) := by
  intro x2 V
  unfold M_schemes_219
  refine m_iinc hX 1 dX4_schemes_219 rfl (by decide) fun v1 => m_lv (lv' := [(2, (0, v1)), (0, (3, 0))]) rfl ?_
  refine m_goto hX 145 dX4_schemes_222 (by decide) ?_
  exact m_sub [1, 0] rfl (hK145 v1 V)
noncomputable def M_schemes_151 (K145 : Int → VV → Option (Int × VV)) : Nat → Int → Int → VV → Option (Int × VV)
  | 0, _, _, _ => none
  | n + 1, x2, x3, V => if 16 ≤ x3 then (M_schemes_219 K145 x2 V) else (M_schemes_160 K145 (M_schemes_151 K145 n) FU x2 x3 0 V)
theorem WM_schemes_151 {Z : MZ} {d : Nat} (hX : MX Z cX4_schemes 6 none d 2) (hdd : 128 ≤ d) {K145 : Int → VV → Option (Int × VV)} (hK145 : ∀ x2 V, MG Z 145 [(0, (3, 0)), (2, (0, x2))] [] V (K145 x2 V)) : ∀ n x2 x3 V, MG Z 151 [(0, (3, 0)), (2, (0, x2)), (3, (0, x3))] [] V (M_schemes_151 K145 n x2 x3 V) := by
  intro n
  induction n with
  | zero => intro x2 x3 V; exact m_none
  | succ n ih =>
    intro x2 x3 V
    rw [M_schemes_151]
    refine m_iload_n hX 2 dX4_schemes_151 rfl rfl ?_
    refine m_bp hX dX4_schemes_152 (by decide) (by decide) ?_
    refine m_icmp_ge hX 219 dX4_schemes_154 (by decide) (fun _ => ?_) (fun _ => ?_)
    · exact m_sub [0, 1] rfl (WM_schemes_219 hX hdd hK145 x2 V)
    · refine m_ic hX dX4_schemes_157 (by decide) (by decide) ?_
      refine m_istore hX (lv' := [(4, (0, 0)), (0, (3, 0)), (2, (0, x2)), (3, (0, x3))]) dX4_schemes_158 (by decide) rfl ?_
      exact m_sub [1, 2, 3, 0] rfl (WM_schemes_160 hX hdd hK145 ih FU x2 x3 0 V)
noncomputable def M_schemes_275 (K231 : Int → VV → Option (Int × VV)) (K239 : Int → Int → VV → Option (Int × VV)) (x2 : Int) (x3 : Int) (V : VV) : Option (Int × VV) := nm (w32 (x3 + 1)) fun v1 => K239 x2 v1 V
theorem WM_schemes_275 {Z : MZ} {d : Nat} (hX : MX Z cX4_schemes 6 none d 2) (hdd : 128 ≤ d) {K231 : Int → VV → Option (Int × VV)} (hK231 : ∀ x2 V, MG Z 231 [(0, (3, 0)), (2, (0, x2))] [] V (K231 x2 V)) {K239 : Int → Int → VV → Option (Int × VV)} (hK239 : ∀ x2 x3 V, MG Z 239 [(0, (3, 0)), (2, (0, x2)), (3, (0, x3))] [] V (K239 x2 x3 V)) : ∀ x2 x3 V, MG Z 275 [(0, (3, 0)), (2, (0, x2)), (3, (0, x3))] [] V (M_schemes_275 K231 K239 x2 x3 V) := by
  intro x2 x3 V
  unfold M_schemes_275
  refine m_iinc hX 2 dX4_schemes_275 rfl (by decide) fun v1 => m_lv (lv' := [(3, (0, v1)), (0, (3, 0)), (2, (0, x2))]) rfl ?_
  refine m_goto hX 239 dX4_schemes_278 (by decide) ?_
  exact m_sub [1, 2, 0] rfl (hK239 x2 v1 V)
noncomputable def M_schemes_281 (K231 : Int → VV → Option (Int × VV)) (x2 : Int) (V : VV) : Option (Int × VV) := nm (w32 (x2 + 1)) fun v1 => K231 v1 V
theorem WM_schemes_281 {Z : MZ} {d : Nat} (hX : MX Z cX4_schemes 6 none d 2) (hdd : 128 ≤ d) {K231 : Int → VV → Option (Int × VV)} (hK231 : ∀ x2 V, MG Z 231 [(0, (3, 0)), (2, (0, x2))] [] V (K231 x2 V)) : ∀ x2 V, MG Z 281 [(0, (3, 0)), (2, (0, x2))] [] V (M_schemes_281 K231 x2 V) := by
  intro x2 V
  unfold M_schemes_281
  refine m_iinc hX 1 dX4_schemes_281 rfl (by decide) fun v1 => m_lv (lv' := [(2, (0, v1)), (0, (3, 0))]) rfl ?_
  refine m_goto hX 231 dX4_schemes_284 (by decide) ?_
  exact m_sub [1, 0] rfl (hK231 v1 V)
noncomputable def M_schemes_239 (K231 : Int → VV → Option (Int × VV)) : Nat → Int → Int → VV → Option (Int × VV)
  | 0, _, _, _ => none
  | n + 1, x2, x3, V => if 21 ≤ x3 then (M_schemes_281 K231 x2 V) else (mb (M_bowl V) fun r1 V2 => if w32 (x2 + x3) ≤ r1 then (mb (M_passesWith x2 x3 V2) fun r3 V4 => ck (w32 ((w32 (21 * x2)) + x3)) 441 <| nm (vup V4 32 (w32 ((w32 (21 * x2)) + x3)) r3) fun V5 => M_schemes_275 K231 (M_schemes_239 K231 n) x2 x3 V5) else (M_schemes_275 K231 (M_schemes_239 K231 n) x2 x3 V2))
theorem WM_schemes_239 {Z : MZ} {d : Nat} (hX : MX Z cX4_schemes 6 none d 2) (hdd : 128 ≤ d) {K231 : Int → VV → Option (Int × VV)} (hK231 : ∀ x2 V, MG Z 231 [(0, (3, 0)), (2, (0, x2))] [] V (K231 x2 V)) : ∀ n x2 x3 V, MG Z 239 [(0, (3, 0)), (2, (0, x2)), (3, (0, x3))] [] V (M_schemes_239 K231 n x2 x3 V) := by
  intro n
  induction n with
  | zero => intro x2 x3 V; exact m_none
  | succ n ih =>
    intro x2 x3 V
    rw [M_schemes_239]
    refine m_iload_n hX 2 dX4_schemes_239 rfl rfl ?_
    refine m_bp hX dX4_schemes_240 (by decide) (by decide) ?_
    refine m_icmp_ge hX 281 dX4_schemes_242 (by decide) (fun _ => ?_) (fun _ => ?_)
    · exact m_sub [0, 1] rfl (WM_schemes_281 hX hdd hK231 x2 V)
    · refine m_iload_n hX 1 dX4_schemes_245 rfl rfl ?_
      refine m_iload_n hX 2 dX4_schemes_246 rfl rfl ?_
      refine m_iadd hX dX4_schemes_247 ?_
      refine m_aload_n hX 0 dX4_schemes_248 rfl rfl ?_
      refine cl_bowl hX (by omega) (Nat.le_of_ble_eq_true rfl) dX4_schemes_249 fun r1 V2 => ?_
      refine m_icmp_le hX 258 dX4_schemes_252 (by decide) (fun _ => ?_) (fun _ => ?_)
      · refine m_aload_n hX 0 dX4_schemes_258 rfl rfl ?_
        refine fg_32 hX dX4_schemes_259 ?_
        refine m_bp hX dX4_schemes_262 (by decide) (by decide) ?_
        refine m_iload_n hX 1 dX4_schemes_264 rfl rfl ?_
        refine m_imul hX dX4_schemes_265 ?_
        refine m_iload_n hX 2 dX4_schemes_266 rfl rfl ?_
        refine m_iadd hX dX4_schemes_267 ?_
        refine m_aload_n hX 0 dX4_schemes_268 rfl rfl ?_
        refine m_iload_n hX 1 dX4_schemes_269 rfl rfl ?_
        refine m_iload_n hX 2 dX4_schemes_270 rfl rfl ?_
        refine cl_passesWith hX (by omega) (Nat.le_of_ble_eq_true rfl) dX4_schemes_271 fun r3 V4 => ?_
        refine as_32 hX dX4_schemes_274 fun V5 => ?_
        exact m_sub [0, 1, 2] rfl (WM_schemes_275 hX hdd hK231 ih x2 x3 V5)
      · refine m_goto hX 275 dX4_schemes_255 (by decide) ?_
        exact m_sub [0, 1, 2] rfl (WM_schemes_275 hX hdd hK231 ih x2 x3 V2)
noncomputable def M_schemes_287 (V : VV) : Option (Int × VV) := nm (vup V 34 0 (V 30 0)) fun V1 => some (0, V1)
theorem WM_schemes_287 {Z : MZ} {d : Nat} (hX : MX Z cX4_schemes 6 none d 2) (hdd : 128 ≤ d) : ∀ V, MG Z 287 [(0, (3, 0))] [] V (M_schemes_287 V) := by
  intro V
  unfold M_schemes_287
  refine m_aload_n hX 0 dX4_schemes_287 rfl rfl ?_
  refine m_aload_n hX 0 dX4_schemes_288 rfl rfl ?_
  refine fg_30 hX dX4_schemes_289 ?_
  refine fp_34 hX dX4_schemes_292 fun V1 => ?_
  exact m_vret hX rfl dX4_schemes_295
noncomputable def M_schemes_231 : Nat → Int → VV → Option (Int × VV)
  | 0, _, _ => none
  | n + 1, x2, V => if 21 ≤ x2 then (M_schemes_287 V) else (M_schemes_239 (M_schemes_231 n) FU x2 0 V)
theorem WM_schemes_231 {Z : MZ} {d : Nat} (hX : MX Z cX4_schemes 6 none d 2) (hdd : 128 ≤ d) : ∀ n x2 V, MG Z 231 [(0, (3, 0)), (2, (0, x2))] [] V (M_schemes_231 n x2 V) := by
  intro n
  induction n with
  | zero => intro x2 V; exact m_none
  | succ n ih =>
    intro x2 V
    rw [M_schemes_231]
    refine m_iload_n hX 1 dX4_schemes_231 rfl rfl ?_
    refine m_bp hX dX4_schemes_232 (by decide) (by decide) ?_
    refine m_icmp_ge hX 287 dX4_schemes_234 (by decide) (fun _ => ?_) (fun _ => ?_)
    · exact m_sub [0] rfl (WM_schemes_287 hX hdd V)
    · refine m_ic hX dX4_schemes_237 (by decide) (by decide) ?_
      refine m_istore_n hX (lv' := [(3, (0, 0)), (0, (3, 0)), (2, (0, x2))]) dX4_schemes_238 rfl (by decide) rfl ?_
      exact m_sub [1, 2, 0] rfl (WM_schemes_239 hX hdd ih FU x2 0 V)
noncomputable def M_schemes_225 (V : VV) : Option (Int × VV) := mb (M_laysChances V) fun r1 V2 => M_schemes_231 FU 0 V2
theorem WM_schemes_225 {Z : MZ} {d : Nat} (hX : MX Z cX4_schemes 6 none d 2) (hdd : 128 ≤ d) : ∀ V, MG Z 225 [(0, (3, 0))] [] V (M_schemes_225 V) := by
  intro V
  unfold M_schemes_225
  refine m_aload_n hX 0 dX4_schemes_225 rfl rfl ?_
  refine cl_laysChances hX (by omega) (Nat.le_of_ble_eq_true rfl) dX4_schemes_226 fun r1 V2 => ?_
  refine m_ic hX dX4_schemes_229 (by decide) (by decide) ?_
  refine m_istore_n hX (lv' := [(2, (0, 0)), (0, (3, 0))]) dX4_schemes_230 rfl (by decide) rfl ?_
  exact m_sub [1, 0] rfl (WM_schemes_231 hX hdd FU 0 V2)
noncomputable def M_schemes_145 : Nat → Int → VV → Option (Int × VV)
  | 0, _, _ => none
  | n + 1, x2, V => if x2 < 0 then (M_schemes_225 V) else (M_schemes_151 (M_schemes_145 n) FU x2 0 V)
theorem WM_schemes_145 {Z : MZ} {d : Nat} (hX : MX Z cX4_schemes 6 none d 2) (hdd : 128 ≤ d) : ∀ n x2 V, MG Z 145 [(0, (3, 0)), (2, (0, x2))] [] V (M_schemes_145 n x2 V) := by
  intro n
  induction n with
  | zero => intro x2 V; exact m_none
  | succ n ih =>
    intro x2 V
    rw [M_schemes_145]
    refine m_iload_n hX 1 dX4_schemes_145 rfl rfl ?_
    refine m_if_lt hX 225 dX4_schemes_146 (by decide) (fun _ => ?_) (fun _ => ?_)
    · exact m_sub [0] rfl (WM_schemes_225 hX hdd V)
    · refine m_ic hX dX4_schemes_149 (by decide) (by decide) ?_
      refine m_istore_n hX (lv' := [(3, (0, 0)), (0, (3, 0)), (2, (0, x2))]) dX4_schemes_150 rfl (by decide) rfl ?_
      exact m_sub [1, 2, 0] rfl (WM_schemes_151 hX hdd ih FU x2 0 V)
noncomputable def M_schemes_141 (x1 : Int) (V : VV) : Option (Int × VV) := nm (α := Int) (w32 (x1 - 1)) fun v1 => M_schemes_145 FU v1 V
theorem WM_schemes_141 {Z : MZ} {d : Nat} (hX : MX Z cX4_schemes 6 none d 2) (hdd : 128 ≤ d) : ∀ x1 V, MG Z 141 [(0, (3, 0)), (1, (0, x1))] [] V (M_schemes_141 x1 V) := by
  intro x1 V
  unfold M_schemes_141
  refine m_iload_n hX 1 dX4_schemes_141 rfl rfl ?_
  refine m_ic hX dX4_schemes_142 (by decide) (by decide) ?_
  refine m_isub hX dX4_schemes_143 ?_
  refine m_nmT fun v1 => ?_
  refine m_istore_n hX (lv' := [(2, (0, v1)), (0, (3, 0)), (1, (0, x1))]) dX4_schemes_144 rfl (by decide) rfl ?_
  exact m_sub [1, 0] rfl (WM_schemes_145 hX hdd FU v1 V)
noncomputable def M_schemes_102 : Nat → Int → Int → VV → Option (Int × VV)
  | 0, _, _, _ => none
  | n + 1, x1, x2, V => if 7056 ≤ x2 then (M_schemes_141 x1 V) else (if x2.tmod 441 = 0 then (M_schemes_134 (M_schemes_102 n) (w32 ((w32 (7056 * x1)) + x2)) 0 x1 x2 V) else (M_schemes_134 (M_schemes_102 n) (w32 ((w32 (7056 * x1)) + x2)) 1000000 x1 x2 V))
theorem WM_schemes_102 {Z : MZ} {d : Nat} (hX : MX Z cX4_schemes 6 none d 2) (hdd : 128 ≤ d) : ∀ n x1 x2 V, MG Z 102 [(0, (3, 0)), (1, (0, x1)), (2, (0, x2))] [] V (M_schemes_102 n x1 x2 V) := by
  intro n
  induction n with
  | zero => intro x1 x2 V; exact m_none
  | succ n ih =>
    intro x1 x2 V
    rw [M_schemes_102]
    refine m_iload_n hX 2 dX4_schemes_102 rfl rfl ?_
    refine m_sp hX dX4_schemes_103 (by decide) (by decide) ?_
    refine m_icmp_ge hX 141 dX4_schemes_106 (by decide) (fun _ => ?_) (fun _ => ?_)
    · exact m_sub [0, 1] rfl (WM_schemes_141 hX hdd x1 V)
    · refine m_aload_n hX 0 dX4_schemes_109 rfl rfl ?_
      refine fg_31 hX dX4_schemes_110 ?_
      refine m_sp hX dX4_schemes_113 (by decide) (by decide) ?_
      refine m_iload_n hX 1 dX4_schemes_116 rfl rfl ?_
      refine m_imul hX dX4_schemes_117 ?_
      refine m_iload_n hX 2 dX4_schemes_118 rfl rfl ?_
      refine m_iadd hX dX4_schemes_119 ?_
      refine m_iload_n hX 2 dX4_schemes_120 rfl rfl ?_
      refine m_sp hX dX4_schemes_121 (by decide) (by decide) ?_
      refine m_nz (b := 441) (by decide) (m_irem hX dX4_schemes_124 ?_)
      refine m_if_ne hX 132 dX4_schemes_125 (by decide) (fun _ => ?_) (fun _ => ?_)
      · refine m_ldc hX (n := 1000000) q1963 dX4_schemes_132 (by decide +kernel) ⟨by decide, by decide⟩ ?_
        exact m_sub [0, 1, 2] rfl (WM_schemes_134 hX hdd ih (w32 ((w32 (7056 * x1)) + x2)) 1000000 x1 x2 V)
      · refine m_ic hX dX4_schemes_128 (by decide) (by decide) ?_
        refine m_goto hX 134 dX4_schemes_129 (by decide) ?_
        exact m_sub [0, 1, 2] rfl (WM_schemes_134 hX hdd ih (w32 ((w32 (7056 * x1)) + x2)) 0 x1 x2 V)
noncomputable def M_schemes_95 (V : VV) : Option (Int × VV) := mb (M_questions V) fun r1 V2 => M_schemes_102 FU r1 0 V2
theorem WM_schemes_95 {Z : MZ} {d : Nat} (hX : MX Z cX4_schemes 6 none d 2) (hdd : 128 ≤ d) : ∀ V, MG Z 95 [(0, (3, 0))] [] V (M_schemes_95 V) := by
  intro V
  unfold M_schemes_95
  refine m_aload_n hX 0 dX4_schemes_95 rfl rfl ?_
  refine cl_questions hX (by omega) (Nat.le_of_ble_eq_true rfl) dX4_schemes_96 fun r1 V2 => ?_
  refine m_istore_n hX (lv' := [(1, (0, r1)), (0, (3, 0))]) dX4_schemes_99 rfl (by decide) rfl ?_
  refine m_ic hX dX4_schemes_100 (by decide) (by decide) ?_
  refine m_istore_n hX (lv' := [(2, (0, 0)), (1, (0, r1)), (0, (3, 0))]) dX4_schemes_101 rfl (by decide) rfl ?_
  exact m_sub [2, 1, 0] rfl (WM_schemes_102 hX hdd FU r1 0 V2)
noncomputable def M_schemes_22 : Nat → Int → VV → Option (Int × VV)
  | 0, _, _ => none
  | n + 1, x1, V => mb (M_questions V) fun r1 V2 => if r1 ≤ x1 then (M_schemes_95 V2) else (M_schemes_32 (M_schemes_22 n) FU x1 0 V2)
theorem WM_schemes_22 {Z : MZ} {d : Nat} (hX : MX Z cX4_schemes 6 none d 2) (hdd : 128 ≤ d) : ∀ n x1 V, MG Z 22 [(0, (3, 0)), (1, (0, x1))] [] V (M_schemes_22 n x1 V) := by
  intro n
  induction n with
  | zero => intro x1 V; exact m_none
  | succ n ih =>
    intro x1 V
    rw [M_schemes_22]
    refine m_iload_n hX 1 dX4_schemes_22 rfl rfl ?_
    refine m_aload_n hX 0 dX4_schemes_23 rfl rfl ?_
    refine cl_questions hX (by omega) (Nat.le_of_ble_eq_true rfl) dX4_schemes_24 fun r1 V2 => ?_
    refine m_icmp_ge hX 95 dX4_schemes_27 (by decide) (fun _ => ?_) (fun _ => ?_)
    · exact m_sub [0] rfl (WM_schemes_95 hX hdd V2)
    · refine m_ic hX dX4_schemes_30 (by decide) (by decide) ?_
      refine m_istore_n hX (lv' := [(2, (0, 0)), (0, (3, 0)), (1, (0, x1))]) dX4_schemes_31 rfl (by decide) rfl ?_
      exact m_sub [1, 2, 0] rfl (WM_schemes_32 hX hdd ih FU x1 0 V2)
noncomputable def M_schemes (V : VV) : Option (Int × VV) := if V 35 0 = V 1 0 then (some (0, V)) else (nm (vup V 35 0 (V 1 0)) fun V1 => M_schemes_22 FU 0 V1)
theorem WM_schemes (l : Launch) {d : Nat} (hdd : 128 ≤ d) (V : VV) (hV : okV V) (ho : oks []) (fin : Int × VV) (hf : M_schemes V = some fin) : mSpec l yX4_schemes cX4_schemes 6 none d 2 [(3, 0)] V fin := by
  refine m_enter (lv := [(0, (3, 0))]) (by decide) rfl (Nat.le_of_ble_eq_true rfl) rfl (fun Z hZ hX => ?_) hV (ho.c (okA.t 0)) fin hf
  unfold M_schemes
  refine m_aload_n hX 0 dX4_schemes_0 rfl rfl ?_
  refine fg_35 hX dX4_schemes_1 ?_
  refine m_aload_n hX 0 dX4_schemes_4 rfl rfl ?_
  refine fg_1 hX dX4_schemes_5 ?_
  refine m_icmp_ne hX 12 dX4_schemes_8 (by decide) (fun _ => ?_) (fun _ => ?_)
  · refine m_aload_n hX 0 dX4_schemes_12 rfl rfl ?_
    refine m_aload_n hX 0 dX4_schemes_13 rfl rfl ?_
    refine fg_1 hX dX4_schemes_14 ?_
    refine fp_35 hX dX4_schemes_17 fun V1 => ?_
    refine m_ic hX dX4_schemes_20 (by decide) (by decide) ?_
    refine m_istore_n hX (lv' := [(1, (0, 0)), (0, (3, 0))]) dX4_schemes_21 rfl (by decide) rfl ?_
    exact m_sub [1, 0] rfl (WM_schemes_22 hX hdd FU 0 V1)
  · exact m_vret hX rfl dX4_schemes_11
theorem cl_schemes {Z : MZ} {cc : ByteArray} {nL : Nat} {ret : Option FieldType} {d rk : Nat} {pc : Nat} {lv : List (Nat × AV)} {st : List AV} {V : VV} {g : Int → VV → Option (Int × VV)} (hX : MX Z cc nL ret d rk) (hdd : 129 ≤ d) (hcat : (st.map fun v => if v.1 = 1 then 2 else 1).sum ≤ 8) (hdg : decode cc pc = .ok (.invokevirtual 397, 3)) (kk : ∀ r V1, MG Z (pc + 3) lv st V1 (g r V1)) : MG Z pc lv ((3, 0) :: st) V (mb (M_schemes V) g) :=
  m_callVv hX [] 0 (fun hV ho fin hf => WM_schemes (zL Z) (Nat.le_refl 128) V hV ho fin hf) (lw_V q2187 q2189 qs106 q131 q2190) (by decide +kernel) rfl (by omega) (by decide) rfl hcat hdg kk
noncomputable def M_bests_111 (K19 : Int → Int → VV → Option (Int × VV)) (x1 : Int) (x2 : Int) (V : VV) : Option (Int × VV) := nm (w32 (x2 + 1)) fun v1 => K19 x1 v1 V
theorem WM_bests_111 {Z : MZ} {d : Nat} (hX : MX Z cX4_bests 4 none d 2) (hdd : 129 ≤ d) {K19 : Int → Int → VV → Option (Int × VV)} (hK19 : ∀ x1 x2 V, MG Z 19 [(0, (3, 0)), (1, (0, x1)), (2, (0, x2))] [] V (K19 x1 x2 V)) : ∀ x1 x2 V, MG Z 111 [(0, (3, 0)), (1, (0, x1)), (2, (0, x2))] [] V (M_bests_111 K19 x1 x2 V) := by
  intro x1 x2 V
  unfold M_bests_111
  refine m_iinc hX 2 dX4_bests_111 rfl (by decide) fun v1 => m_lv (lv' := [(2, (0, v1)), (0, (3, 0)), (1, (0, x1))]) rfl ?_
  refine m_goto hX 19 dX4_bests_114 (by decide) ?_
  exact m_sub [1, 2, 0] rfl (hK19 x1 v1 V)
noncomputable def M_bests_96 (K19 : Int → Int → VV → Option (Int × VV)) (x1 : Int) (x2 : Int) (x3 : Int) (V : VV) : Option (Int × VV) := ck x2 441 <| nm (vup V 36 0 (V 32 x2)) fun V1 => nm (vup V1 37 0 x3) fun V2 => M_bests_111 K19 x1 x2 V2
theorem WM_bests_96 {Z : MZ} {d : Nat} (hX : MX Z cX4_bests 4 none d 2) (hdd : 129 ≤ d) {K19 : Int → Int → VV → Option (Int × VV)} (hK19 : ∀ x1 x2 V, MG Z 19 [(0, (3, 0)), (1, (0, x1)), (2, (0, x2))] [] V (K19 x1 x2 V)) : ∀ x1 x2 x3 V, MG Z 96 [(0, (3, 0)), (1, (0, x1)), (2, (0, x2)), (3, (0, x3))] [] V (M_bests_96 K19 x1 x2 x3 V) := by
  intro x1 x2 x3 V
  unfold M_bests_96
  refine m_aload_n hX 0 dX4_bests_96 rfl rfl ?_
  refine m_aload_n hX 0 dX4_bests_97 rfl rfl ?_
  refine fg_32 hX dX4_bests_98 ?_
  refine m_iload_n hX 2 dX4_bests_101 rfl rfl ?_
  refine al_32 hX dX4_bests_102 ?_
  refine fp_36 hX dX4_bests_103 fun V1 => ?_
  refine m_aload_n hX 0 dX4_bests_106 rfl rfl ?_
  refine m_iload_n hX 3 dX4_bests_107 rfl rfl ?_
  refine fp_37 hX dX4_bests_108 fun V2 => ?_
  exact m_sub [0, 1, 2] rfl (WM_bests_111 hX hdd hK19 x1 x2 V2)
noncomputable def M_bests_19 : Nat → Int → Int → VV → Option (Int × VV)
  | 0, _, _, _ => none
  | n + 1, x1, x2, V => if 441 ≤ x2 then (some (0, V)) else (ck x2 148176 <| nm (α := Int) (V 31 x2) fun v1 => if x1 < v1 then (M_bests_111 (M_bests_19 n) x1 x2 V) else (mb (M_bowl V) fun r2 V3 => if w32 ((w32 (x2.tdiv 21)) + (x2.tmod 21)) ≤ r2 then (ck x2 441 <| if V3 32 x2 < V3 36 0 then (M_bests_111 (M_bests_19 n) x1 x2 V3) else (ck x2 441 <| if V3 32 x2 = V3 36 0 then (if v1 < V3 37 0 then (M_bests_96 (M_bests_19 n) x1 x2 v1 V3) else (M_bests_111 (M_bests_19 n) x1 x2 V3)) else (M_bests_96 (M_bests_19 n) x1 x2 v1 V3))) else (M_bests_111 (M_bests_19 n) x1 x2 V3)))
theorem WM_bests_19 {Z : MZ} {d : Nat} (hX : MX Z cX4_bests 4 none d 2) (hdd : 129 ≤ d) : ∀ n x1 x2 V, MG Z 19 [(0, (3, 0)), (1, (0, x1)), (2, (0, x2))] [] V (M_bests_19 n x1 x2 V) := by
  intro n
  induction n with
  | zero => intro x1 x2 V; exact m_none
  | succ n ih =>
    intro x1 x2 V
    rw [M_bests_19]
    refine m_iload_n hX 2 dX4_bests_19 rfl rfl ?_
    refine m_sp hX dX4_bests_20 (by decide) (by decide) ?_
    refine m_icmp_ge hX 117 dX4_bests_23 (by decide) (fun _ => ?_) (fun _ => ?_)
    · exact m_vret hX rfl dX4_bests_117
    · refine m_aload_n hX 0 dX4_bests_26 rfl rfl ?_
      refine fg_31 hX dX4_bests_27 ?_
      refine m_iload_n hX 2 dX4_bests_30 rfl rfl ?_
      refine al_31 hX dX4_bests_31 ?_
      refine m_nmT fun v1 => ?_
      refine m_istore_n hX (lv' := [(3, (0, v1)), (0, (3, 0)), (1, (0, x1)), (2, (0, x2))]) dX4_bests_32 rfl (by decide) rfl ?_
      refine m_iload_n hX 0 dX4_bests_33 rfl rfl ?_
      refine m_iload_n hX 2 dX4_bests_34 rfl rfl ?_
      refine m_icmp_gt hX 111 dX4_bests_35 (by decide) (fun _ => ?_) (fun _ => ?_)
      · exact m_sub [1, 2, 3] rfl (WM_bests_111 hX hdd ih x1 x2 V)
      · refine m_iload_n hX 3 dX4_bests_38 rfl rfl ?_
        refine m_bp hX dX4_bests_39 (by decide) (by decide) ?_
        refine m_nz (b := 21) (by decide) (m_idiv hX dX4_bests_41 ?_)
        refine m_iload_n hX 3 dX4_bests_42 rfl rfl ?_
        refine m_bp hX dX4_bests_43 (by decide) (by decide) ?_
        refine m_nz (b := 21) (by decide) (m_irem hX dX4_bests_45 ?_)
        refine m_iadd hX dX4_bests_46 ?_
        refine m_aload_n hX 1 dX4_bests_47 rfl rfl ?_
        refine cl_bowl hX (by omega) (Nat.le_of_ble_eq_true rfl) dX4_bests_48 fun r2 V3 => ?_
        refine m_icmp_le hX 57 dX4_bests_51 (by decide) (fun _ => ?_) (fun _ => ?_)
        · refine m_aload_n hX 1 dX4_bests_57 rfl rfl ?_
          refine fg_32 hX dX4_bests_58 ?_
          refine m_iload_n hX 3 dX4_bests_61 rfl rfl ?_
          refine al_32 hX dX4_bests_62 ?_
          refine m_aload_n hX 1 dX4_bests_63 rfl rfl ?_
          refine fg_36 hX dX4_bests_64 ?_
          refine m_lcmp_lt hX 111 dX4_bests_67 dX4_bests_68 (by decide) (fun _ => ?_) (fun _ => ?_)
          · exact m_sub [1, 2, 3] rfl (WM_bests_111 hX hdd ih x1 x2 V3)
          · refine m_aload_n hX 1 dX4_bests_71 rfl rfl ?_
            refine fg_32 hX dX4_bests_72 ?_
            refine m_iload_n hX 3 dX4_bests_75 rfl rfl ?_
            refine al_32 hX dX4_bests_76 ?_
            refine m_aload_n hX 1 dX4_bests_77 rfl rfl ?_
            refine fg_36 hX dX4_bests_78 ?_
            refine m_lcmp_ne hX 96 dX4_bests_81 dX4_bests_82 (by decide) (fun _ => ?_) (fun _ => ?_)
            · exact m_sub [1, 2, 3, 0] rfl (WM_bests_96 hX hdd ih x1 x2 v1 V3)
            · refine m_iload_n hX 0 dX4_bests_85 rfl rfl ?_
              refine m_aload_n hX 1 dX4_bests_86 rfl rfl ?_
              refine fg_37 hX dX4_bests_87 ?_
              refine m_icmp_lt hX 96 dX4_bests_90 (by decide) (fun _ => ?_) (fun _ => ?_)
              · exact m_sub [1, 2, 3, 0] rfl (WM_bests_96 hX hdd ih x1 x2 v1 V3)
              · refine m_goto hX 111 dX4_bests_93 (by decide) ?_
                exact m_sub [1, 2, 3] rfl (WM_bests_111 hX hdd ih x1 x2 V3)
        · refine m_goto hX 111 dX4_bests_54 (by decide) ?_
          exact m_sub [1, 2, 3] rfl (WM_bests_111 hX hdd ih x1 x2 V3)
noncomputable def M_bests (x1 : Int) (V : VV) : Option (Int × VV) := mb (M_schemes V) fun r1 V2 => nm (vup V2 36 0 (-1)) fun V3 => nm (vup V3 37 0 1000000) fun V4 => M_bests_19 FU x1 0 V4
theorem WM_bests (l : Launch) {d : Nat} (hdd : 129 ≤ d) (x1 : Int) (V : VV) (hV : okV V) (ho : oks [(0, x1)]) (fin : Int × VV) (hf : M_bests x1 V = some fin) : mSpec l yX4_bests cX4_bests 4 none d 2 [(3, 0), (0, x1)] V fin := by
  refine m_enter (lv := [(0, (3, 0)), (1, (0, x1))]) (by decide) rfl (Nat.le_of_ble_eq_true rfl) rfl (fun Z hZ hX => ?_) hV (ho.c (okA.t 0)) fin hf
  unfold M_bests
  refine m_aload_n hX 0 dX4_bests_0 rfl rfl ?_
  refine cl_schemes hX (by omega) (Nat.le_of_ble_eq_true rfl) dX4_bests_1 fun r1 V2 => ?_
  refine m_aload_n hX 0 dX4_bests_4 rfl rfl ?_
  refine m_ldc2 hX (n := -1) q2101 dX4_bests_5 (by decide +kernel) ⟨by decide, by decide⟩ ?_
  refine fp_36 hX dX4_bests_8 fun V3 => ?_
  refine m_aload_n hX 0 dX4_bests_11 rfl rfl ?_
  refine m_ldc hX (n := 1000000) q1963 dX4_bests_12 (by decide +kernel) ⟨by decide, by decide⟩ ?_
  refine fp_37 hX dX4_bests_14 fun V4 => ?_
  refine m_ic hX dX4_bests_17 (by decide) (by decide) ?_
  refine m_istore_n hX (lv' := [(2, (0, 0)), (0, (3, 0)), (1, (0, x1))]) dX4_bests_18 rfl (by decide) rfl ?_
  exact m_sub [1, 2, 0] rfl (WM_bests_19 hX hdd FU x1 0 V4)
theorem cl_bests {Z : MZ} {cc : ByteArray} {nL : Nat} {ret : Option FieldType} {d rk : Nat} {pc : Nat} {lv : List (Nat × AV)} {st : List AV} {V : VV} {g : Int → VV → Option (Int × VV)} (hX : MX Z cc nL ret d rk) {a0 : Int} (hdd : 130 ≤ d) (hcat : (st.map fun v => if v.1 = 1 then 2 else 1).sum ≤ 8) (hdg : decode cc pc = .ok (.invokevirtual 406, 3)) (kk : ∀ r V1, MG Z (pc + 3) lv st V1 (g r V1)) : MG Z pc lv ((0, a0) :: (3, 0) :: st) V (mb (M_bests a0 V) g) :=
  m_callVv hX [(0, a0)] 1 (fun hV ho fin hf => WM_bests (zL Z) (Nat.le_refl 129) a0 V hV ho fin hf) (lw_V q2183 q2185 qs105 q131 q2186) (by decide +kernel) rfl (by omega) (by decide) rfl hcat hdg kk
noncomputable def M_best_20 (V : VV) : Option (Int × VV) := some ((-1), V)
theorem WM_best_20 {Z : MZ} {d : Nat} (hX : MX Z cX4_best 3 (some .long) d 1) (hdd : 130 ≤ d) : ∀ V, MG Z 20 [] [] V (M_best_20 V) := by
  intro V
  unfold M_best_20
  refine m_ldc2 hX (n := -1) q2101 dX4_best_20 (by decide +kernel) ⟨by decide, by decide⟩ ?_
  exact m_lret hX rfl dX4_best_23
noncomputable def M_best (x1 : Int) (x2 : Int) (V : VV) : Option (Int × VV) := mb (M_lies x1 0 400 V) fun r1 V2 => if r1 = 0 then (M_best_20 V2) else (mb (M_lies x2 0 2 V2) fun r3 V4 => if r3 = 0 then (M_best_20 V4) else (mb (M_bests x1 V4) fun r5 V6 => if x2 = 2 then (some (V6 37 0, V6)) else (mb (M_reduced (V6 36 0) (V6 34 0) x2 V6) fun r7 V8 => some (r7, V8))))
theorem WM_best (l : Launch) {d : Nat} (hdd : 130 ≤ d) (x1 : Int) (x2 : Int) (V : VV) (hV : okV V) (ho : oks [(0, x1), (0, x2)]) (fin : Int × VV) (hf : M_best x1 x2 V = some fin) : mSpec l yX4_best cX4_best 3 (some .long) d 1 [(3, 0), (0, x1), (0, x2)] V fin := by
  refine m_enter (lv := [(0, (3, 0)), (1, (0, x1)), (2, (0, x2))]) (by decide) rfl (Nat.le_of_ble_eq_true rfl) rfl (fun Z hZ hX => ?_) hV (ho.c (okA.t 0)) fin hf
  unfold M_best
  refine m_iload_n hX 1 dX4_best_0 rfl rfl ?_
  refine m_ic hX dX4_best_1 (by decide) (by decide) ?_
  refine m_sp hX dX4_best_2 (by decide) (by decide) ?_
  refine cl_lies hX (by omega) (Nat.le_of_ble_eq_true rfl) dX4_best_5 fun r1 V2 => ?_
  refine m_if_eq hX 20 dX4_best_8 (by decide) (fun _ => ?_) (fun _ => ?_)
  · exact m_sub [] rfl (WM_best_20 hX hdd V2)
  · refine m_iload_n hX 2 dX4_best_11 rfl rfl ?_
    refine m_ic hX dX4_best_12 (by decide) (by decide) ?_
    refine m_ic hX dX4_best_13 (by decide) (by decide) ?_
    refine cl_lies hX (by omega) (Nat.le_of_ble_eq_true rfl) dX4_best_14 fun r3 V4 => ?_
    refine m_if_ne hX 24 dX4_best_17 (by decide) (fun _ => ?_) (fun _ => ?_)
    · refine m_aload_n hX 0 dX4_best_24 rfl rfl ?_
      refine m_iload_n hX 1 dX4_best_25 rfl rfl ?_
      refine cl_bests hX (by omega) (Nat.le_of_ble_eq_true rfl) dX4_best_26 fun r5 V6 => ?_
      refine m_iload_n hX 2 dX4_best_29 rfl rfl ?_
      refine m_ic hX dX4_best_30 (by decide) (by decide) ?_
      refine m_icmp_ne hX 42 dX4_best_31 (by decide) (fun _ => ?_) (fun _ => ?_)
      · refine m_aload_n hX 0 dX4_best_42 rfl rfl ?_
        refine fg_36 hX dX4_best_43 ?_
        refine m_aload_n hX 0 dX4_best_46 rfl rfl ?_
        refine fg_34 hX dX4_best_47 ?_
        refine m_iload_n hX 2 dX4_best_50 rfl rfl ?_
        refine cl_reduced hX (by omega) (Nat.le_of_ble_eq_true rfl) dX4_best_51 fun r7 V8 => ?_
        exact m_lret hX rfl dX4_best_54
      · refine m_aload_n hX 0 dX4_best_34 rfl rfl ?_
        refine fg_37 hX dX4_best_35 ?_
        refine m_i2l hX dX4_best_38 ?_
        refine m_goto hX 54 dX4_best_39 (by decide) ?_
        exact m_lret hX rfl dX4_best_54
    · exact m_sub [] rfl (WM_best_20 hX hdd V4)
-- best: not called inside
noncomputable def M_canBe_94 (K3 : Int → Int → Int → Int → Int → Int → VV → Option (Int × VV)) (x1 : Int) (x2 : Int) (x3 : Int) (x4 : Int) (x5 : Int) (x6 : Int) (V : VV) : Option (Int × VV) := nm (w32 (x6 + 1)) fun v1 => K3 x1 x2 x3 x4 x5 v1 V
theorem WM_canBe_94 {Z : MZ} {d : Nat} (hX : MX Z cX4_canBe 9 (some .boolean) d 0) (hdd : 4 ≤ d) {K3 : Int → Int → Int → Int → Int → Int → VV → Option (Int × VV)} (hK3 : ∀ x1 x2 x3 x4 x5 x6 V, MG Z 3 [(0, (3, 0)), (1, (0, x1)), (2, (0, x2)), (3, (0, x3)), (4, (0, x4)), (5, (0, x5)), (6, (0, x6))] [] V (K3 x1 x2 x3 x4 x5 x6 V)) : ∀ x1 x2 x3 x4 x5 x6 V, MG Z 94 [(0, (3, 0)), (1, (0, x1)), (2, (0, x2)), (3, (0, x3)), (4, (0, x4)), (5, (0, x5)), (6, (0, x6))] [] V (M_canBe_94 K3 x1 x2 x3 x4 x5 x6 V) := by
  intro x1 x2 x3 x4 x5 x6 V
  unfold M_canBe_94
  refine m_iinc hX 6 dX4_canBe_94 rfl (by decide) fun v1 => m_lv (lv' := [(6, (0, v1)), (0, (3, 0)), (1, (0, x1)), (2, (0, x2)), (3, (0, x3)), (4, (0, x4)), (5, (0, x5))]) rfl ?_
  refine m_goto hX 3 dX4_canBe_97 (by decide) ?_
  exact m_sub [1, 2, 3, 4, 5, 6, 0] rfl (hK3 x1 x2 x3 x4 x5 v1 V)
noncomputable def M_canBe_3 : Nat → Int → Int → Int → Int → Int → Int → VV → Option (Int × VV)
  | 0, _, _, _, _, _, _, _ => none
  | n + 1, x1, x2, x3, x4, x5, x6, V => if 441 ≤ x6 then (some (0, V)) else (nm (α := Int) (w32 ((w32 (x6.tdiv 21)) - x3)) fun v1 => nm (α := Int) (w32 ((x6.tmod 21) - x4)) fun v2 => if v1 < 0 then (M_canBe_94 (M_canBe_3 n) x1 x2 x3 x4 x5 x6 V) else (if v2 < 0 then (M_canBe_94 (M_canBe_3 n) x1 x2 x3 x4 x5 x6 V) else (mb (M_bowl V) fun r3 V4 => if r3 < w32 ((w32 (x6.tdiv 21)) + (x6.tmod 21)) then (M_canBe_94 (M_canBe_3 n) x1 x2 x3 x4 x5 x6 V4) else (ck x6 441 <| if V4 32 x6 = V4 36 0 then (mb (M_cell x1 x2 v1 v2 V4) fun r5 V6 => ck r5 148176 <| if V6 31 r5 = x5 then (some (1, V6)) else (M_canBe_94 (M_canBe_3 n) x1 x2 x3 x4 x5 x6 V6)) else (M_canBe_94 (M_canBe_3 n) x1 x2 x3 x4 x5 x6 V4)))))
theorem WM_canBe_3 {Z : MZ} {d : Nat} (hX : MX Z cX4_canBe 9 (some .boolean) d 0) (hdd : 4 ≤ d) : ∀ n x1 x2 x3 x4 x5 x6 V, MG Z 3 [(0, (3, 0)), (1, (0, x1)), (2, (0, x2)), (3, (0, x3)), (4, (0, x4)), (5, (0, x5)), (6, (0, x6))] [] V (M_canBe_3 n x1 x2 x3 x4 x5 x6 V) := by
  intro n
  induction n with
  | zero => intro x1 x2 x3 x4 x5 x6 V; exact m_none
  | succ n ih =>
    intro x1 x2 x3 x4 x5 x6 V
    rw [M_canBe_3]
    refine m_iload hX 6 dX4_canBe_3 rfl ?_
    refine m_sp hX dX4_canBe_5 (by decide) (by decide) ?_
    refine m_icmp_ge hX 100 dX4_canBe_8 (by decide) (fun _ => ?_) (fun _ => ?_)
    · refine m_ic hX dX4_canBe_100 (by decide) (by decide) ?_
      exact m_cb (by decide) (m_zret hX rfl dX4_canBe_101)
    · refine m_iload hX 6 dX4_canBe_11 rfl ?_
      refine m_bp hX dX4_canBe_13 (by decide) (by decide) ?_
      refine m_nz (b := 21) (by decide) (m_idiv hX dX4_canBe_15 ?_)
      refine m_iload_n hX 3 dX4_canBe_16 rfl rfl ?_
      refine m_isub hX dX4_canBe_17 ?_
      refine m_nmT fun v1 => ?_
      refine m_istore hX (lv' := [(7, (0, v1)), (0, (3, 0)), (1, (0, x1)), (2, (0, x2)), (3, (0, x3)), (4, (0, x4)), (5, (0, x5)), (6, (0, x6))]) dX4_canBe_18 (by decide) rfl ?_
      refine m_iload hX 7 dX4_canBe_20 rfl ?_
      refine m_bp hX dX4_canBe_22 (by decide) (by decide) ?_
      refine m_nz (b := 21) (by decide) (m_irem hX dX4_canBe_24 ?_)
      refine m_iload hX 5 dX4_canBe_25 rfl ?_
      refine m_isub hX dX4_canBe_27 ?_
      refine m_nmT fun v2 => ?_
      refine m_istore hX (lv' := [(8, (0, v2)), (7, (0, v1)), (0, (3, 0)), (1, (0, x1)), (2, (0, x2)), (3, (0, x3)), (4, (0, x4)), (5, (0, x5)), (6, (0, x6))]) dX4_canBe_28 (by decide) rfl ?_
      refine m_iload hX 1 dX4_canBe_30 rfl ?_
      refine m_if_lt hX 94 dX4_canBe_32 (by decide) (fun _ => ?_) (fun _ => ?_)
      · exact m_sub [2, 3, 4, 5, 6, 7, 8] rfl (WM_canBe_94 hX hdd ih x1 x2 x3 x4 x5 x6 V)
      · refine m_iload hX 0 dX4_canBe_35 rfl ?_
        refine m_if_lt hX 94 dX4_canBe_37 (by decide) (fun _ => ?_) (fun _ => ?_)
        · exact m_sub [2, 3, 4, 5, 6, 7, 8] rfl (WM_canBe_94 hX hdd ih x1 x2 x3 x4 x5 x6 V)
        · refine m_iload hX 8 dX4_canBe_40 rfl ?_
          refine m_bp hX dX4_canBe_42 (by decide) (by decide) ?_
          refine m_nz (b := 21) (by decide) (m_idiv hX dX4_canBe_44 ?_)
          refine m_iload hX 8 dX4_canBe_45 rfl ?_
          refine m_bp hX dX4_canBe_47 (by decide) (by decide) ?_
          refine m_nz (b := 21) (by decide) (m_irem hX dX4_canBe_49 ?_)
          refine m_iadd hX dX4_canBe_50 ?_
          refine m_aload_n hX 2 dX4_canBe_51 rfl rfl ?_
          refine cl_bowl hX (by omega) (Nat.le_of_ble_eq_true rfl) dX4_canBe_52 fun r3 V4 => ?_
          refine m_icmp_gt hX 94 dX4_canBe_55 (by decide) (fun _ => ?_) (fun _ => ?_)
          · exact m_sub [2, 3, 4, 5, 6, 7, 8] rfl (WM_canBe_94 hX hdd ih x1 x2 x3 x4 x5 x6 V4)
          · refine m_aload_n hX 2 dX4_canBe_58 rfl rfl ?_
            refine fg_32 hX dX4_canBe_59 ?_
            refine m_iload hX 8 dX4_canBe_62 rfl ?_
            refine al_32 hX dX4_canBe_64 ?_
            refine m_aload_n hX 2 dX4_canBe_65 rfl rfl ?_
            refine fg_36 hX dX4_canBe_66 ?_
            refine m_lcmp_ne hX 94 dX4_canBe_69 dX4_canBe_70 (by decide) (fun _ => ?_) (fun _ => ?_)
            · exact m_sub [2, 3, 4, 5, 6, 7, 8] rfl (WM_canBe_94 hX hdd ih x1 x2 x3 x4 x5 x6 V4)
            · refine m_aload_n hX 2 dX4_canBe_73 rfl rfl ?_
              refine fg_31 hX dX4_canBe_74 ?_
              refine m_iload_n hX 3 dX4_canBe_77 rfl rfl ?_
              refine m_iload_n hX 4 dX4_canBe_78 rfl rfl ?_
              refine m_iload hX 1 dX4_canBe_79 rfl ?_
              refine m_iload hX 0 dX4_canBe_81 rfl ?_
              refine cl_cell hX (by omega) (Nat.le_of_ble_eq_true rfl) dX4_canBe_83 fun r5 V6 => ?_
              refine al_31 hX dX4_canBe_86 ?_
              refine m_iload hX 7 dX4_canBe_87 rfl ?_
              refine m_icmp_ne hX 94 dX4_canBe_89 (by decide) (fun _ => ?_) (fun _ => ?_)
              · exact m_sub [2, 3, 4, 5, 6, 7, 8] rfl (WM_canBe_94 hX hdd ih x1 x2 x3 x4 x5 x6 V6)
              · refine m_ic hX dX4_canBe_92 (by decide) (by decide) ?_
                exact m_cb (by decide) (m_zret hX rfl dX4_canBe_93)
noncomputable def M_canBe (x1 : Int) (x2 : Int) (x3 : Int) (x4 : Int) (x5 : Int) (V : VV) : Option (Int × VV) := M_canBe_3 FU x1 x2 x3 x4 x5 0 V
theorem WM_canBe (l : Launch) {d : Nat} (hdd : 4 ≤ d) (x1 : Int) (x2 : Int) (x3 : Int) (x4 : Int) (x5 : Int) (V : VV) (hV : okV V) (ho : oks [(0, x1), (0, x2), (0, x3), (0, x4), (0, x5)]) (fin : Int × VV) (hf : M_canBe x1 x2 x3 x4 x5 V = some fin) : mSpec l yX4_canBe cX4_canBe 9 (some .boolean) d 0 [(3, 0), (0, x1), (0, x2), (0, x3), (0, x4), (0, x5)] V fin := by
  refine m_enter (lv := [(0, (3, 0)), (1, (0, x1)), (2, (0, x2)), (3, (0, x3)), (4, (0, x4)), (5, (0, x5))]) (by decide) rfl (Nat.le_of_ble_eq_true rfl) rfl (fun Z hZ hX => ?_) hV (ho.c (okA.t 0)) fin hf
  unfold M_canBe
  refine m_ic hX dX4_canBe_0 (by decide) (by decide) ?_
  refine m_istore hX (lv' := [(6, (0, 0)), (0, (3, 0)), (1, (0, x1)), (2, (0, x2)), (3, (0, x3)), (4, (0, x4)), (5, (0, x5))]) dX4_canBe_1 (by decide) rfl ?_
  exact m_sub [1, 2, 3, 4, 5, 6, 0] rfl (WM_canBe_3 hX hdd FU x1 x2 x3 x4 x5 0 V)
theorem cl_canBe {Z : MZ} {cc : ByteArray} {nL : Nat} {ret : Option FieldType} {d rk : Nat} {pc : Nat} {lv : List (Nat × AV)} {st : List AV} {V : VV} {g : Int → VV → Option (Int × VV)} (hX : MX Z cc nL ret d rk) {a0 a1 a2 a3 a4 : Int} (hdd : 5 ≤ d) (hcat : (st.map fun v => if v.1 = 1 then 2 else 1).sum ≤ 8) (hdg : decode cc pc = .ok (.invokevirtual 409, 3)) (kk : ∀ r V1, MG Z (pc + 3) lv ((0, r) :: st) V1 (g r V1)) : MG Z pc lv ((0, a4) :: (0, a3) :: (0, a2) :: (0, a1) :: (0, a0) :: (3, 0) :: st) V (mb (M_canBe a0 a1 a2 a3 a4 V) g) :=
  m_callVi hX [(0, a0), (0, a1), (0, a2), (0, a3), (0, a4)] 5 (fun hV ho fin hf => WM_canBe (zL Z) (Nat.le_refl 4) a0 a1 a2 a3 a4 V hV ho fin hf) (lw_V q2221 q2223 qs112 q131 q2224) (by decide +kernel) rfl (by omega) (by decide) rfl hcat hdg kk
noncomputable def M_firsts_255 (K21 : Int → Int → Int → Int → Int → VV → Option (Int × VV)) (x2 : Int) (x3 : Int) (x4 : Int) (x5 : Int) (x6 : Int) (V : VV) : Option (Int × VV) := nm (w32 (x6 + 1)) fun v1 => K21 x2 x3 x4 x5 v1 V
theorem WM_firsts_255 {Z : MZ} {d : Nat} (hX : MX Z cX4_firsts 9 none d 2) (hdd : 130 ≤ d) {K21 : Int → Int → Int → Int → Int → VV → Option (Int × VV)} (hK21 : ∀ x2 x3 x4 x5 x6 V, MG Z 21 [(0, (3, 0)), (2, (0, x2)), (3, (0, x3)), (4, (0, x4)), (5, (0, x5)), (6, (0, x6))] [] V (K21 x2 x3 x4 x5 x6 V)) : ∀ x2 x3 x4 x5 x6 V, MG Z 255 [(0, (3, 0)), (2, (0, x2)), (3, (0, x3)), (4, (0, x4)), (5, (0, x5)), (6, (0, x6))] [] V (M_firsts_255 K21 x2 x3 x4 x5 x6 V) := by
  intro x2 x3 x4 x5 x6 V
  unfold M_firsts_255
  refine m_iinc hX 5 dX4_firsts_255 rfl (by decide) fun v1 => m_lv (lv' := [(6, (0, v1)), (0, (3, 0)), (2, (0, x2)), (3, (0, x3)), (4, (0, x4)), (5, (0, x5))]) rfl ?_
  refine m_goto hX 21 dX4_firsts_258 (by decide) ?_
  exact m_sub [1, 2, 3, 4, 5, 0] rfl (hK21 x2 x3 x4 x5 v1 V)
noncomputable def M_firsts_162 (K21 : Int → Int → Int → Int → Int → VV → Option (Int × VV)) (K53 : Int → Int → Int → Int → Int → Int → VV → Option (Int × VV)) (x2 : Int) (x3 : Int) (x4 : Int) (x5 : Int) (x6 : Int) (x7 : Int) (V : VV) : Option (Int × VV) := nm (w32 (x7 + 1)) fun v1 => K53 x2 x3 x4 x5 x6 v1 V
theorem WM_firsts_162 {Z : MZ} {d : Nat} (hX : MX Z cX4_firsts 9 none d 2) (hdd : 130 ≤ d) {K21 : Int → Int → Int → Int → Int → VV → Option (Int × VV)} (hK21 : ∀ x2 x3 x4 x5 x6 V, MG Z 21 [(0, (3, 0)), (2, (0, x2)), (3, (0, x3)), (4, (0, x4)), (5, (0, x5)), (6, (0, x6))] [] V (K21 x2 x3 x4 x5 x6 V)) {K53 : Int → Int → Int → Int → Int → Int → VV → Option (Int × VV)} (hK53 : ∀ x2 x3 x4 x5 x6 x7 V, MG Z 53 [(0, (3, 0)), (2, (0, x2)), (3, (0, x3)), (4, (0, x4)), (5, (0, x5)), (6, (0, x6)), (7, (0, x7))] [] V (K53 x2 x3 x4 x5 x6 x7 V)) : ∀ x2 x3 x4 x5 x6 x7 V, MG Z 162 [(0, (3, 0)), (2, (0, x2)), (3, (0, x3)), (4, (0, x4)), (5, (0, x5)), (6, (0, x6)), (7, (0, x7))] [] V (M_firsts_162 K21 K53 x2 x3 x4 x5 x6 x7 V) := by
  intro x2 x3 x4 x5 x6 x7 V
  unfold M_firsts_162
  refine m_iinc hX 6 dX4_firsts_162 rfl (by decide) fun v1 => m_lv (lv' := [(7, (0, v1)), (0, (3, 0)), (2, (0, x2)), (3, (0, x3)), (4, (0, x4)), (5, (0, x5)), (6, (0, x6))]) rfl ?_
  refine m_goto hX 53 dX4_firsts_165 (by decide) ?_
  exact m_sub [1, 2, 3, 4, 5, 6, 0] rfl (hK53 x2 x3 x4 x5 x6 v1 V)
noncomputable def M_firsts_115 (K21 : Int → Int → Int → Int → Int → VV → Option (Int × VV)) (K53 : Int → Int → Int → Int → Int → Int → VV → Option (Int × VV)) (s1 : Int) (s2 : Int) (x2 : Int) (x3 : Int) (x4 : Int) (x5 : Int) (x6 : Int) (x7 : Int) (x8 : Int) (V : VV) : Option (Int × VV) := nm (α := Int) (if x7 = 1 then 1 else 0) fun v1 => nm (α := Int) (if x7 = 2 then 1 else 0) fun v2 => mb (M_canBe s1 s2 (w32 (x3 + v1)) (w32 (x4 + v2)) (w32 (x5 - x8)) V) fun r3 V4 => if r3 = 0 then (M_firsts_162 K21 K53 x2 x3 x4 x5 x6 x7 V4) else (ck x6 20 <| nm (vup V4 38 x6 x7) fun V5 => M_firsts_162 K21 K53 x2 x3 x4 x5 x6 x7 V5)
theorem WM_firsts_115 {Z : MZ} {d : Nat} (hX : MX Z cX4_firsts 9 none d 2) (hdd : 130 ≤ d) {K21 : Int → Int → Int → Int → Int → VV → Option (Int × VV)} (hK21 : ∀ x2 x3 x4 x5 x6 V, MG Z 21 [(0, (3, 0)), (2, (0, x2)), (3, (0, x3)), (4, (0, x4)), (5, (0, x5)), (6, (0, x6))] [] V (K21 x2 x3 x4 x5 x6 V)) {K53 : Int → Int → Int → Int → Int → Int → VV → Option (Int × VV)} (hK53 : ∀ x2 x3 x4 x5 x6 x7 V, MG Z 53 [(0, (3, 0)), (2, (0, x2)), (3, (0, x3)), (4, (0, x4)), (5, (0, x5)), (6, (0, x6)), (7, (0, x7))] [] V (K53 x2 x3 x4 x5 x6 x7 V)) : ∀ s1 s2 x2 x3 x4 x5 x6 x7 x8 V, MG Z 115 [(0, (3, 0)), (2, (0, x2)), (3, (0, x3)), (4, (0, x4)), (5, (0, x5)), (6, (0, x6)), (7, (0, x7)), (8, (0, x8))] [(0, s2), (0, s1), (3, 0)] V (M_firsts_115 K21 K53 s1 s2 x2 x3 x4 x5 x6 x7 x8 V) := by
  intro s1 s2 x2 x3 x4 x5 x6 x7 x8 V
  unfold M_firsts_115
  refine m_iload_n hX 2 dX4_firsts_115 rfl rfl ?_
  refine m_iload hX 6 dX4_firsts_116 rfl ?_
  refine m_ic hX dX4_firsts_118 (by decide) (by decide) ?_
  refine m_join 127 (fun v1 => [(0, v1), (0, x3), (0, s2), (0, s1), (3, 0)]) (fun v1 => ?_) (fun hJ => ?_)
  · refine m_iadd hX dX4_firsts_127 ?_
    refine m_iload hX 3 dX4_firsts_128 rfl ?_
    refine m_iload hX 6 dX4_firsts_130 rfl ?_
    refine m_ic hX dX4_firsts_132 (by decide) (by decide) ?_
    refine m_join 141 (fun v2 => [(0, v2), (0, x4), (0, w32 (x3 + v1)), (0, s2), (0, s1), (3, 0)]) (fun v2 => ?_) (fun hJ => ?_)
    · refine m_iadd hX dX4_firsts_141 ?_
      refine m_iload hX 4 dX4_firsts_142 rfl ?_
      refine m_iload hX 7 dX4_firsts_144 rfl ?_
      refine m_isub hX dX4_firsts_146 ?_
      refine cl_canBe hX (by omega) (Nat.le_of_ble_eq_true rfl) dX4_firsts_147 fun r3 V4 => ?_
      refine m_if_eq hX 162 dX4_firsts_150 (by decide) (fun _ => ?_) (fun _ => ?_)
      · exact m_sub [0, 1, 2, 3, 4, 5, 6] rfl (WM_firsts_162 hX hdd hK21 hK53 x2 x3 x4 x5 x6 x7 V4)
      · refine m_aload_n hX 0 dX4_firsts_153 rfl rfl ?_
        refine fg_38 hX dX4_firsts_154 ?_
        refine m_iload hX 5 dX4_firsts_157 rfl ?_
        refine m_iload hX 6 dX4_firsts_159 rfl ?_
        refine as_38 hX dX4_firsts_161 fun V5 => ?_
        exact m_sub [0, 1, 2, 3, 4, 5, 6] rfl (WM_firsts_162 hX hdd hK21 hK53 x2 x3 x4 x5 x6 x7 V5)
    · refine m_icmp_neF hX 140 dX4_firsts_133 (by decide) (fun _ => ?_) (fun _ => ?_)
      · refine m_ic hX dX4_firsts_140 (by decide) (by decide) ?_
        exact hJ _
      · refine m_ic hX dX4_firsts_136 (by decide) (by decide) ?_
        refine m_goto hX 141 dX4_firsts_137 (by decide) ?_
        exact hJ _
  · refine m_icmp_neF hX 126 dX4_firsts_119 (by decide) (fun _ => ?_) (fun _ => ?_)
    · refine m_ic hX dX4_firsts_126 (by decide) (by decide) ?_
      exact hJ _
    · refine m_ic hX dX4_firsts_122 (by decide) (by decide) ?_
      refine m_goto hX 127 dX4_firsts_123 (by decide) ?_
      exact hJ _
noncomputable def M_firsts_214 (K21 : Int → Int → Int → Int → Int → VV → Option (Int × VV)) (s0 : Int) (x3 : Int) (x4 : Int) (x5 : Int) (x6 : Int) (V : VV) : Option (Int × VV) := ck x6 20 <| nm (α := Int) (if V 38 x6 = 1 then 1 else 0) fun v1 => nm (α := Int) (w32 (x3 + v1)) fun v2 => ck x6 20 <| nm (α := Int) (if V 38 x6 = 2 then 1 else 0) fun v3 => nm (α := Int) (w32 (x4 + v3)) fun v4 => M_firsts_255 K21 s0 v2 v4 x5 x6 V
theorem WM_firsts_214 {Z : MZ} {d : Nat} (hX : MX Z cX4_firsts 9 none d 2) (hdd : 130 ≤ d) {K21 : Int → Int → Int → Int → Int → VV → Option (Int × VV)} (hK21 : ∀ x2 x3 x4 x5 x6 V, MG Z 21 [(0, (3, 0)), (2, (0, x2)), (3, (0, x3)), (4, (0, x4)), (5, (0, x5)), (6, (0, x6))] [] V (K21 x2 x3 x4 x5 x6 V)) : ∀ s0 x3 x4 x5 x6 V, MG Z 214 [(0, (3, 0)), (3, (0, x3)), (4, (0, x4)), (5, (0, x5)), (6, (0, x6))] [(0, s0)] V (M_firsts_214 K21 s0 x3 x4 x5 x6 V) := by
  intro s0 x3 x4 x5 x6 V
  unfold M_firsts_214
  refine m_istore_n hX (lv' := [(2, (0, s0)), (0, (3, 0)), (3, (0, x3)), (4, (0, x4)), (5, (0, x5)), (6, (0, x6))]) dX4_firsts_214 rfl (by decide) rfl ?_
  refine m_iload_n hX 2 dX4_firsts_215 rfl rfl ?_
  refine m_aload_n hX 1 dX4_firsts_216 rfl rfl ?_
  refine fg_38 hX dX4_firsts_217 ?_
  refine m_iload hX 5 dX4_firsts_220 rfl ?_
  refine al_38 hX dX4_firsts_222 ?_
  refine m_ic hX dX4_firsts_223 (by decide) (by decide) ?_
  refine m_join 232 (fun v1 => [(0, v1), (0, x3)]) (fun v1 => ?_) (fun hJ => ?_)
  · refine m_iadd hX dX4_firsts_232 ?_
    refine m_nmT fun v2 => ?_
    refine m_istore_n hX (lv' := [(3, (0, v2)), (2, (0, s0)), (0, (3, 0)), (4, (0, x4)), (5, (0, x5)), (6, (0, x6))]) dX4_firsts_233 rfl (by decide) rfl ?_
    refine m_iload hX 3 dX4_firsts_234 rfl ?_
    refine m_aload_n hX 2 dX4_firsts_236 rfl rfl ?_
    refine fg_38 hX dX4_firsts_237 ?_
    refine m_iload hX 5 dX4_firsts_240 rfl ?_
    refine al_38 hX dX4_firsts_242 ?_
    refine m_ic hX dX4_firsts_243 (by decide) (by decide) ?_
    refine m_join 252 (fun v3 => [(0, v3), (0, x4)]) (fun v3 => ?_) (fun hJ => ?_)
    · refine m_iadd hX dX4_firsts_252 ?_
      refine m_nmT fun v4 => ?_
      refine m_istore hX (lv' := [(4, (0, v4)), (3, (0, v2)), (2, (0, s0)), (0, (3, 0)), (5, (0, x5)), (6, (0, x6))]) dX4_firsts_253 (by decide) rfl ?_
      exact m_sub [3, 2, 1, 0, 4, 5] rfl (WM_firsts_255 hX hdd hK21 s0 v2 v4 x5 x6 V)
    · refine m_icmp_neF hX 251 dX4_firsts_244 (by decide) (fun _ => ?_) (fun _ => ?_)
      · refine m_ic hX dX4_firsts_251 (by decide) (by decide) ?_
        exact hJ _
      · refine m_ic hX dX4_firsts_247 (by decide) (by decide) ?_
        refine m_goto hX 252 dX4_firsts_248 (by decide) ?_
        exact hJ _
  · refine m_icmp_neF hX 231 dX4_firsts_224 (by decide) (fun _ => ?_) (fun _ => ?_)
    · refine m_ic hX dX4_firsts_231 (by decide) (by decide) ?_
      exact hJ _
    · refine m_ic hX dX4_firsts_227 (by decide) (by decide) ?_
      refine m_goto hX 232 dX4_firsts_228 (by decide) ?_
      exact hJ _
noncomputable def M_firsts_168 (K21 : Int → Int → Int → Int → Int → VV → Option (Int × VV)) (x2 : Int) (x3 : Int) (x4 : Int) (x5 : Int) (x6 : Int) (V : VV) : Option (Int × VV) := ck x6 20 <| mb (M_helpedBy x6 x2 V) fun r1 V2 => mb (M_costOf x6 (V 38 x6) r1 V2) fun r3 V4 => nm (α := Int) (w32 (x5 - r3)) fun v5 => ck x6 20 <| if V4 38 x6 = 0 then (M_firsts_214 K21 x2 x3 x4 v5 x6 V4) else (mb (M_kingsWith x6 x2 V4) fun r6 V7 => M_firsts_214 K21 r6 x3 x4 v5 x6 V7)
theorem WM_firsts_168 {Z : MZ} {d : Nat} (hX : MX Z cX4_firsts 9 none d 2) (hdd : 130 ≤ d) {K21 : Int → Int → Int → Int → Int → VV → Option (Int × VV)} (hK21 : ∀ x2 x3 x4 x5 x6 V, MG Z 21 [(0, (3, 0)), (2, (0, x2)), (3, (0, x3)), (4, (0, x4)), (5, (0, x5)), (6, (0, x6))] [] V (K21 x2 x3 x4 x5 x6 V)) : ∀ x2 x3 x4 x5 x6 V, MG Z 168 [(0, (3, 0)), (2, (0, x2)), (3, (0, x3)), (4, (0, x4)), (5, (0, x5)), (6, (0, x6))] [] V (M_firsts_168 K21 x2 x3 x4 x5 x6 V) := by
  intro x2 x3 x4 x5 x6 V
  unfold M_firsts_168
  refine m_iload hX 4 dX4_firsts_168 rfl ?_
  refine m_aload_n hX 0 dX4_firsts_170 rfl rfl ?_
  refine m_iload hX 5 dX4_firsts_171 rfl ?_
  refine m_aload_n hX 0 dX4_firsts_173 rfl rfl ?_
  refine fg_38 hX dX4_firsts_174 ?_
  refine m_iload hX 5 dX4_firsts_177 rfl ?_
  refine al_38 hX dX4_firsts_179 ?_
  refine m_aload_n hX 0 dX4_firsts_180 rfl rfl ?_
  refine m_iload hX 5 dX4_firsts_181 rfl ?_
  refine m_iload_n hX 1 dX4_firsts_183 rfl rfl ?_
  refine cl_helpedBy hX (by omega) (Nat.le_of_ble_eq_true rfl) dX4_firsts_184 fun r1 V2 => ?_
  refine cl_costOf hX (by omega) (Nat.le_of_ble_eq_true rfl) dX4_firsts_187 fun r3 V4 => ?_
  refine m_isub hX dX4_firsts_190 ?_
  refine m_nmT fun v5 => ?_
  refine m_istore hX (lv' := [(5, (0, v5)), (0, (3, 0)), (2, (0, x2)), (3, (0, x3)), (4, (0, x4)), (6, (0, x6))]) dX4_firsts_191 (by decide) rfl ?_
  refine m_aload_n hX 1 dX4_firsts_193 rfl rfl ?_
  refine fg_38 hX dX4_firsts_194 ?_
  refine m_iload hX 5 dX4_firsts_197 rfl ?_
  refine al_38 hX dX4_firsts_199 ?_
  refine m_if_ne hX 207 dX4_firsts_200 (by decide) (fun _ => ?_) (fun _ => ?_)
  · refine m_aload_n hX 1 dX4_firsts_207 rfl rfl ?_
    refine m_iload hX 5 dX4_firsts_208 rfl ?_
    refine m_iload_n hX 2 dX4_firsts_210 rfl rfl ?_
    refine cl_kingsWith hX (by omega) (Nat.le_of_ble_eq_true rfl) dX4_firsts_211 fun r6 V7 => ?_
    exact m_sub [1, 3, 4, 0, 5] rfl (WM_firsts_214 hX hdd hK21 r6 x3 x4 v5 x6 V7)
  · refine m_iload_n hX 2 dX4_firsts_203 rfl rfl ?_
    refine m_goto hX 214 dX4_firsts_204 (by decide) ?_
    exact m_sub [1, 3, 4, 0, 5] rfl (WM_firsts_214 hX hdd hK21 x2 x3 x4 v5 x6 V4)
noncomputable def M_firsts_53 (K21 : Int → Int → Int → Int → Int → VV → Option (Int × VV)) : Nat → Int → Int → Int → Int → Int → Int → VV → Option (Int × VV)
  | 0, _, _, _, _, _, _, _ => none
  | n + 1, x2, x3, x4, x5, x6, x7, V => if 3 ≤ x7 then (M_firsts_168 K21 x2 x3 x4 x5 x6 V) else (ck x6 20 <| if V 38 x6 = (-1) then (mb (M_helpedBy x6 x2 V) fun r1 V2 => mb (M_costOf x6 x7 r1 V2) fun r3 V4 => if x5 < r3 then (M_firsts_162 K21 (M_firsts_53 K21 n) x2 x3 x4 x5 x6 x7 V4) else (if x7 = 0 then (M_firsts_115 K21 (M_firsts_53 K21 n) (w32 (x6 + 1)) x2 x2 x3 x4 x5 x6 x7 r3 V4) else (mb (M_kingsWith x6 x2 V4) fun r5 V6 => M_firsts_115 K21 (M_firsts_53 K21 n) (w32 (x6 + 1)) r5 x2 x3 x4 x5 x6 x7 r3 V6))) else (M_firsts_168 K21 x2 x3 x4 x5 x6 V))
theorem WM_firsts_53 {Z : MZ} {d : Nat} (hX : MX Z cX4_firsts 9 none d 2) (hdd : 130 ≤ d) {K21 : Int → Int → Int → Int → Int → VV → Option (Int × VV)} (hK21 : ∀ x2 x3 x4 x5 x6 V, MG Z 21 [(0, (3, 0)), (2, (0, x2)), (3, (0, x3)), (4, (0, x4)), (5, (0, x5)), (6, (0, x6))] [] V (K21 x2 x3 x4 x5 x6 V)) : ∀ n x2 x3 x4 x5 x6 x7 V, MG Z 53 [(0, (3, 0)), (2, (0, x2)), (3, (0, x3)), (4, (0, x4)), (5, (0, x5)), (6, (0, x6)), (7, (0, x7))] [] V (M_firsts_53 K21 n x2 x3 x4 x5 x6 x7 V) := by
  intro n
  induction n with
  | zero => intro x2 x3 x4 x5 x6 x7 V; exact m_none
  | succ n ih =>
    intro x2 x3 x4 x5 x6 x7 V
    rw [M_firsts_53]
    refine m_iload hX 6 dX4_firsts_53 rfl ?_
    refine m_ic hX dX4_firsts_55 (by decide) (by decide) ?_
    refine m_icmp_ge hX 168 dX4_firsts_56 (by decide) (fun _ => ?_) (fun _ => ?_)
    · exact m_sub [0, 1, 2, 3, 4, 5] rfl (WM_firsts_168 hX hdd hK21 x2 x3 x4 x5 x6 V)
    · refine m_aload_n hX 0 dX4_firsts_59 rfl rfl ?_
      refine fg_38 hX dX4_firsts_60 ?_
      refine m_iload hX 5 dX4_firsts_63 rfl ?_
      refine al_38 hX dX4_firsts_65 ?_
      refine m_ic hX dX4_firsts_66 (by decide) (by decide) ?_
      refine m_icmp_ne hX 168 dX4_firsts_67 (by decide) (fun _ => ?_) (fun _ => ?_)
      · exact m_sub [0, 1, 2, 3, 4, 5] rfl (WM_firsts_168 hX hdd hK21 x2 x3 x4 x5 x6 V)
      · refine m_aload_n hX 0 dX4_firsts_70 rfl rfl ?_
        refine m_iload hX 5 dX4_firsts_71 rfl ?_
        refine m_iload hX 6 dX4_firsts_73 rfl ?_
        refine m_aload_n hX 0 dX4_firsts_75 rfl rfl ?_
        refine m_iload hX 5 dX4_firsts_76 rfl ?_
        refine m_iload_n hX 1 dX4_firsts_78 rfl rfl ?_
        refine cl_helpedBy hX (by omega) (Nat.le_of_ble_eq_true rfl) dX4_firsts_79 fun r1 V2 => ?_
        refine cl_costOf hX (by omega) (Nat.le_of_ble_eq_true rfl) dX4_firsts_82 fun r3 V4 => ?_
        refine m_istore hX (lv' := [(8, (0, r3)), (0, (3, 0)), (2, (0, x2)), (3, (0, x3)), (4, (0, x4)), (5, (0, x5)), (6, (0, x6)), (7, (0, x7))]) dX4_firsts_85 (by decide) rfl ?_
        refine m_iload hX 0 dX4_firsts_87 rfl ?_
        refine m_iload hX 5 dX4_firsts_89 rfl ?_
        refine m_icmp_gt hX 162 dX4_firsts_91 (by decide) (fun _ => ?_) (fun _ => ?_)
        · exact m_sub [1, 2, 3, 4, 5, 6, 7] rfl (WM_firsts_162 hX hdd hK21 ih x2 x3 x4 x5 x6 x7 V4)
        · refine m_aload_n hX 1 dX4_firsts_94 rfl rfl ?_
          refine m_iload hX 6 dX4_firsts_95 rfl ?_
          refine m_ic hX dX4_firsts_97 (by decide) (by decide) ?_
          refine m_iadd hX dX4_firsts_98 ?_
          refine m_iload hX 7 dX4_firsts_99 rfl ?_
          refine m_if_ne hX 108 dX4_firsts_101 (by decide) (fun _ => ?_) (fun _ => ?_)
          · refine m_aload_n hX 1 dX4_firsts_108 rfl rfl ?_
            refine m_iload hX 6 dX4_firsts_109 rfl ?_
            refine m_iload_n hX 2 dX4_firsts_111 rfl rfl ?_
            refine cl_kingsWith hX (by omega) (Nat.le_of_ble_eq_true rfl) dX4_firsts_112 fun r5 V6 => ?_
            exact m_sub [1, 2, 3, 4, 5, 6, 7, 0] rfl (WM_firsts_115 hX hdd hK21 ih (w32 (x6 + 1)) r5 x2 x3 x4 x5 x6 x7 r3 V6)
          · refine m_iload_n hX 2 dX4_firsts_104 rfl rfl ?_
            refine m_goto hX 115 dX4_firsts_105 (by decide) ?_
            exact m_sub [1, 2, 3, 4, 5, 6, 7, 0] rfl (WM_firsts_115 hX hdd hK21 ih (w32 (x6 + 1)) x2 x2 x3 x4 x5 x6 x7 r3 V4)
noncomputable def M_firsts_21 : Nat → Int → Int → Int → Int → Int → VV → Option (Int × VV)
  | 0, _, _, _, _, _, _ => none
  | n + 1, x2, x3, x4, x5, x6, V => mb (M_questions V) fun r1 V2 => if r1 ≤ x6 then (some (0, V2)) else (ck x6 20 <| nm (vup V2 38 x6 (-1)) fun V3 => mb (M_isBowl x6 V3) fun r4 V5 => if r4 = 0 then (M_firsts_255 (M_firsts_21 n) x2 x3 x4 x5 x6 V5) else (M_firsts_53 (M_firsts_21 n) FU x2 x3 x4 x5 x6 0 V5))
theorem WM_firsts_21 {Z : MZ} {d : Nat} (hX : MX Z cX4_firsts 9 none d 2) (hdd : 130 ≤ d) : ∀ n x2 x3 x4 x5 x6 V, MG Z 21 [(0, (3, 0)), (2, (0, x2)), (3, (0, x3)), (4, (0, x4)), (5, (0, x5)), (6, (0, x6))] [] V (M_firsts_21 n x2 x3 x4 x5 x6 V) := by
  intro n
  induction n with
  | zero => intro x2 x3 x4 x5 x6 V; exact m_none
  | succ n ih =>
    intro x2 x3 x4 x5 x6 V
    rw [M_firsts_21]
    refine m_iload hX 5 dX4_firsts_21 rfl ?_
    refine m_aload_n hX 0 dX4_firsts_23 rfl rfl ?_
    refine cl_questions hX (by omega) (Nat.le_of_ble_eq_true rfl) dX4_firsts_24 fun r1 V2 => ?_
    refine m_icmp_ge hX 261 dX4_firsts_27 (by decide) (fun _ => ?_) (fun _ => ?_)
    · exact m_vret hX rfl dX4_firsts_261
    · refine m_aload_n hX 0 dX4_firsts_30 rfl rfl ?_
      refine fg_38 hX dX4_firsts_31 ?_
      refine m_iload hX 5 dX4_firsts_34 rfl ?_
      refine m_ic hX dX4_firsts_36 (by decide) (by decide) ?_
      refine as_38 hX dX4_firsts_37 fun V3 => ?_
      refine m_aload_n hX 0 dX4_firsts_38 rfl rfl ?_
      refine m_iload hX 5 dX4_firsts_39 rfl ?_
      refine cl_isBowl hX (by omega) (Nat.le_of_ble_eq_true rfl) dX4_firsts_41 fun r4 V5 => ?_
      refine m_if_ne hX 50 dX4_firsts_44 (by decide) (fun _ => ?_) (fun _ => ?_)
      · refine m_ic hX dX4_firsts_50 (by decide) (by decide) ?_
        refine m_istore hX (lv' := [(7, (0, 0)), (0, (3, 0)), (2, (0, x2)), (3, (0, x3)), (4, (0, x4)), (5, (0, x5)), (6, (0, x6))]) dX4_firsts_51 (by decide) rfl ?_
        exact m_sub [1, 2, 3, 4, 5, 6, 0] rfl (WM_firsts_53 hX hdd ih FU x2 x3 x4 x5 x6 0 V5)
      · refine m_goto hX 255 dX4_firsts_47 (by decide) ?_
        exact m_sub [0, 1, 2, 3, 4, 5] rfl (WM_firsts_255 hX hdd ih x2 x3 x4 x5 x6 V5)
noncomputable def M_firsts (x1 : Int) (V : VV) : Option (Int × VV) := mb (M_bests x1 V) fun r1 V2 => nm (α := Int) (V2 37 0) fun v3 => M_firsts_21 FU 0 0 0 v3 0 V2
theorem WM_firsts (l : Launch) {d : Nat} (hdd : 130 ≤ d) (x1 : Int) (V : VV) (hV : okV V) (ho : oks [(0, x1)]) (fin : Int × VV) (hf : M_firsts x1 V = some fin) : mSpec l yX4_firsts cX4_firsts 9 none d 2 [(3, 0), (0, x1)] V fin := by
  refine m_enter (lv := [(0, (3, 0)), (1, (0, x1))]) (by decide) rfl (Nat.le_of_ble_eq_true rfl) rfl (fun Z hZ hX => ?_) hV (ho.c (okA.t 0)) fin hf
  unfold M_firsts
  refine m_aload_n hX 0 dX4_firsts_0 rfl rfl ?_
  refine m_iload_n hX 1 dX4_firsts_1 rfl rfl ?_
  refine cl_bests hX (by omega) (Nat.le_of_ble_eq_true rfl) dX4_firsts_2 fun r1 V2 => ?_
  refine m_ic hX dX4_firsts_5 (by decide) (by decide) ?_
  refine m_istore_n hX (lv' := [(2, (0, 0)), (0, (3, 0)), (1, (0, x1))]) dX4_firsts_6 rfl (by decide) rfl ?_
  refine m_ic hX dX4_firsts_7 (by decide) (by decide) ?_
  refine m_istore_n hX (lv' := [(3, (0, 0)), (2, (0, 0)), (0, (3, 0)), (1, (0, x1))]) dX4_firsts_8 rfl (by decide) rfl ?_
  refine m_ic hX dX4_firsts_9 (by decide) (by decide) ?_
  refine m_istore hX (lv' := [(4, (0, 0)), (3, (0, 0)), (2, (0, 0)), (0, (3, 0)), (1, (0, x1))]) dX4_firsts_10 (by decide) rfl ?_
  refine m_aload_n hX 3 dX4_firsts_12 rfl rfl ?_
  refine fg_37 hX dX4_firsts_13 ?_
  refine m_nmT fun v3 => ?_
  refine m_istore hX (lv' := [(5, (0, v3)), (4, (0, 0)), (3, (0, 0)), (2, (0, 0)), (0, (3, 0)), (1, (0, x1))]) dX4_firsts_16 (by decide) rfl ?_
  refine m_ic hX dX4_firsts_18 (by decide) (by decide) ?_
  refine m_istore hX (lv' := [(6, (0, 0)), (5, (0, v3)), (4, (0, 0)), (3, (0, 0)), (2, (0, 0)), (0, (3, 0)), (1, (0, x1))]) dX4_firsts_19 (by decide) rfl ?_
  exact m_sub [5, 4, 3, 2, 1, 0] rfl (WM_firsts_21 hX hdd FU 0 0 0 v3 0 V2)
theorem cl_firsts {Z : MZ} {cc : ByteArray} {nL : Nat} {ret : Option FieldType} {d rk : Nat} {pc : Nat} {lv : List (Nat × AV)} {st : List AV} {V : VV} {g : Int → VV → Option (Int × VV)} (hX : MX Z cc nL ret d rk) {a0 : Int} (hdd : 131 ≤ d) (hcat : (st.map fun v => if v.1 = 1 then 2 else 1).sum ≤ 8) (hdg : decode cc pc = .ok (.invokevirtual 413, 3)) (kk : ∀ r V1, MG Z (pc + 3) lv st V1 (g r V1)) : MG Z pc lv ((0, a0) :: (3, 0) :: st) V (mb (M_firsts a0 V) g) :=
  m_callVv hX [(0, a0)] 1 (fun hV ho fin hf => WM_firsts (zL Z) (Nat.le_refl 130) a0 V hV ho fin hf) (lw_V q2217 q2219 qs111 q131 q2220) (by decide +kernel) rfl (by omega) (by decide) rfl hcat hdg kk
noncomputable def M_level (x1 : Int) (x2 : Int) (V : VV) : Option (Int × VV) := mb (M_lies x1 0 400 V) fun r1 V2 => if r1 = 0 then (some ((-1), V2)) else (mb (M_isQuestion x2 V2) fun r3 V4 => if r3 = 0 then (some ((-1), V4)) else (mb (M_firsts x1 V4) fun r5 V6 => ck x2 20 <| some (V6 38 x2, V6)))
theorem WM_level (l : Launch) {d : Nat} (hdd : 131 ≤ d) (x1 : Int) (x2 : Int) (V : VV) (hV : okV V) (ho : oks [(0, x1), (0, x2)]) (fin : Int × VV) (hf : M_level x1 x2 V = some fin) : mSpec l yX4_level cX4_level 3 (some .int) d 0 [(3, 0), (0, x1), (0, x2)] V fin := by
  refine m_enter (lv := [(0, (3, 0)), (1, (0, x1)), (2, (0, x2))]) (by decide) rfl (Nat.le_of_ble_eq_true rfl) rfl (fun Z hZ hX => ?_) hV (ho.c (okA.t 0)) fin hf
  unfold M_level
  refine m_iload_n hX 1 dX4_level_0 rfl rfl ?_
  refine m_ic hX dX4_level_1 (by decide) (by decide) ?_
  refine m_sp hX dX4_level_2 (by decide) (by decide) ?_
  refine cl_lies hX (by omega) (Nat.le_of_ble_eq_true rfl) dX4_level_5 fun r1 V2 => ?_
  refine m_if_eq hX 19 dX4_level_8 (by decide) (fun _ => ?_) (fun _ => ?_)
  · refine m_ic hX dX4_level_19 (by decide) (by decide) ?_
    exact m_iret hX rfl dX4_level_20
  · refine m_aload_n hX 0 dX4_level_11 rfl rfl ?_
    refine m_iload_n hX 2 dX4_level_12 rfl rfl ?_
    refine cl_isQuestion hX (by omega) (Nat.le_of_ble_eq_true rfl) dX4_level_13 fun r3 V4 => ?_
    refine m_if_ne hX 21 dX4_level_16 (by decide) (fun _ => ?_) (fun _ => ?_)
    · refine m_aload_n hX 0 dX4_level_21 rfl rfl ?_
      refine m_iload_n hX 1 dX4_level_22 rfl rfl ?_
      refine cl_firsts hX (by omega) (Nat.le_of_ble_eq_true rfl) dX4_level_23 fun r5 V6 => ?_
      refine m_aload_n hX 0 dX4_level_26 rfl rfl ?_
      refine fg_38 hX dX4_level_27 ?_
      refine m_iload_n hX 2 dX4_level_30 rfl rfl ?_
      refine al_38 hX dX4_level_31 ?_
      exact m_iret hX rfl dX4_level_32
    · refine m_ic hX dX4_level_19 (by decide) (by decide) ?_
      exact m_iret hX rfl dX4_level_20
-- level: not called inside
noncomputable def M_enough_76 (K21 : Int → Int → Int → VV → Option (Int × VV)) (x1 : Int) (x2 : Int) (x3 : Int) (V : VV) : Option (Int × VV) := nm (w32 (x3 + 1)) fun v1 => K21 x1 x2 v1 V
theorem WM_enough_76 {Z : MZ} {d : Nat} (hX : MX Z cX4_enough 4 (some .int) d 0) (hdd : 129 ≤ d) {K21 : Int → Int → Int → VV → Option (Int × VV)} (hK21 : ∀ x1 x2 x3 V, MG Z 21 [(0, (3, 0)), (1, (0, x1)), (2, (0, x2)), (3, (0, x3))] [] V (K21 x1 x2 x3 V)) : ∀ x1 x2 x3 V, MG Z 76 [(0, (3, 0)), (1, (0, x1)), (2, (0, x2)), (3, (0, x3))] [] V (M_enough_76 K21 x1 x2 x3 V) := by
  intro x1 x2 x3 V
  unfold M_enough_76
  refine m_iinc hX 3 dX4_enough_76 rfl (by decide) fun v1 => m_lv (lv' := [(3, (0, v1)), (0, (3, 0)), (1, (0, x1)), (2, (0, x2))]) rfl ?_
  refine m_goto hX 21 dX4_enough_79 (by decide) ?_
  exact m_sub [1, 2, 3, 0] rfl (hK21 x1 x2 v1 V)
noncomputable def M_enough_82 (x2 : Int) (V : VV) : Option (Int × VV) := nm (α := Int) (if x2 ≤ 400 then x2 else (-1)) fun v1 => some (v1, V)
theorem WM_enough_82 {Z : MZ} {d : Nat} (hX : MX Z cX4_enough 4 (some .int) d 0) (hdd : 129 ≤ d) : ∀ x2 V, MG Z 82 [(2, (0, x2))] [] V (M_enough_82 x2 V) := by
  intro x2 V
  unfold M_enough_82
  refine m_iload_n hX 0 dX4_enough_82 rfl rfl ?_
  refine m_sp hX dX4_enough_83 (by decide) (by decide) ?_
  refine m_join 94 (fun v1 => [(0, v1)]) (fun v1 => ?_) (fun hJ => ?_)
  · exact m_iret hX rfl dX4_enough_94
  · refine m_icmp_leF hX 93 dX4_enough_86 (by decide) (fun _ => ?_) (fun _ => ?_)
    · refine m_iload_n hX 0 dX4_enough_93 rfl rfl ?_
      exact hJ _
    · refine m_ic hX dX4_enough_89 (by decide) (by decide) ?_
      refine m_goto hX 94 dX4_enough_90 (by decide) ?_
      exact hJ _
noncomputable def M_enough_21 : Nat → Int → Int → Int → VV → Option (Int × VV)
  | 0, _, _, _, _ => none
  | n + 1, x1, x2, x3, V => if 441 ≤ x3 then (M_enough_82 x2 V) else (mb (M_bowl V) fun r1 V2 => if r1 < w32 ((w32 (x3.tdiv 21)) + (x3.tmod 21)) then (M_enough_76 (M_enough_21 n) x1 x2 x3 V2) else (ck x3 441 <| if w64 ((V2 32 x3) * 100) < w64 ((V2 34 0) * x1) then (M_enough_76 (M_enough_21 n) x1 x2 x3 V2) else (ck x3 148176 <| mb (M_lesser x2 (V2 31 x3) V2) fun r3 V4 => M_enough_76 (M_enough_21 n) x1 r3 x3 V4)))
theorem WM_enough_21 {Z : MZ} {d : Nat} (hX : MX Z cX4_enough 4 (some .int) d 0) (hdd : 129 ≤ d) : ∀ n x1 x2 x3 V, MG Z 21 [(0, (3, 0)), (1, (0, x1)), (2, (0, x2)), (3, (0, x3))] [] V (M_enough_21 n x1 x2 x3 V) := by
  intro n
  induction n with
  | zero => intro x1 x2 x3 V; exact m_none
  | succ n ih =>
    intro x1 x2 x3 V
    rw [M_enough_21]
    refine m_iload_n hX 3 dX4_enough_21 rfl rfl ?_
    refine m_sp hX dX4_enough_22 (by decide) (by decide) ?_
    refine m_icmp_ge hX 82 dX4_enough_25 (by decide) (fun _ => ?_) (fun _ => ?_)
    · exact m_sub [2] rfl (WM_enough_82 hX hdd x2 V)
    · refine m_iload_n hX 3 dX4_enough_28 rfl rfl ?_
      refine m_bp hX dX4_enough_29 (by decide) (by decide) ?_
      refine m_nz (b := 21) (by decide) (m_idiv hX dX4_enough_31 ?_)
      refine m_iload_n hX 3 dX4_enough_32 rfl rfl ?_
      refine m_bp hX dX4_enough_33 (by decide) (by decide) ?_
      refine m_nz (b := 21) (by decide) (m_irem hX dX4_enough_35 ?_)
      refine m_iadd hX dX4_enough_36 ?_
      refine m_aload_n hX 0 dX4_enough_37 rfl rfl ?_
      refine cl_bowl hX (by omega) (Nat.le_of_ble_eq_true rfl) dX4_enough_38 fun r1 V2 => ?_
      refine m_icmp_gt hX 76 dX4_enough_41 (by decide) (fun _ => ?_) (fun _ => ?_)
      · exact m_sub [0, 1, 2, 3] rfl (WM_enough_76 hX hdd ih x1 x2 x3 V2)
      · refine m_aload_n hX 0 dX4_enough_44 rfl rfl ?_
        refine fg_32 hX dX4_enough_45 ?_
        refine m_iload_n hX 3 dX4_enough_48 rfl rfl ?_
        refine al_32 hX dX4_enough_49 ?_
        refine m_ldc2 hX (n := 100) q2125 dX4_enough_50 (by decide +kernel) ⟨by decide, by decide⟩ ?_
        refine m_lmul hX dX4_enough_53 ?_
        refine m_aload_n hX 0 dX4_enough_54 rfl rfl ?_
        refine fg_34 hX dX4_enough_55 ?_
        refine m_iload_n hX 1 dX4_enough_58 rfl rfl ?_
        refine m_i2l hX dX4_enough_59 ?_
        refine m_lmul hX dX4_enough_60 ?_
        refine m_lcmp_lt hX 76 dX4_enough_61 dX4_enough_62 (by decide) (fun _ => ?_) (fun _ => ?_)
        · exact m_sub [0, 1, 2, 3] rfl (WM_enough_76 hX hdd ih x1 x2 x3 V2)
        · refine m_iload_n hX 2 dX4_enough_65 rfl rfl ?_
          refine m_aload_n hX 0 dX4_enough_66 rfl rfl ?_
          refine fg_31 hX dX4_enough_67 ?_
          refine m_iload_n hX 3 dX4_enough_70 rfl rfl ?_
          refine al_31 hX dX4_enough_71 ?_
          refine cl_lesser hX (by omega) (Nat.le_of_ble_eq_true rfl) dX4_enough_72 fun r3 V4 => ?_
          refine m_istore_n hX (lv' := [(2, (0, r3)), (0, (3, 0)), (1, (0, x1)), (3, (0, x3))]) dX4_enough_75 rfl (by decide) rfl ?_
          exact m_sub [1, 2, 0, 3] rfl (WM_enough_76 hX hdd ih x1 r3 x3 V4)
noncomputable def M_enough (x1 : Int) (V : VV) : Option (Int × VV) := mb (M_lies x1 0 100 V) fun r1 V2 => if r1 = 0 then (some ((-1), V2)) else (mb (M_schemes V2) fun r3 V4 => M_enough_21 FU x1 1000000 0 V4)
theorem WM_enough (l : Launch) {d : Nat} (hdd : 129 ≤ d) (x1 : Int) (V : VV) (hV : okV V) (ho : oks [(0, x1)]) (fin : Int × VV) (hf : M_enough x1 V = some fin) : mSpec l yX4_enough cX4_enough 4 (some .int) d 0 [(3, 0), (0, x1)] V fin := by
  refine m_enter (lv := [(0, (3, 0)), (1, (0, x1))]) (by decide) rfl (Nat.le_of_ble_eq_true rfl) rfl (fun Z hZ hX => ?_) hV (ho.c (okA.t 0)) fin hf
  unfold M_enough
  refine m_iload_n hX 1 dX4_enough_0 rfl rfl ?_
  refine m_ic hX dX4_enough_1 (by decide) (by decide) ?_
  refine m_bp hX dX4_enough_2 (by decide) (by decide) ?_
  refine cl_lies hX (by omega) (Nat.le_of_ble_eq_true rfl) dX4_enough_4 fun r1 V2 => ?_
  refine m_if_ne hX 12 dX4_enough_7 (by decide) (fun _ => ?_) (fun _ => ?_)
  · refine m_aload_n hX 0 dX4_enough_12 rfl rfl ?_
    refine cl_schemes hX (by omega) (Nat.le_of_ble_eq_true rfl) dX4_enough_13 fun r3 V4 => ?_
    refine m_ldc hX (n := 1000000) q1963 dX4_enough_16 (by decide +kernel) ⟨by decide, by decide⟩ ?_
    refine m_istore_n hX (lv' := [(2, (0, 1000000)), (0, (3, 0)), (1, (0, x1))]) dX4_enough_18 rfl (by decide) rfl ?_
    refine m_ic hX dX4_enough_19 (by decide) (by decide) ?_
    refine m_istore_n hX (lv' := [(3, (0, 0)), (2, (0, 1000000)), (0, (3, 0)), (1, (0, x1))]) dX4_enough_20 rfl (by decide) rfl ?_
    exact m_sub [2, 3, 1, 0] rfl (WM_enough_21 hX hdd FU x1 1000000 0 V4)
  · refine m_ic hX dX4_enough_10 (by decide) (by decide) ?_
    exact m_iret hX rfl dX4_enough_11
-- enough: not called inside
noncomputable def M_lesson (x1 : Int) (x2 : Int) (V : VV) : Option (Int × VV) := mb (M_lies x1 0 19 V) fun r1 V2 => if r1 = 0 then (mb (M_refuses (-1) V2) fun r15 V16 => some (r15, V16)) else (mb (M_isQuestion x2 V2) fun r3 V4 => if r3 = 0 then (mb (M_refuses (-2) V4) fun r13 V14 => some (r13, V14)) else (nm (α := Int) (V4 3 391) fun v5 => if v5 = 120 then (mb (M_refuses (-5) V4) fun r11 V12 => some (r11, V12)) else (ck (w32 (107 + (w32 (2 * v5)))) 5201 <| nm (vup V4 3 (w32 (107 + (w32 (2 * v5)))) x1) fun V6 => ck (w32 ((w32 (107 + (w32 (2 * v5)))) + 1)) 5201 <| nm (vup V6 3 (w32 ((w32 (107 + (w32 (2 * v5)))) + 1)) x2) fun V7 => nm (vup V7 3 391 (w32 ((V7 3 391) + 1))) fun V8 => mb (M_good (w32 (v5 + 1)) V8) fun r9 V10 => some (r9, V10))))
theorem WM_lesson (l : Launch) {d : Nat} (hdd : 3 ≤ d) (x1 : Int) (x2 : Int) (V : VV) (hV : okV V) (ho : oks [(0, x1), (0, x2)]) (fin : Int × VV) (hf : M_lesson x1 x2 V = some fin) : mSpec l yX4_lesson cX4_lesson 4 (some .int) d 0 [(3, 0), (0, x1), (0, x2)] V fin := by
  refine m_enter (lv := [(0, (3, 0)), (1, (0, x1)), (2, (0, x2))]) (by decide) rfl (Nat.le_of_ble_eq_true rfl) rfl (fun Z hZ hX => ?_) hV (ho.c (okA.t 0)) fin hf
  unfold M_lesson
  refine m_iload_n hX 1 dX4_lesson_0 rfl rfl ?_
  refine m_ic hX dX4_lesson_1 (by decide) (by decide) ?_
  refine m_bp hX dX4_lesson_2 (by decide) (by decide) ?_
  refine cl_lies hX (by omega) (Nat.le_of_ble_eq_true rfl) dX4_lesson_4 fun r1 V2 => ?_
  refine m_if_ne hX 16 dX4_lesson_7 (by decide) (fun _ => ?_) (fun _ => ?_)
  · refine m_aload_n hX 0 dX4_lesson_16 rfl rfl ?_
    refine m_iload_n hX 2 dX4_lesson_17 rfl rfl ?_
    refine cl_isQuestion hX (by omega) (Nat.le_of_ble_eq_true rfl) dX4_lesson_18 fun r3 V4 => ?_
    refine m_if_ne hX 31 dX4_lesson_21 (by decide) (fun _ => ?_) (fun _ => ?_)
    · refine m_aload_n hX 0 dX4_lesson_31 rfl rfl ?_
      refine fg_3 hX dX4_lesson_32 ?_
      refine m_sp hX dX4_lesson_35 (by decide) (by decide) ?_
      refine m_in (by decide) (by decide) (al_3 hX dX4_lesson_38 ?_)
      refine m_nmT fun v5 => ?_
      refine m_istore_n hX (lv' := [(3, (0, v5)), (0, (3, 0)), (1, (0, x1)), (2, (0, x2))]) dX4_lesson_39 rfl (by decide) rfl ?_
      refine m_iload_n hX 0 dX4_lesson_40 rfl rfl ?_
      refine m_bp hX dX4_lesson_41 (by decide) (by decide) ?_
      refine m_icmp_ne hX 53 dX4_lesson_43 (by decide) (fun _ => ?_) (fun _ => ?_)
      · refine m_aload_n hX 1 dX4_lesson_53 rfl rfl ?_
        refine fg_3 hX dX4_lesson_54 ?_
        refine m_bp hX dX4_lesson_57 (by decide) (by decide) ?_
        refine m_ic hX dX4_lesson_59 (by decide) (by decide) ?_
        refine m_iload_n hX 0 dX4_lesson_60 rfl rfl ?_
        refine m_imul hX dX4_lesson_61 ?_
        refine m_iadd hX dX4_lesson_62 ?_
        refine m_iload_n hX 2 dX4_lesson_63 rfl rfl ?_
        refine as_3 hX dX4_lesson_64 fun V6 => ?_
        refine m_aload_n hX 1 dX4_lesson_65 rfl rfl ?_
        refine fg_3 hX dX4_lesson_66 ?_
        refine m_bp hX dX4_lesson_69 (by decide) (by decide) ?_
        refine m_ic hX dX4_lesson_71 (by decide) (by decide) ?_
        refine m_iload_n hX 0 dX4_lesson_72 rfl rfl ?_
        refine m_imul hX dX4_lesson_73 ?_
        refine m_iadd hX dX4_lesson_74 ?_
        refine m_ic hX dX4_lesson_75 (by decide) (by decide) ?_
        refine m_iadd hX dX4_lesson_76 ?_
        refine m_iload_n hX 3 dX4_lesson_77 rfl rfl ?_
        refine as_3 hX dX4_lesson_78 fun V7 => ?_
        refine m_aload_n hX 1 dX4_lesson_79 rfl rfl ?_
        refine fg_3 hX dX4_lesson_80 ?_
        refine m_sp hX dX4_lesson_83 (by decide) (by decide) ?_
        refine m_dup2 hX dX4_lesson_86 rfl rfl ?_
        refine m_in (by decide) (by decide) (al_3 hX dX4_lesson_87 ?_)
        refine m_ic hX dX4_lesson_88 (by decide) (by decide) ?_
        refine m_iadd hX dX4_lesson_89 ?_
        refine m_in (by decide) (by decide) (as_3 hX dX4_lesson_90 fun V8 => ?_)
        refine m_aload_n hX 1 dX4_lesson_91 rfl rfl ?_
        refine m_iload_n hX 0 dX4_lesson_92 rfl rfl ?_
        refine m_ic hX dX4_lesson_93 (by decide) (by decide) ?_
        refine m_iadd hX dX4_lesson_94 ?_
        refine cl_good hX (by omega) (Nat.le_of_ble_eq_true rfl) dX4_lesson_95 fun r9 V10 => ?_
        exact m_iret hX rfl dX4_lesson_98
      · refine m_aload_n hX 1 dX4_lesson_46 rfl rfl ?_
        refine m_bp hX dX4_lesson_47 (by decide) (by decide) ?_
        refine cl_refuses hX (by omega) (Nat.le_of_ble_eq_true rfl) dX4_lesson_49 fun r11 V12 => ?_
        exact m_iret hX rfl dX4_lesson_52
    · refine m_aload_n hX 0 dX4_lesson_24 rfl rfl ?_
      refine m_bp hX dX4_lesson_25 (by decide) (by decide) ?_
      refine cl_refuses hX (by omega) (Nat.le_of_ble_eq_true rfl) dX4_lesson_27 fun r13 V14 => ?_
      exact m_iret hX rfl dX4_lesson_30
  · refine m_aload_n hX 0 dX4_lesson_10 rfl rfl ?_
    refine m_ic hX dX4_lesson_11 (by decide) (by decide) ?_
    refine cl_refuses hX (by omega) (Nat.le_of_ble_eq_true rfl) dX4_lesson_12 fun r15 V16 => ?_
    exact m_iret hX rfl dX4_lesson_15
-- lesson: not called inside
noncomputable def M_clear (V : VV) : Option (Int × VV) := nm (α := Int) (V 3 391) fun v1 => nm (vup V 3 391 0) fun V2 => nm (vup V2 1 0 (w32 ((V2 1 0) + 1))) fun V3 => some (v1, V3)
theorem WM_clear (l : Launch) {d : Nat} (hdd : 1 ≤ d) (V : VV) (hV : okV V) (ho : oks []) (fin : Int × VV) (hf : M_clear V = some fin) : mSpec l yX4_clear cX4_clear 2 (some .int) d 0 [(3, 0)] V fin := by
  refine m_enter (lv := [(0, (3, 0))]) (by decide) rfl (Nat.le_of_ble_eq_true rfl) rfl (fun Z hZ hX => ?_) hV (ho.c (okA.t 0)) fin hf
  unfold M_clear
  refine m_aload_n hX 0 dX4_clear_0 rfl rfl ?_
  refine fg_3 hX dX4_clear_1 ?_
  refine m_sp hX dX4_clear_4 (by decide) (by decide) ?_
  refine m_in (by decide) (by decide) (al_3 hX dX4_clear_7 ?_)
  refine m_nmT fun v1 => ?_
  refine m_istore_n hX (lv' := [(1, (0, v1)), (0, (3, 0))]) dX4_clear_8 rfl (by decide) rfl ?_
  refine m_aload_n hX 1 dX4_clear_9 rfl rfl ?_
  refine fg_3 hX dX4_clear_10 ?_
  refine m_sp hX dX4_clear_13 (by decide) (by decide) ?_
  refine m_ic hX dX4_clear_16 (by decide) (by decide) ?_
  refine m_in (by decide) (by decide) (as_3 hX dX4_clear_17 fun V2 => ?_)
  refine m_aload_n hX 1 dX4_clear_18 rfl rfl ?_
  refine m_dup hX dX4_clear_19 rfl ?_
  refine fg_1 hX dX4_clear_20 ?_
  refine m_ic hX dX4_clear_23 (by decide) (by decide) ?_
  refine m_iadd hX dX4_clear_24 ?_
  refine fp_1 hX dX4_clear_25 fun V3 => ?_
  refine m_iload_n hX 0 dX4_clear_28 rfl rfl ?_
  exact m_iret hX rfl dX4_clear_29
-- clear: not called inside
noncomputable def M_isHelped_59 (K4 : Int → Int → Int → VV → Option (Int × VV)) (s0 : Int) (x1 : Int) (x3 : Int) (V : VV) : Option (Int × VV) := nm (w32 (x3 + 1)) fun v1 => K4 x1 s0 v1 V
theorem WM_isHelped_59 {Z : MZ} {d : Nat} (hX : MX Z cX4_isHelped 4 (some .boolean) d 0) (hdd : 2 ≤ d) {K4 : Int → Int → Int → VV → Option (Int × VV)} (hK4 : ∀ x1 x2 x3 V, MG Z 4 [(0, (3, 0)), (1, (0, x1)), (2, (0, x2)), (3, (0, x3))] [] V (K4 x1 x2 x3 V)) : ∀ s0 x1 x3 V, MG Z 59 [(0, (3, 0)), (1, (0, x1)), (3, (0, x3))] [(0, s0)] V (M_isHelped_59 K4 s0 x1 x3 V) := by
  intro s0 x1 x3 V
  unfold M_isHelped_59
  refine m_istore_n hX (lv' := [(2, (0, s0)), (0, (3, 0)), (1, (0, x1)), (3, (0, x3))]) dX4_isHelped_59 rfl (by decide) rfl ?_
  refine m_iinc hX 3 dX4_isHelped_60 rfl (by decide) fun v1 => m_lv (lv' := [(3, (0, v1)), (2, (0, s0)), (0, (3, 0)), (1, (0, x1))]) rfl ?_
  refine m_goto hX 4 dX4_isHelped_63 (by decide) ?_
  exact m_sub [2, 3, 1, 0] rfl (hK4 x1 s0 v1 V)
noncomputable def M_isHelped_54 (K4 : Int → Int → Int → VV → Option (Int × VV)) (x1 : Int) (x3 : Int) (V : VV) : Option (Int × VV) := M_isHelped_59 K4 1 x1 x3 V
theorem WM_isHelped_54 {Z : MZ} {d : Nat} (hX : MX Z cX4_isHelped 4 (some .boolean) d 0) (hdd : 2 ≤ d) {K4 : Int → Int → Int → VV → Option (Int × VV)} (hK4 : ∀ x1 x2 x3 V, MG Z 4 [(0, (3, 0)), (1, (0, x1)), (2, (0, x2)), (3, (0, x3))] [] V (K4 x1 x2 x3 V)) : ∀ x1 x3 V, MG Z 54 [(0, (3, 0)), (1, (0, x1)), (3, (0, x3))] [] V (M_isHelped_54 K4 x1 x3 V) := by
  intro x1 x3 V
  unfold M_isHelped_54
  refine m_ic hX dX4_isHelped_54 (by decide) (by decide) ?_
  refine m_goto hX 59 dX4_isHelped_55 (by decide) ?_
  exact m_sub [0, 1, 2] rfl (WM_isHelped_59 hX hdd hK4 1 x1 x3 V)
noncomputable def M_isHelped_58 (K4 : Int → Int → Int → VV → Option (Int × VV)) (x1 : Int) (x3 : Int) (V : VV) : Option (Int × VV) := M_isHelped_59 K4 0 x1 x3 V
theorem WM_isHelped_58 {Z : MZ} {d : Nat} (hX : MX Z cX4_isHelped 4 (some .boolean) d 0) (hdd : 2 ≤ d) {K4 : Int → Int → Int → VV → Option (Int × VV)} (hK4 : ∀ x1 x2 x3 V, MG Z 4 [(0, (3, 0)), (1, (0, x1)), (2, (0, x2)), (3, (0, x3))] [] V (K4 x1 x2 x3 V)) : ∀ x1 x3 V, MG Z 58 [(0, (3, 0)), (1, (0, x1)), (3, (0, x3))] [] V (M_isHelped_58 K4 x1 x3 V) := by
  intro x1 x3 V
  unfold M_isHelped_58
  refine m_ic hX dX4_isHelped_58 (by decide) (by decide) ?_
  exact m_sub [0, 1, 2] rfl (WM_isHelped_59 hX hdd hK4 0 x1 x3 V)
noncomputable def M_isHelped_4 : Nat → Int → Int → Int → VV → Option (Int × VV)
  | 0, _, _, _, _ => none
  | n + 1, x1, x2, x3, V => mb (M_questions V) fun r1 V2 => if r1 ≤ x3 then (cb x2 (some (x2, V2))) else (if x2 = 0 then (if x3 = x1 then (M_isHelped_58 (M_isHelped_4 n) x1 x3 V2) else (mb (M_factOf x1 0 V2) fun r3 V4 => if r3 ≤ 0 then (M_isHelped_58 (M_isHelped_4 n) x1 x3 V4) else (mb (M_factOf x3 0 V4) fun r5 V6 => mb (M_factOf x1 0 V6) fun r7 V8 => if r5 = r7 then (ck x3 20 <| if V8 41 x3 ≤ 0 then (M_isHelped_58 (M_isHelped_4 n) x1 x3 V8) else (M_isHelped_54 (M_isHelped_4 n) x1 x3 V8)) else (M_isHelped_58 (M_isHelped_4 n) x1 x3 V8)))) else (M_isHelped_54 (M_isHelped_4 n) x1 x3 V2))
theorem WM_isHelped_4 {Z : MZ} {d : Nat} (hX : MX Z cX4_isHelped 4 (some .boolean) d 0) (hdd : 2 ≤ d) : ∀ n x1 x2 x3 V, MG Z 4 [(0, (3, 0)), (1, (0, x1)), (2, (0, x2)), (3, (0, x3))] [] V (M_isHelped_4 n x1 x2 x3 V) := by
  intro n
  induction n with
  | zero => intro x1 x2 x3 V; exact m_none
  | succ n ih =>
    intro x1 x2 x3 V
    rw [M_isHelped_4]
    refine m_iload_n hX 3 dX4_isHelped_4 rfl rfl ?_
    refine m_aload_n hX 0 dX4_isHelped_5 rfl rfl ?_
    refine cl_questions hX (by omega) (Nat.le_of_ble_eq_true rfl) dX4_isHelped_6 fun r1 V2 => ?_
    refine m_icmp_ge hX 66 dX4_isHelped_9 (by decide) (fun _ => ?_) (fun _ => ?_)
    · refine m_iload_n hX 2 dX4_isHelped_66 rfl rfl ?_
      exact m_zret hX rfl dX4_isHelped_67
    · refine m_iload_n hX 2 dX4_isHelped_12 rfl rfl ?_
      refine m_if_ne hX 54 dX4_isHelped_13 (by decide) (fun _ => ?_) (fun _ => ?_)
      · exact m_sub [0, 1, 3] rfl (WM_isHelped_54 hX hdd ih x1 x3 V2)
      · refine m_iload_n hX 3 dX4_isHelped_16 rfl rfl ?_
        refine m_iload_n hX 1 dX4_isHelped_17 rfl rfl ?_
        refine m_icmp_eq hX 58 dX4_isHelped_18 (by decide) (fun _ => ?_) (fun _ => ?_)
        · exact m_sub [0, 1, 3] rfl (WM_isHelped_58 hX hdd ih x1 x3 V2)
        · refine m_aload_n hX 0 dX4_isHelped_21 rfl rfl ?_
          refine m_iload_n hX 1 dX4_isHelped_22 rfl rfl ?_
          refine m_ic hX dX4_isHelped_23 (by decide) (by decide) ?_
          refine cl_factOf hX (by omega) (Nat.le_of_ble_eq_true rfl) dX4_isHelped_24 fun r3 V4 => ?_
          refine m_if_le hX 58 dX4_isHelped_27 (by decide) (fun _ => ?_) (fun _ => ?_)
          · exact m_sub [0, 1, 3] rfl (WM_isHelped_58 hX hdd ih x1 x3 V4)
          · refine m_aload_n hX 0 dX4_isHelped_30 rfl rfl ?_
            refine m_iload_n hX 3 dX4_isHelped_31 rfl rfl ?_
            refine m_ic hX dX4_isHelped_32 (by decide) (by decide) ?_
            refine cl_factOf hX (by omega) (Nat.le_of_ble_eq_true rfl) dX4_isHelped_33 fun r5 V6 => ?_
            refine m_aload_n hX 0 dX4_isHelped_36 rfl rfl ?_
            refine m_iload_n hX 1 dX4_isHelped_37 rfl rfl ?_
            refine m_ic hX dX4_isHelped_38 (by decide) (by decide) ?_
            refine cl_factOf hX (by omega) (Nat.le_of_ble_eq_true rfl) dX4_isHelped_39 fun r7 V8 => ?_
            refine m_icmp_ne hX 58 dX4_isHelped_42 (by decide) (fun _ => ?_) (fun _ => ?_)
            · exact m_sub [0, 1, 3] rfl (WM_isHelped_58 hX hdd ih x1 x3 V8)
            · refine m_aload_n hX 0 dX4_isHelped_45 rfl rfl ?_
              refine fg_41 hX dX4_isHelped_46 ?_
              refine m_iload_n hX 3 dX4_isHelped_49 rfl rfl ?_
              refine al_41 hX dX4_isHelped_50 ?_
              refine m_if_le hX 58 dX4_isHelped_51 (by decide) (fun _ => ?_) (fun _ => ?_)
              · exact m_sub [0, 1, 3] rfl (WM_isHelped_58 hX hdd ih x1 x3 V8)
              · exact m_sub [0, 1, 3] rfl (WM_isHelped_54 hX hdd ih x1 x3 V8)
noncomputable def M_isHelped (x1 : Int) (V : VV) : Option (Int × VV) := M_isHelped_4 FU x1 0 0 V
theorem WM_isHelped (l : Launch) {d : Nat} (hdd : 2 ≤ d) (x1 : Int) (V : VV) (hV : okV V) (ho : oks [(0, x1)]) (fin : Int × VV) (hf : M_isHelped x1 V = some fin) : mSpec l yX4_isHelped cX4_isHelped 4 (some .boolean) d 0 [(3, 0), (0, x1)] V fin := by
  refine m_enter (lv := [(0, (3, 0)), (1, (0, x1))]) (by decide) rfl (Nat.le_of_ble_eq_true rfl) rfl (fun Z hZ hX => ?_) hV (ho.c (okA.t 0)) fin hf
  unfold M_isHelped
  refine m_ic hX dX4_isHelped_0 (by decide) (by decide) ?_
  refine m_istore_n hX (lv' := [(2, (0, 0)), (0, (3, 0)), (1, (0, x1))]) dX4_isHelped_1 rfl (by decide) rfl ?_
  refine m_ic hX dX4_isHelped_2 (by decide) (by decide) ?_
  refine m_istore_n hX (lv' := [(3, (0, 0)), (2, (0, 0)), (0, (3, 0)), (1, (0, x1))]) dX4_isHelped_3 rfl (by decide) rfl ?_
  exact m_sub [2, 3, 1, 0] rfl (WM_isHelped_4 hX hdd FU x1 0 0 V)
theorem cl_isHelped {Z : MZ} {cc : ByteArray} {nL : Nat} {ret : Option FieldType} {d rk : Nat} {pc : Nat} {lv : List (Nat × AV)} {st : List AV} {V : VV} {g : Int → VV → Option (Int × VV)} (hX : MX Z cc nL ret d rk) {a0 : Int} (hdd : 3 ≤ d) (hcat : (st.map fun v => if v.1 = 1 then 2 else 1).sum ≤ 8) (hdg : decode cc pc = .ok (.invokevirtual 428, 3)) (kk : ∀ r V1, MG Z (pc + 3) lv ((0, r) :: st) V1 (g r V1)) : MG Z pc lv ((0, a0) :: (3, 0) :: st) V (mb (M_isHelped a0 V) g) :=
  m_callVi hX [(0, a0)] 1 (fun hV ho fin hf => WM_isHelped (zL Z) (Nat.le_refl 2) a0 V hV ho fin hf) (lw_V q2249 q2251 qs115 q131 q2252) (by decide +kernel) rfl (by omega) (by decide) rfl hcat hdg kk
noncomputable def M_learns_189 (K12 : Int → Int → Int → Int → VV → Option (Int × VV)) (x1 : Int) (x2 : Int) (x3 : Int) (x4 : Int) (V : VV) : Option (Int × VV) := nm (w32 (x4 + 1)) fun v1 => K12 x1 x2 x3 v1 V
theorem WM_learns_189 {Z : MZ} {d : Nat} (hX : MX Z cX4_learns 7 none d 2) (hdd : 127 ≤ d) {K12 : Int → Int → Int → Int → VV → Option (Int × VV)} (hK12 : ∀ x1 x2 x3 x4 V, MG Z 12 [(0, (3, 0)), (1, (0, x1)), (2, (0, x2)), (3, (0, x3)), (4, (0, x4))] [] V (K12 x1 x2 x3 x4 V)) : ∀ x1 x2 x3 x4 V, MG Z 189 [(0, (3, 0)), (1, (0, x1)), (2, (0, x2)), (3, (0, x3)), (4, (0, x4))] [] V (M_learns_189 K12 x1 x2 x3 x4 V) := by
  intro x1 x2 x3 x4 V
  unfold M_learns_189
  refine m_iinc hX 4 dX4_learns_189 rfl (by decide) fun v1 => m_lv (lv' := [(4, (0, v1)), (0, (3, 0)), (1, (0, x1)), (2, (0, x2)), (3, (0, x3))]) rfl ?_
  refine m_goto hX 12 dX4_learns_192 (by decide) ?_
  exact m_sub [1, 2, 3, 4, 0] rfl (hK12 x1 x2 x3 v1 V)
noncomputable def M_learns_180 (K12 : Int → Int → Int → Int → VV → Option (Int × VV)) (s1 : Int) (s2 : Int) (x1 : Int) (x2 : Int) (x3 : Int) (x4 : Int) (x5 : Int) (V : VV) : Option (Int × VV) := ck s1 20 <| nm (vup V 41 s1 s2) fun V1 => ck x5 20 <| nm (vup V1 42 x5 x1) fun V2 => M_learns_189 K12 x1 x2 x3 x4 V2
theorem WM_learns_180 {Z : MZ} {d : Nat} (hX : MX Z cX4_learns 7 none d 2) (hdd : 127 ≤ d) {K12 : Int → Int → Int → Int → VV → Option (Int × VV)} (hK12 : ∀ x1 x2 x3 x4 V, MG Z 12 [(0, (3, 0)), (1, (0, x1)), (2, (0, x2)), (3, (0, x3)), (4, (0, x4))] [] V (K12 x1 x2 x3 x4 V)) : ∀ s1 s2 x1 x2 x3 x4 x5 V, MG Z 180 [(0, (3, 0)), (1, (0, x1)), (2, (0, x2)), (3, (0, x3)), (4, (0, x4)), (5, (0, x5))] [(0, s2), (0, s1), (2, ((41 : Nat) : Int))] V (M_learns_180 K12 s1 s2 x1 x2 x3 x4 x5 V) := by
  intro s1 s2 x1 x2 x3 x4 x5 V
  unfold M_learns_180
  refine as_41 hX dX4_learns_180 fun V1 => ?_
  refine m_aload_n hX 0 dX4_learns_181 rfl rfl ?_
  refine fg_42 hX dX4_learns_182 ?_
  refine m_iload hX 5 dX4_learns_185 rfl ?_
  refine m_iload_n hX 1 dX4_learns_187 rfl rfl ?_
  refine as_42 hX dX4_learns_188 fun V2 => ?_
  exact m_sub [0, 1, 2, 3, 4] rfl (WM_learns_189 hX hdd hK12 x1 x2 x3 x4 V2)
noncomputable def M_learns_97 (K12 : Int → Int → Int → Int → VV → Option (Int × VV)) (s0 : Int) (x1 : Int) (x2 : Int) (x3 : Int) (x4 : Int) (x5 : Int) (V : VV) : Option (Int × VV) := nm (α := Int) (if x3 = 0 then (if s0 ≤ x2 then 0 else 1) else 1) fun v1 => if v1 = 0 then (nm (α := Int) (w32 (x2 - s0)) fun v2 => ck x5 20 <| if V 41 x5 = 2 then (M_learns_180 K12 x5 2 x1 v2 v1 x4 x5 V) else (ck x5 20 <| M_learns_180 K12 x5 (w32 ((V 41 x5) + 1)) x1 v2 v1 x4 x5 V)) else (nm (vup V 43 0 (w32 ((V 43 0) + 1))) fun V3 => if V3 44 0 = (-1) then (nm (vup V3 44 0 x1) fun V4 => M_learns_189 K12 x1 x2 v1 x4 V4) else (M_learns_189 K12 x1 x2 v1 x4 V3))
theorem WM_learns_97 {Z : MZ} {d : Nat} (hX : MX Z cX4_learns 7 none d 2) (hdd : 127 ≤ d) {K12 : Int → Int → Int → Int → VV → Option (Int × VV)} (hK12 : ∀ x1 x2 x3 x4 V, MG Z 12 [(0, (3, 0)), (1, (0, x1)), (2, (0, x2)), (3, (0, x3)), (4, (0, x4))] [] V (K12 x1 x2 x3 x4 V)) : ∀ s0 x1 x2 x3 x4 x5 V, MG Z 97 [(0, (3, 0)), (1, (0, x1)), (2, (0, x2)), (3, (0, x3)), (4, (0, x4)), (5, (0, x5))] [(0, s0)] V (M_learns_97 K12 s0 x1 x2 x3 x4 x5 V) := by
  intro s0 x1 x2 x3 x4 x5 V
  unfold M_learns_97
  refine m_istore hX (lv' := [(6, (0, s0)), (0, (3, 0)), (1, (0, x1)), (2, (0, x2)), (3, (0, x3)), (4, (0, x4)), (5, (0, x5))]) dX4_learns_97 (by decide) rfl ?_
  refine m_iload_n hX 4 dX4_learns_99 rfl rfl ?_
  refine m_join 114 (fun v1 => [(0, v1)]) (fun v1 => ?_) (fun hJ => ?_)
  · refine m_istore_n hX (lv' := [(3, (0, v1)), (6, (0, s0)), (0, (3, 0)), (1, (0, x1)), (2, (0, x2)), (4, (0, x4)), (5, (0, x5))]) dX4_learns_114 rfl (by decide) rfl ?_
    refine m_iload_n hX 0 dX4_learns_115 rfl rfl ?_
    refine m_if_eq hX 145 dX4_learns_116 (by decide) (fun _ => ?_) (fun _ => ?_)
    · refine m_iload_n hX 4 dX4_learns_145 rfl rfl ?_
      refine m_iload hX 1 dX4_learns_146 rfl ?_
      refine m_isub hX dX4_learns_148 ?_
      refine m_nmT fun v2 => ?_
      refine m_istore_n hX (lv' := [(2, (0, v2)), (3, (0, v1)), (6, (0, s0)), (0, (3, 0)), (1, (0, x1)), (4, (0, x4)), (5, (0, x5))]) dX4_learns_149 rfl (by decide) rfl ?_
      refine m_aload_n hX 3 dX4_learns_150 rfl rfl ?_
      refine fg_41 hX dX4_learns_151 ?_
      refine m_iload hX 6 dX4_learns_154 rfl ?_
      refine m_aload_n hX 3 dX4_learns_156 rfl rfl ?_
      refine fg_41 hX dX4_learns_157 ?_
      refine m_iload hX 6 dX4_learns_160 rfl ?_
      refine al_41 hX dX4_learns_162 ?_
      refine m_ic hX dX4_learns_163 (by decide) (by decide) ?_
      refine m_icmp_ne hX 171 dX4_learns_164 (by decide) (fun _ => ?_) (fun _ => ?_)
      · refine m_aload_n hX 3 dX4_learns_171 rfl rfl ?_
        refine fg_41 hX dX4_learns_172 ?_
        refine m_iload hX 6 dX4_learns_175 rfl ?_
        refine al_41 hX dX4_learns_177 ?_
        refine m_ic hX dX4_learns_178 (by decide) (by decide) ?_
        refine m_iadd hX dX4_learns_179 ?_
        exact m_sub [3, 4, 0, 1, 5, 6] rfl (WM_learns_180 hX hdd hK12 x5 (w32 ((V 41 x5) + 1)) x1 v2 v1 x4 x5 V)
      · refine m_ic hX dX4_learns_167 (by decide) (by decide) ?_
        refine m_goto hX 180 dX4_learns_168 (by decide) ?_
        exact m_sub [3, 4, 0, 1, 5, 6] rfl (WM_learns_180 hX hdd hK12 x5 2 x1 v2 v1 x4 x5 V)
    · refine m_aload_n hX 2 dX4_learns_119 rfl rfl ?_
      refine m_dup hX dX4_learns_120 rfl ?_
      refine fg_43 hX dX4_learns_121 ?_
      refine m_ic hX dX4_learns_124 (by decide) (by decide) ?_
      refine m_iadd hX dX4_learns_125 ?_
      refine fp_43 hX dX4_learns_126 fun V3 => ?_
      refine m_aload_n hX 2 dX4_learns_129 rfl rfl ?_
      refine fg_44 hX dX4_learns_130 ?_
      refine m_ic hX dX4_learns_133 (by decide) (by decide) ?_
      refine m_icmp_ne hX 189 dX4_learns_134 (by decide) (fun _ => ?_) (fun _ => ?_)
      · exact m_sub [2, 3, 4, 0, 5] rfl (WM_learns_189 hX hdd hK12 x1 x2 v1 x4 V3)
      · refine m_aload_n hX 2 dX4_learns_137 rfl rfl ?_
        refine m_iload_n hX 3 dX4_learns_138 rfl rfl ?_
        refine fp_44 hX dX4_learns_139 fun V4 => ?_
        refine m_goto hX 189 dX4_learns_142 (by decide) ?_
        exact m_sub [2, 3, 4, 0, 5] rfl (WM_learns_189 hX hdd hK12 x1 x2 v1 x4 V4)
  · refine m_if_neF hX 109 dX4_learns_100 (by decide) (fun _ => ?_) (fun _ => ?_)
    · refine m_ic hX dX4_learns_109 (by decide) (by decide) ?_
      refine m_goto hX 114 dX4_learns_110 (by decide) ?_
      exact hJ _
    · refine m_iload hX 0 dX4_learns_103 rfl ?_
      refine m_iload_n hX 3 dX4_learns_105 rfl rfl ?_
      refine m_icmp_leF hX 113 dX4_learns_106 (by decide) (fun _ => ?_) (fun _ => ?_)
      · refine m_ic hX dX4_learns_113 (by decide) (by decide) ?_
        exact hJ _
      · refine m_ic hX dX4_learns_109 (by decide) (by decide) ?_
        refine m_goto hX 114 dX4_learns_110 (by decide) ?_
        exact hJ _
noncomputable def M_learns_195 (x1 : Int) (x2 : Int) (V : VV) : Option (Int × VV) := mb (M_term 6 V) fun r1 V2 => ck x1 20 <| nm (vup V2 40 x1 (w32 (r1 - x2))) fun V3 => some (0, V3)
theorem WM_learns_195 {Z : MZ} {d : Nat} (hX : MX Z cX4_learns 7 none d 2) (hdd : 127 ≤ d) : ∀ x1 x2 V, MG Z 195 [(0, (3, 0)), (1, (0, x1)), (2, (0, x2))] [] V (M_learns_195 x1 x2 V) := by
  intro x1 x2 V
  unfold M_learns_195
  refine m_aload_n hX 0 dX4_learns_195 rfl rfl ?_
  refine fg_40 hX dX4_learns_196 ?_
  refine m_iload_n hX 1 dX4_learns_199 rfl rfl ?_
  refine m_aload_n hX 0 dX4_learns_200 rfl rfl ?_
  refine m_bp hX dX4_learns_201 (by decide) (by decide) ?_
  refine cl_term hX (by omega) (Nat.le_of_ble_eq_true rfl) dX4_learns_203 fun r1 V2 => ?_
  refine m_iload_n hX 2 dX4_learns_206 rfl rfl ?_
  refine m_isub hX dX4_learns_207 ?_
  refine as_40 hX dX4_learns_208 fun V3 => ?_
  exact m_vret hX rfl dX4_learns_209
noncomputable def M_learns_12 : Nat → Int → Int → Int → Int → VV → Option (Int × VV)
  | 0, _, _, _, _, _ => none
  | n + 1, x1, x2, x3, x4, V => if V 3 391 ≤ x4 then (M_learns_195 x1 x2 V) else (ck (w32 (107 + (w32 (2 * x4)))) 5201 <| if V 3 (w32 (107 + (w32 (2 * x4)))) = x1 then (ck (w32 ((w32 (107 + (w32 (2 * x4)))) + 1)) 5201 <| nm (α := Int) (V 3 (w32 ((w32 (107 + (w32 (2 * x4)))) + 1))) fun v1 => ck v1 20 <| if V 41 v1 = 2 then (M_learns_97 (M_learns_12 n) 1 x1 x2 x3 x4 v1 V) else (ck v1 20 <| mb (M_isHelped v1 V) fun r2 V3 => mb (M_takesOf v1 (w32 ((V 41 v1) + 1)) r2 x1 V3) fun r4 V5 => M_learns_97 (M_learns_12 n) r4 x1 x2 x3 x4 v1 V5)) else (M_learns_189 (M_learns_12 n) x1 x2 x3 x4 V))
theorem WM_learns_12 {Z : MZ} {d : Nat} (hX : MX Z cX4_learns 7 none d 2) (hdd : 127 ≤ d) : ∀ n x1 x2 x3 x4 V, MG Z 12 [(0, (3, 0)), (1, (0, x1)), (2, (0, x2)), (3, (0, x3)), (4, (0, x4))] [] V (M_learns_12 n x1 x2 x3 x4 V) := by
  intro n
  induction n with
  | zero => intro x1 x2 x3 x4 V; exact m_none
  | succ n ih =>
    intro x1 x2 x3 x4 V
    rw [M_learns_12]
    refine m_iload hX 4 dX4_learns_12 rfl ?_
    refine m_aload_n hX 0 dX4_learns_14 rfl rfl ?_
    refine fg_3 hX dX4_learns_15 ?_
    refine m_sp hX dX4_learns_18 (by decide) (by decide) ?_
    refine m_in (by decide) (by decide) (al_3 hX dX4_learns_21 ?_)
    refine m_icmp_ge hX 195 dX4_learns_22 (by decide) (fun _ => ?_) (fun _ => ?_)
    · exact m_sub [0, 1, 2] rfl (WM_learns_195 hX hdd x1 x2 V)
    · refine m_aload_n hX 0 dX4_learns_25 rfl rfl ?_
      refine fg_3 hX dX4_learns_26 ?_
      refine m_bp hX dX4_learns_29 (by decide) (by decide) ?_
      refine m_ic hX dX4_learns_31 (by decide) (by decide) ?_
      refine m_iload hX 4 dX4_learns_32 rfl ?_
      refine m_imul hX dX4_learns_34 ?_
      refine m_iadd hX dX4_learns_35 ?_
      refine al_3 hX dX4_learns_36 ?_
      refine m_iload_n hX 1 dX4_learns_37 rfl rfl ?_
      refine m_icmp_eq hX 44 dX4_learns_38 (by decide) (fun _ => ?_) (fun _ => ?_)
      · refine m_aload_n hX 0 dX4_learns_44 rfl rfl ?_
        refine fg_3 hX dX4_learns_45 ?_
        refine m_bp hX dX4_learns_48 (by decide) (by decide) ?_
        refine m_ic hX dX4_learns_50 (by decide) (by decide) ?_
        refine m_iload hX 4 dX4_learns_51 rfl ?_
        refine m_imul hX dX4_learns_53 ?_
        refine m_iadd hX dX4_learns_54 ?_
        refine m_ic hX dX4_learns_55 (by decide) (by decide) ?_
        refine m_iadd hX dX4_learns_56 ?_
        refine al_3 hX dX4_learns_57 ?_
        refine m_nmT fun v1 => ?_
        refine m_istore hX (lv' := [(5, (0, v1)), (0, (3, 0)), (1, (0, x1)), (2, (0, x2)), (3, (0, x3)), (4, (0, x4))]) dX4_learns_58 (by decide) rfl ?_
        refine m_aload_n hX 1 dX4_learns_60 rfl rfl ?_
        refine fg_41 hX dX4_learns_61 ?_
        refine m_iload hX 0 dX4_learns_64 rfl ?_
        refine al_41 hX dX4_learns_66 ?_
        refine m_ic hX dX4_learns_67 (by decide) (by decide) ?_
        refine m_icmp_ne hX 75 dX4_learns_68 (by decide) (fun _ => ?_) (fun _ => ?_)
        · refine m_aload_n hX 1 dX4_learns_75 rfl rfl ?_
          refine m_iload hX 0 dX4_learns_76 rfl ?_
          refine m_aload_n hX 1 dX4_learns_78 rfl rfl ?_
          refine fg_41 hX dX4_learns_79 ?_
          refine m_iload hX 0 dX4_learns_82 rfl ?_
          refine al_41 hX dX4_learns_84 ?_
          refine m_ic hX dX4_learns_85 (by decide) (by decide) ?_
          refine m_iadd hX dX4_learns_86 ?_
          refine m_aload_n hX 1 dX4_learns_87 rfl rfl ?_
          refine m_iload hX 0 dX4_learns_88 rfl ?_
          refine cl_isHelped hX (by omega) (Nat.le_of_ble_eq_true rfl) dX4_learns_90 fun r2 V3 => ?_
          refine m_iload_n hX 2 dX4_learns_93 rfl rfl ?_
          refine cl_takesOf hX (by omega) (Nat.le_of_ble_eq_true rfl) dX4_learns_94 fun r4 V5 => ?_
          exact m_sub [1, 2, 3, 4, 5, 0] rfl (WM_learns_97 hX hdd ih r4 x1 x2 x3 x4 v1 V5)
        · refine m_ic hX dX4_learns_71 (by decide) (by decide) ?_
          refine m_goto hX 97 dX4_learns_72 (by decide) ?_
          exact m_sub [1, 2, 3, 4, 5, 0] rfl (WM_learns_97 hX hdd ih 1 x1 x2 x3 x4 v1 V)
      · refine m_goto hX 189 dX4_learns_41 (by decide) ?_
        exact m_sub [0, 1, 2, 3, 4] rfl (WM_learns_189 hX hdd ih x1 x2 x3 x4 V)
noncomputable def M_learns (x1 : Int) (V : VV) : Option (Int × VV) := mb (M_term 6 V) fun r1 V2 => M_learns_12 FU x1 r1 0 0 V2
theorem WM_learns (l : Launch) {d : Nat} (hdd : 127 ≤ d) (x1 : Int) (V : VV) (hV : okV V) (ho : oks [(0, x1)]) (fin : Int × VV) (hf : M_learns x1 V = some fin) : mSpec l yX4_learns cX4_learns 7 none d 2 [(3, 0), (0, x1)] V fin := by
  refine m_enter (lv := [(0, (3, 0)), (1, (0, x1))]) (by decide) rfl (Nat.le_of_ble_eq_true rfl) rfl (fun Z hZ hX => ?_) hV (ho.c (okA.t 0)) fin hf
  unfold M_learns
  refine m_aload_n hX 0 dX4_learns_0 rfl rfl ?_
  refine m_bp hX dX4_learns_1 (by decide) (by decide) ?_
  refine cl_term hX (by omega) (Nat.le_of_ble_eq_true rfl) dX4_learns_3 fun r1 V2 => ?_
  refine m_istore_n hX (lv' := [(2, (0, r1)), (0, (3, 0)), (1, (0, x1))]) dX4_learns_6 rfl (by decide) rfl ?_
  refine m_ic hX dX4_learns_7 (by decide) (by decide) ?_
  refine m_istore_n hX (lv' := [(3, (0, 0)), (2, (0, r1)), (0, (3, 0)), (1, (0, x1))]) dX4_learns_8 rfl (by decide) rfl ?_
  refine m_ic hX dX4_learns_9 (by decide) (by decide) ?_
  refine m_istore hX (lv' := [(4, (0, 0)), (3, (0, 0)), (2, (0, r1)), (0, (3, 0)), (1, (0, x1))]) dX4_learns_10 (by decide) rfl ?_
  exact m_sub [3, 4, 2, 1, 0] rfl (WM_learns_12 hX hdd FU x1 r1 0 0 V2)
theorem cl_learns {Z : MZ} {cc : ByteArray} {nL : Nat} {ret : Option FieldType} {d rk : Nat} {pc : Nat} {lv : List (Nat × AV)} {st : List AV} {V : VV} {g : Int → VV → Option (Int × VV)} (hX : MX Z cc nL ret d rk) {a0 : Int} (hdd : 128 ≤ d) (hcat : (st.map fun v => if v.1 = 1 then 2 else 1).sum ≤ 8) (hdg : decode cc pc = .ok (.invokevirtual 425, 3)) (kk : ∀ r V1, MG Z (pc + 3) lv st V1 (g r V1)) : MG Z pc lv ((0, a0) :: (3, 0) :: st) V (mb (M_learns a0 V) g) :=
  m_callVv hX [(0, a0)] 1 (fun hV ho fin hf => WM_learns (zL Z) (Nat.le_refl 127) a0 V hV ho fin hf) (lw_V q2245 q2247 qs114 q131 q2248) (by decide +kernel) rfl (by omega) (by decide) rfl hcat hdg kk
noncomputable def M_lives_122 (K40 : Int → VV → Option (Int × VV)) (K56 : Int → Int → VV → Option (Int × VV)) (x1 : Int) (x2 : Int) (V : VV) : Option (Int × VV) := ck x2 20 <| ck (w32 ((w32 (20 * x2)) + x1)) 400 <| nm (vup V 39 (w32 ((w32 (20 * x2)) + x1)) (V 41 x2)) fun V1 => nm (w32 (x2 + 1)) fun v2 => K56 x1 v2 V1
theorem WM_lives_122 {Z : MZ} {d : Nat} (hX : MX Z cX4_lives 3 none d 2) (hdd : 128 ≤ d) {K40 : Int → VV → Option (Int × VV)} (hK40 : ∀ x1 V, MG Z 40 [(0, (3, 0)), (1, (0, x1))] [] V (K40 x1 V)) {K56 : Int → Int → VV → Option (Int × VV)} (hK56 : ∀ x1 x2 V, MG Z 56 [(0, (3, 0)), (1, (0, x1)), (2, (0, x2))] [] V (K56 x1 x2 V)) : ∀ x1 x2 V, MG Z 122 [(0, (3, 0)), (1, (0, x1)), (2, (0, x2))] [] V (M_lives_122 K40 K56 x1 x2 V) := by
  intro x1 x2 V
  unfold M_lives_122
  refine m_aload_n hX 0 dX4_lives_122 rfl rfl ?_
  refine fg_39 hX dX4_lives_123 ?_
  refine m_bp hX dX4_lives_126 (by decide) (by decide) ?_
  refine m_iload_n hX 2 dX4_lives_128 rfl rfl ?_
  refine m_imul hX dX4_lives_129 ?_
  refine m_iload_n hX 1 dX4_lives_130 rfl rfl ?_
  refine m_iadd hX dX4_lives_131 ?_
  refine m_aload_n hX 0 dX4_lives_132 rfl rfl ?_
  refine fg_41 hX dX4_lives_133 ?_
  refine m_iload_n hX 2 dX4_lives_136 rfl rfl ?_
  refine al_41 hX dX4_lives_137 ?_
  refine as_39 hX dX4_lives_138 fun V1 => ?_
  refine m_iinc hX 2 dX4_lives_139 rfl (by decide) fun v2 => m_lv (lv' := [(2, (0, v2)), (0, (3, 0)), (1, (0, x1))]) rfl ?_
  refine m_goto hX 56 dX4_lives_142 (by decide) ?_
  exact m_sub [1, 2, 0] rfl (hK56 x1 v2 V1)
noncomputable def M_lives_145 (K40 : Int → VV → Option (Int × VV)) (x1 : Int) (V : VV) : Option (Int × VV) := nm (w32 (x1 + 1)) fun v1 => K40 v1 V
theorem WM_lives_145 {Z : MZ} {d : Nat} (hX : MX Z cX4_lives 3 none d 2) (hdd : 128 ≤ d) {K40 : Int → VV → Option (Int × VV)} (hK40 : ∀ x1 V, MG Z 40 [(0, (3, 0)), (1, (0, x1))] [] V (K40 x1 V)) : ∀ x1 V, MG Z 145 [(0, (3, 0)), (1, (0, x1))] [] V (M_lives_145 K40 x1 V) := by
  intro x1 V
  unfold M_lives_145
  refine m_iinc hX 1 dX4_lives_145 rfl (by decide) fun v1 => m_lv (lv' := [(1, (0, v1)), (0, (3, 0))]) rfl ?_
  refine m_goto hX 40 dX4_lives_148 (by decide) ?_
  exact m_sub [1, 0] rfl (hK40 v1 V)
noncomputable def M_lives_56 (K40 : Int → VV → Option (Int × VV)) : Nat → Int → Int → VV → Option (Int × VV)
  | 0, _, _, _ => none
  | n + 1, x1, x2, V => mb (M_questions V) fun r1 V2 => if r1 ≤ x2 then (M_lives_145 K40 x1 V2) else (ck x2 20 <| if V2 41 x2 ≤ 0 then (M_lives_122 K40 (M_lives_56 K40 n) x1 x2 V2) else (ck x2 20 <| ck x2 20 <| mb (M_keepsOf x2 (V2 41 x2) V2) fun r3 V4 => if w32 (x1 - (V2 42 x2)) < r3 then (M_lives_122 K40 (M_lives_56 K40 n) x1 x2 V4) else (ck x2 20 <| ck x2 20 <| nm (vup V4 41 x2 (w32 ((V4 41 x2) - 1))) fun V5 => ck x2 20 <| nm (vup V5 42 x2 x1) fun V6 => nm (vup V6 45 0 (w32 ((V6 45 0) + 1))) fun V7 => M_lives_122 K40 (M_lives_56 K40 n) x1 x2 V7)))
theorem WM_lives_56 {Z : MZ} {d : Nat} (hX : MX Z cX4_lives 3 none d 2) (hdd : 128 ≤ d) {K40 : Int → VV → Option (Int × VV)} (hK40 : ∀ x1 V, MG Z 40 [(0, (3, 0)), (1, (0, x1))] [] V (K40 x1 V)) : ∀ n x1 x2 V, MG Z 56 [(0, (3, 0)), (1, (0, x1)), (2, (0, x2))] [] V (M_lives_56 K40 n x1 x2 V) := by
  intro n
  induction n with
  | zero => intro x1 x2 V; exact m_none
  | succ n ih =>
    intro x1 x2 V
    rw [M_lives_56]
    refine m_iload_n hX 2 dX4_lives_56 rfl rfl ?_
    refine m_aload_n hX 0 dX4_lives_57 rfl rfl ?_
    refine cl_questions hX (by omega) (Nat.le_of_ble_eq_true rfl) dX4_lives_58 fun r1 V2 => ?_
    refine m_icmp_ge hX 145 dX4_lives_61 (by decide) (fun _ => ?_) (fun _ => ?_)
    · exact m_sub [0, 1] rfl (WM_lives_145 hX hdd hK40 x1 V2)
    · refine m_aload_n hX 0 dX4_lives_64 rfl rfl ?_
      refine fg_41 hX dX4_lives_65 ?_
      refine m_iload_n hX 2 dX4_lives_68 rfl rfl ?_
      refine al_41 hX dX4_lives_69 ?_
      refine m_if_le hX 122 dX4_lives_70 (by decide) (fun _ => ?_) (fun _ => ?_)
      · exact m_sub [0, 1, 2] rfl (WM_lives_122 hX hdd hK40 ih x1 x2 V2)
      · refine m_iload_n hX 1 dX4_lives_73 rfl rfl ?_
        refine m_aload_n hX 0 dX4_lives_74 rfl rfl ?_
        refine fg_42 hX dX4_lives_75 ?_
        refine m_iload_n hX 2 dX4_lives_78 rfl rfl ?_
        refine al_42 hX dX4_lives_79 ?_
        refine m_isub hX dX4_lives_80 ?_
        refine m_aload_n hX 0 dX4_lives_81 rfl rfl ?_
        refine m_iload_n hX 2 dX4_lives_82 rfl rfl ?_
        refine m_aload_n hX 0 dX4_lives_83 rfl rfl ?_
        refine fg_41 hX dX4_lives_84 ?_
        refine m_iload_n hX 2 dX4_lives_87 rfl rfl ?_
        refine al_41 hX dX4_lives_88 ?_
        refine cl_keepsOf hX (by omega) (Nat.le_of_ble_eq_true rfl) dX4_lives_89 fun r3 V4 => ?_
        refine m_icmp_lt hX 122 dX4_lives_92 (by decide) (fun _ => ?_) (fun _ => ?_)
        · exact m_sub [0, 1, 2] rfl (WM_lives_122 hX hdd hK40 ih x1 x2 V4)
        · refine m_aload_n hX 0 dX4_lives_95 rfl rfl ?_
          refine fg_41 hX dX4_lives_96 ?_
          refine m_iload_n hX 2 dX4_lives_99 rfl rfl ?_
          refine m_dup2 hX dX4_lives_100 rfl rfl ?_
          refine al_41 hX dX4_lives_101 ?_
          refine m_ic hX dX4_lives_102 (by decide) (by decide) ?_
          refine m_isub hX dX4_lives_103 ?_
          refine as_41 hX dX4_lives_104 fun V5 => ?_
          refine m_aload_n hX 0 dX4_lives_105 rfl rfl ?_
          refine fg_42 hX dX4_lives_106 ?_
          refine m_iload_n hX 2 dX4_lives_109 rfl rfl ?_
          refine m_iload_n hX 1 dX4_lives_110 rfl rfl ?_
          refine as_42 hX dX4_lives_111 fun V6 => ?_
          refine m_aload_n hX 0 dX4_lives_112 rfl rfl ?_
          refine m_dup hX dX4_lives_113 rfl ?_
          refine fg_45 hX dX4_lives_114 ?_
          refine m_ic hX dX4_lives_117 (by decide) (by decide) ?_
          refine m_iadd hX dX4_lives_118 ?_
          refine fp_45 hX dX4_lives_119 fun V7 => ?_
          exact m_sub [0, 1, 2] rfl (WM_lives_122 hX hdd hK40 ih x1 x2 V7)
noncomputable def M_lives_40 : Nat → Int → VV → Option (Int × VV)
  | 0, _, _ => none
  | n + 1, x1, V => mb (M_term 5 V) fun r1 V2 => if r1 ≤ x1 then (some (0, V2)) else (mb (M_learns x1 V2) fun r3 V4 => M_lives_56 (M_lives_40 n) FU x1 0 V4)
theorem WM_lives_40 {Z : MZ} {d : Nat} (hX : MX Z cX4_lives 3 none d 2) (hdd : 128 ≤ d) : ∀ n x1 V, MG Z 40 [(0, (3, 0)), (1, (0, x1))] [] V (M_lives_40 n x1 V) := by
  intro n
  induction n with
  | zero => intro x1 V; exact m_none
  | succ n ih =>
    intro x1 V
    rw [M_lives_40]
    refine m_iload_n hX 1 dX4_lives_40 rfl rfl ?_
    refine m_aload_n hX 0 dX4_lives_41 rfl rfl ?_
    refine m_ic hX dX4_lives_42 (by decide) (by decide) ?_
    refine cl_term hX (by omega) (Nat.le_of_ble_eq_true rfl) dX4_lives_43 fun r1 V2 => ?_
    refine m_icmp_ge hX 151 dX4_lives_46 (by decide) (fun _ => ?_) (fun _ => ?_)
    · exact m_vret hX rfl dX4_lives_151
    · refine m_aload_n hX 0 dX4_lives_49 rfl rfl ?_
      refine m_iload_n hX 1 dX4_lives_50 rfl rfl ?_
      refine cl_learns hX (by omega) (Nat.le_of_ble_eq_true rfl) dX4_lives_51 fun r3 V4 => ?_
      refine m_ic hX dX4_lives_54 (by decide) (by decide) ?_
      refine m_istore_n hX (lv' := [(2, (0, 0)), (0, (3, 0)), (1, (0, x1))]) dX4_lives_55 rfl (by decide) rfl ?_
      exact m_sub [1, 2, 0] rfl (WM_lives_56 hX hdd ih FU x1 0 V4)
noncomputable def M_lives_38 (V : VV) : Option (Int × VV) := M_lives_40 FU 0 V
theorem WM_lives_38 {Z : MZ} {d : Nat} (hX : MX Z cX4_lives 3 none d 2) (hdd : 128 ≤ d) : ∀ V, MG Z 38 [(0, (3, 0))] [] V (M_lives_38 V) := by
  intro V
  unfold M_lives_38
  refine m_ic hX dX4_lives_38 (by decide) (by decide) ?_
  refine m_istore_n hX (lv' := [(1, (0, 0)), (0, (3, 0))]) dX4_lives_39 rfl (by decide) rfl ?_
  exact m_sub [1, 0] rfl (WM_lives_40 hX hdd FU 0 V)
noncomputable def M_lives_17 : Nat → Int → VV → Option (Int × VV)
  | 0, _, _ => none
  | n + 1, x1, V => mb (M_questions V) fun r1 V2 => if r1 ≤ x1 then (M_lives_38 V2) else (ck x1 20 <| nm (vup V2 41 x1 0) fun V3 => nm (w32 (x1 + 1)) fun v4 => M_lives_17 n v4 V3)
theorem WM_lives_17 {Z : MZ} {d : Nat} (hX : MX Z cX4_lives 3 none d 2) (hdd : 128 ≤ d) : ∀ n x1 V, MG Z 17 [(0, (3, 0)), (1, (0, x1))] [] V (M_lives_17 n x1 V) := by
  intro n
  induction n with
  | zero => intro x1 V; exact m_none
  | succ n ih =>
    intro x1 V
    rw [M_lives_17]
    refine m_iload_n hX 1 dX4_lives_17 rfl rfl ?_
    refine m_aload_n hX 0 dX4_lives_18 rfl rfl ?_
    refine cl_questions hX (by omega) (Nat.le_of_ble_eq_true rfl) dX4_lives_19 fun r1 V2 => ?_
    refine m_icmp_ge hX 38 dX4_lives_22 (by decide) (fun _ => ?_) (fun _ => ?_)
    · exact m_sub [0] rfl (WM_lives_38 hX hdd V2)
    · refine m_aload_n hX 0 dX4_lives_25 rfl rfl ?_
      refine fg_41 hX dX4_lives_26 ?_
      refine m_iload_n hX 1 dX4_lives_29 rfl rfl ?_
      refine m_ic hX dX4_lives_30 (by decide) (by decide) ?_
      refine as_41 hX dX4_lives_31 fun V3 => ?_
      refine m_iinc hX 1 dX4_lives_32 rfl (by decide) fun v4 => m_lv (lv' := [(1, (0, v4)), (0, (3, 0))]) rfl ?_
      refine m_goto hX 17 dX4_lives_35 (by decide) ?_
      exact m_sub [1, 0] rfl (ih v4 V3)
noncomputable def M_lives (V : VV) : Option (Int × VV) := nm (vup V 43 0 0) fun V1 => nm (vup V1 44 0 (-1)) fun V2 => nm (vup V2 45 0 0) fun V3 => M_lives_17 FU 0 V3
theorem WM_lives (l : Launch) {d : Nat} (hdd : 128 ≤ d) (V : VV) (hV : okV V) (ho : oks []) (fin : Int × VV) (hf : M_lives V = some fin) : mSpec l yX4_lives cX4_lives 3 none d 2 [(3, 0)] V fin := by
  refine m_enter (lv := [(0, (3, 0))]) (by decide) rfl (Nat.le_of_ble_eq_true rfl) rfl (fun Z hZ hX => ?_) hV (ho.c (okA.t 0)) fin hf
  unfold M_lives
  refine m_aload_n hX 0 dX4_lives_0 rfl rfl ?_
  refine m_ic hX dX4_lives_1 (by decide) (by decide) ?_
  refine fp_43 hX dX4_lives_2 fun V1 => ?_
  refine m_aload_n hX 0 dX4_lives_5 rfl rfl ?_
  refine m_ic hX dX4_lives_6 (by decide) (by decide) ?_
  refine fp_44 hX dX4_lives_7 fun V2 => ?_
  refine m_aload_n hX 0 dX4_lives_10 rfl rfl ?_
  refine m_ic hX dX4_lives_11 (by decide) (by decide) ?_
  refine fp_45 hX dX4_lives_12 fun V3 => ?_
  refine m_ic hX dX4_lives_15 (by decide) (by decide) ?_
  refine m_istore_n hX (lv' := [(1, (0, 0)), (0, (3, 0))]) dX4_lives_16 rfl (by decide) rfl ?_
  exact m_sub [1, 0] rfl (WM_lives_17 hX hdd FU 0 V3)
theorem cl_lives {Z : MZ} {cc : ByteArray} {nL : Nat} {ret : Option FieldType} {d rk : Nat} {pc : Nat} {lv : List (Nat × AV)} {st : List AV} {V : VV} {g : Int → VV → Option (Int × VV)} (hX : MX Z cc nL ret d rk) (hdd : 129 ≤ d) (hcat : (st.map fun v => if v.1 = 1 then 2 else 1).sum ≤ 8) (hdg : decode cc pc = .ok (.invokevirtual 431, 3)) (kk : ∀ r V1, MG Z (pc + 3) lv st V1 (g r V1)) : MG Z pc lv ((3, 0) :: st) V (mb (M_lives V) g) :=
  m_callVv hX [] 0 (fun hV ho fin hf => WM_lives (zL Z) (Nat.le_refl 128) V hV ho fin hf) (lw_V q2241 q2243 qs113 q131 q2244) (by decide +kernel) rfl (by omega) (by decide) rfl hcat hdg kk
noncomputable def M_behind_30 (x1 : Int) (x2 : Int) (V : VV) : Option (Int × VV) := mb (M_lives V) fun r1 V2 => if x2 = (-1) then (ck x1 20 <| some (V2 40 x1, V2)) else (ck (w32 ((w32 (20 * x2)) + x1)) 400 <| some (V2 39 (w32 ((w32 (20 * x2)) + x1)), V2))
theorem WM_behind_30 {Z : MZ} {d : Nat} (hX : MX Z cX4_behind 3 (some .int) d 0) (hdd : 129 ≤ d) : ∀ x1 x2 V, MG Z 30 [(0, (3, 0)), (1, (0, x1)), (2, (0, x2))] [] V (M_behind_30 x1 x2 V) := by
  intro x1 x2 V
  unfold M_behind_30
  refine m_aload_n hX 0 dX4_behind_30 rfl rfl ?_
  refine cl_lives hX (by omega) (Nat.le_of_ble_eq_true rfl) dX4_behind_31 fun r1 V2 => ?_
  refine m_iload_n hX 2 dX4_behind_34 rfl rfl ?_
  refine m_ic hX dX4_behind_35 (by decide) (by decide) ?_
  refine m_icmp_ne hX 48 dX4_behind_36 (by decide) (fun _ => ?_) (fun _ => ?_)
  · refine m_aload_n hX 0 dX4_behind_48 rfl rfl ?_
    refine fg_39 hX dX4_behind_49 ?_
    refine m_bp hX dX4_behind_52 (by decide) (by decide) ?_
    refine m_iload_n hX 2 dX4_behind_54 rfl rfl ?_
    refine m_imul hX dX4_behind_55 ?_
    refine m_iload_n hX 1 dX4_behind_56 rfl rfl ?_
    refine m_iadd hX dX4_behind_57 ?_
    refine al_39 hX dX4_behind_58 ?_
    exact m_iret hX rfl dX4_behind_59
  · refine m_aload_n hX 0 dX4_behind_39 rfl rfl ?_
    refine fg_40 hX dX4_behind_40 ?_
    refine m_iload_n hX 1 dX4_behind_43 rfl rfl ?_
    refine al_40 hX dX4_behind_44 ?_
    refine m_goto hX 59 dX4_behind_45 (by decide) ?_
    exact m_iret hX rfl dX4_behind_59
noncomputable def M_behind (x1 : Int) (x2 : Int) (V : VV) : Option (Int × VV) := mb (M_term 5 V) fun r1 V2 => mb (M_lies x1 0 (w32 (r1 - 1)) V2) fun r3 V4 => if r3 = 0 then (some ((-1), V4)) else (if x2 = (-1) then (M_behind_30 x1 x2 V4) else (mb (M_isQuestion x2 V4) fun r5 V6 => if r5 = 0 then (some ((-1), V6)) else (M_behind_30 x1 x2 V6)))
theorem WM_behind (l : Launch) {d : Nat} (hdd : 129 ≤ d) (x1 : Int) (x2 : Int) (V : VV) (hV : okV V) (ho : oks [(0, x1), (0, x2)]) (fin : Int × VV) (hf : M_behind x1 x2 V = some fin) : mSpec l yX4_behind cX4_behind 3 (some .int) d 0 [(3, 0), (0, x1), (0, x2)] V fin := by
  refine m_enter (lv := [(0, (3, 0)), (1, (0, x1)), (2, (0, x2))]) (by decide) rfl (Nat.le_of_ble_eq_true rfl) rfl (fun Z hZ hX => ?_) hV (ho.c (okA.t 0)) fin hf
  unfold M_behind
  refine m_iload_n hX 1 dX4_behind_0 rfl rfl ?_
  refine m_ic hX dX4_behind_1 (by decide) (by decide) ?_
  refine m_aload_n hX 0 dX4_behind_2 rfl rfl ?_
  refine m_ic hX dX4_behind_3 (by decide) (by decide) ?_
  refine cl_term hX (by omega) (Nat.le_of_ble_eq_true rfl) dX4_behind_4 fun r1 V2 => ?_
  refine m_ic hX dX4_behind_7 (by decide) (by decide) ?_
  refine m_isub hX dX4_behind_8 ?_
  refine cl_lies hX (by omega) (Nat.le_of_ble_eq_true rfl) dX4_behind_9 fun r3 V4 => ?_
  refine m_if_eq hX 28 dX4_behind_12 (by decide) (fun _ => ?_) (fun _ => ?_)
  · refine m_ic hX dX4_behind_28 (by decide) (by decide) ?_
    exact m_iret hX rfl dX4_behind_29
  · refine m_iload_n hX 2 dX4_behind_15 rfl rfl ?_
    refine m_ic hX dX4_behind_16 (by decide) (by decide) ?_
    refine m_icmp_eq hX 30 dX4_behind_17 (by decide) (fun _ => ?_) (fun _ => ?_)
    · exact m_sub [0, 1, 2] rfl (WM_behind_30 hX hdd x1 x2 V4)
    · refine m_aload_n hX 0 dX4_behind_20 rfl rfl ?_
      refine m_iload_n hX 2 dX4_behind_21 rfl rfl ?_
      refine cl_isQuestion hX (by omega) (Nat.le_of_ble_eq_true rfl) dX4_behind_22 fun r5 V6 => ?_
      refine m_if_ne hX 30 dX4_behind_25 (by decide) (fun _ => ?_) (fun _ => ?_)
      · exact m_sub [0, 1, 2] rfl (WM_behind_30 hX hdd x1 x2 V6)
      · refine m_ic hX dX4_behind_28 (by decide) (by decide) ?_
        exact m_iret hX rfl dX4_behind_29
-- behind: not called inside
