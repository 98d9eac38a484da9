/-! printed by tools/genm.py: the model's methods as pure functions, and their walks -/
set_option maxRecDepth 100000
set_option maxHeartbeats 4000000
noncomputable def M_judge (x1 : Int) (V : VV) : Option (Int × VV) := mb (M_lies x1 0 2 V) fun r1 V2 => if r1 = 0 then (some ((-1), V2)) else (mb (M_lives V2) fun r3 V4 => nm (α := Int) (if x1 = 0 then V4 43 0 else (if x1 = 1 then V4 44 0 else V4 45 0)) fun v5 => some (v5, V4))
theorem WM_judge (l : Launch) {d : Nat} (hdd : 129 ≤ d) (x1 : Int) (V : VV) (hV : okV V) (ho : oks [(0, x1)]) (fin : Int × VV) (hf : M_judge x1 V = some fin) : mSpec l yX4_judge cX4_judge 2 (some .int) d 0 [(3, 0), (0, x1)] V fin := by
  refine m_enter (lv := [(0, (3, 0)), (1, (0, x1))]) (by decide) rfl (Nat.le_of_ble_eq_true rfl) rfl (fun Z hZ hX => ?_) hV (ho.c (okA.t 0)) fin hf
  unfold M_judge
  refine m_iload_n hX 1 dX4_judge_0 rfl rfl ?_
  refine m_ic hX dX4_judge_1 (by decide) (by decide) ?_
  refine m_ic hX dX4_judge_2 (by decide) (by decide) ?_
  refine cl_lies hX (by omega) (Nat.le_of_ble_eq_true rfl) dX4_judge_3 fun r1 V2 => ?_
  refine m_if_ne hX 11 dX4_judge_6 (by decide) (fun _ => ?_) (fun _ => ?_)
  · refine m_aload_n hX 0 dX4_judge_11 rfl rfl ?_
    refine cl_lives hX (by omega) (Nat.le_of_ble_eq_true rfl) dX4_judge_12 fun r3 V4 => ?_
    refine m_iload_n hX 1 dX4_judge_15 rfl rfl ?_
    refine m_join 42 (fun v5 => [(0, v5)]) (fun v5 => ?_) (fun hJ => ?_)
    · exact m_iret hX rfl dX4_judge_42
    · refine m_if_neF hX 26 dX4_judge_16 (by decide) (fun _ => ?_) (fun _ => ?_)
      · refine m_iload_n hX 1 dX4_judge_26 rfl rfl ?_
        refine m_ic hX dX4_judge_27 (by decide) (by decide) ?_
        refine m_icmp_neF hX 38 dX4_judge_28 (by decide) (fun _ => ?_) (fun _ => ?_)
        · refine m_aload_n hX 0 dX4_judge_38 rfl rfl ?_
          refine fg_45 hX dX4_judge_39 ?_
          exact hJ _
        · refine m_aload_n hX 0 dX4_judge_31 rfl rfl ?_
          refine fg_44 hX dX4_judge_32 ?_
          refine m_goto hX 42 dX4_judge_35 (by decide) ?_
          exact hJ _
      · refine m_aload_n hX 0 dX4_judge_19 rfl rfl ?_
        refine fg_43 hX dX4_judge_20 ?_
        refine m_goto hX 42 dX4_judge_23 (by decide) ?_
        exact hJ _
  · refine m_ic hX dX4_judge_9 (by decide) (by decide) ?_
    exact m_iret hX rfl dX4_judge_10
-- judge: not called inside
noncomputable def M_learn_57 (x1 : Int) (V : VV) : Option (Int × VV) := mb (M_good x1 V) fun r1 V2 => some (r1, V2)
theorem WM_learn_57 {Z : MZ} {d : Nat} (hX : MX Z cX4_learn 3 (some .int) d 0) (hdd : 129 ≤ d) : ∀ x1 V, MG Z 57 [(0, (3, 0)), (1, (0, x1))] [] V (M_learn_57 x1 V) := by
  intro x1 V
  unfold M_learn_57
  refine m_aload_n hX 0 dX4_learn_57 rfl rfl ?_
  refine m_iload_n hX 1 dX4_learn_58 rfl rfl ?_
  refine cl_good hX (by omega) (Nat.le_of_ble_eq_true rfl) dX4_learn_59 fun r1 V2 => ?_
  exact m_iret hX rfl dX4_learn_62
noncomputable def M_learn_8 : Nat → Int → Int → VV → Option (Int × VV)
  | 0, _, _, _ => none
  | n + 1, x1, x2, V => mb (M_questions V) fun r1 V2 => if r1 ≤ x2 then (M_learn_57 x1 V2) else (ck x2 20 <| ck (w32 ((w32 (0 + (w32 (5 * x2)))) + 2)) 5201 <| nm (vup V2 3 (w32 ((w32 (0 + (w32 (5 * x2)))) + 2)) (V2 41 x2)) fun V3 => ck x2 20 <| nm (α := Int) (if V3 41 x2 ≤ 0 then 0 else 1) fun v4 => nm (α := Int) (w32 (x1 + v4)) fun v5 => nm (w32 (x2 + 1)) fun v6 => M_learn_8 n v5 v6 V3)
theorem WM_learn_8 {Z : MZ} {d : Nat} (hX : MX Z cX4_learn 3 (some .int) d 0) (hdd : 129 ≤ d) : ∀ n x1 x2 V, MG Z 8 [(0, (3, 0)), (1, (0, x1)), (2, (0, x2))] [] V (M_learn_8 n x1 x2 V) := by
  intro n
  induction n with
  | zero => intro x1 x2 V; exact m_none
  | succ n ih =>
    intro x1 x2 V
    rw [M_learn_8]
    refine m_iload_n hX 2 dX4_learn_8 rfl rfl ?_
    refine m_aload_n hX 0 dX4_learn_9 rfl rfl ?_
    refine cl_questions hX (by omega) (Nat.le_of_ble_eq_true rfl) dX4_learn_10 fun r1 V2 => ?_
    refine m_icmp_ge hX 57 dX4_learn_13 (by decide) (fun _ => ?_) (fun _ => ?_)
    · exact m_sub [0, 1] rfl (WM_learn_57 hX hdd x1 V2)
    · refine m_aload_n hX 0 dX4_learn_16 rfl rfl ?_
      refine fg_3 hX dX4_learn_17 ?_
      refine m_ic hX dX4_learn_20 (by decide) (by decide) ?_
      refine m_ic hX dX4_learn_21 (by decide) (by decide) ?_
      refine m_iload_n hX 2 dX4_learn_22 rfl rfl ?_
      refine m_imul hX dX4_learn_23 ?_
      refine m_iadd hX dX4_learn_24 ?_
      refine m_ic hX dX4_learn_25 (by decide) (by decide) ?_
      refine m_iadd hX dX4_learn_26 ?_
      refine m_aload_n hX 0 dX4_learn_27 rfl rfl ?_
      refine fg_41 hX dX4_learn_28 ?_
      refine m_iload_n hX 2 dX4_learn_31 rfl rfl ?_
      refine al_41 hX dX4_learn_32 ?_
      refine as_3 hX dX4_learn_33 fun V3 => ?_
      refine m_iload_n hX 1 dX4_learn_34 rfl rfl ?_
      refine m_aload_n hX 0 dX4_learn_35 rfl rfl ?_
      refine fg_41 hX dX4_learn_36 ?_
      refine m_iload_n hX 2 dX4_learn_39 rfl rfl ?_
      refine al_41 hX dX4_learn_40 ?_
      refine m_join 49 (fun v4 => [(0, v4), (0, x1)]) (fun v4 => ?_) (fun hJ => ?_)
      · refine m_iadd hX dX4_learn_49 ?_
        refine m_nmT fun v5 => ?_
        refine m_istore_n hX (lv' := [(1, (0, v5)), (0, (3, 0)), (2, (0, x2))]) dX4_learn_50 rfl (by decide) rfl ?_
        refine m_iinc hX 2 dX4_learn_51 rfl (by decide) fun v6 => m_lv (lv' := [(2, (0, v6)), (1, (0, v5)), (0, (3, 0))]) rfl ?_
        refine m_goto hX 8 dX4_learn_54 (by decide) ?_
        exact m_sub [2, 1, 0] rfl (ih v5 v6 V3)
      · refine m_if_leF hX 48 dX4_learn_41 (by decide) (fun _ => ?_) (fun _ => ?_)
        · refine m_ic hX dX4_learn_48 (by decide) (by decide) ?_
          exact hJ _
        · refine m_ic hX dX4_learn_44 (by decide) (by decide) ?_
          refine m_goto hX 49 dX4_learn_45 (by decide) ?_
          exact hJ _
noncomputable def M_learn (V : VV) : Option (Int × VV) := mb (M_lives V) fun r1 V2 => M_learn_8 FU 0 0 V2
theorem WM_learn (l : Launch) {d : Nat} (hdd : 129 ≤ d) (V : VV) (hV : okV V) (ho : oks []) (fin : Int × VV) (hf : M_learn V = some fin) : mSpec l yX4_learn cX4_learn 3 (some .int) d 0 [(3, 0)] V fin := by
  refine m_enter (lv := [(0, (3, 0))]) (by decide) rfl (Nat.le_of_ble_eq_true rfl) rfl (fun Z hZ hX => ?_) hV (ho.c (okA.t 0)) fin hf
  unfold M_learn
  refine m_aload_n hX 0 dX4_learn_0 rfl rfl ?_
  refine cl_lives hX (by omega) (Nat.le_of_ble_eq_true rfl) dX4_learn_1 fun r1 V2 => ?_
  refine m_ic hX dX4_learn_4 (by decide) (by decide) ?_
  refine m_istore_n hX (lv' := [(1, (0, 0)), (0, (3, 0))]) dX4_learn_5 rfl (by decide) rfl ?_
  refine m_ic hX dX4_learn_6 (by decide) (by decide) ?_
  refine m_istore_n hX (lv' := [(2, (0, 0)), (1, (0, 0)), (0, (3, 0))]) dX4_learn_7 rfl (by decide) rfl ?_
  exact m_sub [2, 1, 0] rfl (WM_learn_8 hX hdd FU 0 0 V2)
-- learn: not called inside
noncomputable def M_laysLesson_40 (x1 : Int) (x2 : Int) (x3 : Int) (V : VV) : Option (Int × VV) := nm (α := Int) (if V 51 0 = 0 then (if 0 ≤ V 48 0 then 0 else 1) else 1) fun v1 => cb v1 <| nm (vup V 51 0 v1) fun V2 => if V2 51 0 = 0 then (ck (V2 48 0) 20 <| ck (V2 48 0) 20 <| nm (vup V2 47 (V2 48 0) (w32 ((V2 47 (V2 48 0)) - x3))) fun V3 => ck (w32 ((w32 ((w32 (2 * x1)) + x2)) - 1)) 40 <| nm (vup V3 46 (w32 ((w32 ((w32 (2 * x1)) + x2)) - 1)) (V3 48 0)) fun V4 => nm (vup V4 50 0 (V4 48 0)) fun V5 => some (0, V5)) else (nm (vup V2 49 0 (w32 ((V2 49 0) + 1))) fun V6 => some (0, V6))
theorem WM_laysLesson_40 {Z : MZ} {d : Nat} (hX : MX Z cX4_laysLesson 4 none d 2) (hdd : 1 ≤ d) : ∀ x1 x2 x3 V, MG Z 40 [(0, (3, 0)), (1, (0, x1)), (2, (0, x2)), (3, (0, x3))] [] V (M_laysLesson_40 x1 x2 x3 V) := by
  intro x1 x2 x3 V
  unfold M_laysLesson_40
  refine m_aload_n hX 0 dX4_laysLesson_40 rfl rfl ?_
  refine m_aload_n hX 0 dX4_laysLesson_41 rfl rfl ?_
  refine fg_51 hX dX4_laysLesson_42 ?_
  refine m_join 60 (fun v1 => [(0, v1), (3, 0)]) (fun v1 => ?_) (fun hJ => ?_)
  · refine fp_51 hX dX4_laysLesson_60 fun V2 => ?_
    refine m_aload_n hX 0 dX4_laysLesson_63 rfl rfl ?_
    refine fg_51 hX dX4_laysLesson_64 ?_
    refine m_if_eq hX 81 dX4_laysLesson_67 (by decide) (fun _ => ?_) (fun _ => ?_)
    · refine m_aload_n hX 0 dX4_laysLesson_81 rfl rfl ?_
      refine fg_47 hX dX4_laysLesson_82 ?_
      refine m_aload_n hX 0 dX4_laysLesson_85 rfl rfl ?_
      refine fg_48 hX dX4_laysLesson_86 ?_
      refine m_dup2 hX dX4_laysLesson_89 rfl rfl ?_
      refine al_47 hX dX4_laysLesson_90 ?_
      refine m_iload_n hX 3 dX4_laysLesson_91 rfl rfl ?_
      refine m_isub hX dX4_laysLesson_92 ?_
      refine as_47 hX dX4_laysLesson_93 fun V3 => ?_
      refine m_aload_n hX 0 dX4_laysLesson_94 rfl rfl ?_
      refine fg_46 hX dX4_laysLesson_95 ?_
      refine m_ic hX dX4_laysLesson_98 (by decide) (by decide) ?_
      refine m_iload_n hX 1 dX4_laysLesson_99 rfl rfl ?_
      refine m_imul hX dX4_laysLesson_100 ?_
      refine m_iload_n hX 2 dX4_laysLesson_101 rfl rfl ?_
      refine m_iadd hX dX4_laysLesson_102 ?_
      refine m_ic hX dX4_laysLesson_103 (by decide) (by decide) ?_
      refine m_isub hX dX4_laysLesson_104 ?_
      refine m_aload_n hX 0 dX4_laysLesson_105 rfl rfl ?_
      refine fg_48 hX dX4_laysLesson_106 ?_
      refine as_46 hX dX4_laysLesson_109 fun V4 => ?_
      refine m_aload_n hX 0 dX4_laysLesson_110 rfl rfl ?_
      refine m_aload_n hX 0 dX4_laysLesson_111 rfl rfl ?_
      refine fg_48 hX dX4_laysLesson_112 ?_
      refine fp_50 hX dX4_laysLesson_115 fun V5 => ?_
      exact m_vret hX rfl dX4_laysLesson_118
    · refine m_aload_n hX 0 dX4_laysLesson_70 rfl rfl ?_
      refine m_dup hX dX4_laysLesson_71 rfl ?_
      refine fg_49 hX dX4_laysLesson_72 ?_
      refine m_ic hX dX4_laysLesson_75 (by decide) (by decide) ?_
      refine m_iadd hX dX4_laysLesson_76 ?_
      refine fp_49 hX dX4_laysLesson_77 fun V6 => ?_
      exact m_vret hX rfl dX4_laysLesson_80
  · refine m_if_neF hX 55 dX4_laysLesson_45 (by decide) (fun _ => ?_) (fun _ => ?_)
    · refine m_ic hX dX4_laysLesson_55 (by decide) (by decide) ?_
      refine m_goto hX 60 dX4_laysLesson_56 (by decide) ?_
      exact hJ _
    · refine m_aload_n hX 0 dX4_laysLesson_48 rfl rfl ?_
      refine fg_48 hX dX4_laysLesson_49 ?_
      refine m_if_geF hX 59 dX4_laysLesson_52 (by decide) (fun _ => ?_) (fun _ => ?_)
      · refine m_ic hX dX4_laysLesson_59 (by decide) (by decide) ?_
        exact hJ _
      · refine m_ic hX dX4_laysLesson_55 (by decide) (by decide) ?_
        refine m_goto hX 60 dX4_laysLesson_56 (by decide) ?_
        exact hJ _
noncomputable def M_laysLesson_0 : Nat → Int → Int → Int → VV → Option (Int × VV)
  | 0, _, _, _, _ => none
  | n + 1, x1, x2, x3, V => if V 51 0 = 0 then (if V 48 0 < 0 then (M_laysLesson_40 x1 x2 x3 V) else (ck (V 48 0) 20 <| if x3 ≤ V 47 (V 48 0) then (M_laysLesson_40 x1 x2 x3 V) else (nm (vup V 48 0 (w32 ((V 48 0) - 1))) fun V1 => M_laysLesson_0 n x1 x2 x3 V1))) else (M_laysLesson_40 x1 x2 x3 V)
theorem WM_laysLesson_0 {Z : MZ} {d : Nat} (hX : MX Z cX4_laysLesson 4 none d 2) (hdd : 1 ≤ d) : ∀ n x1 x2 x3 V, MG Z 0 [(0, (3, 0)), (1, (0, x1)), (2, (0, x2)), (3, (0, x3))] [] V (M_laysLesson_0 n x1 x2 x3 V) := by
  intro n
  induction n with
  | zero => intro x1 x2 x3 V; exact m_none
  | succ n ih =>
    intro x1 x2 x3 V
    rw [M_laysLesson_0]
    refine m_aload_n hX 0 dX4_laysLesson_0 rfl rfl ?_
    refine fg_51 hX dX4_laysLesson_1 ?_
    refine m_if_ne hX 40 dX4_laysLesson_4 (by decide) (fun _ => ?_) (fun _ => ?_)
    · exact m_sub [0, 1, 2, 3] rfl (WM_laysLesson_40 hX hdd x1 x2 x3 V)
    · refine m_aload_n hX 0 dX4_laysLesson_7 rfl rfl ?_
      refine fg_48 hX dX4_laysLesson_8 ?_
      refine m_if_lt hX 40 dX4_laysLesson_11 (by decide) (fun _ => ?_) (fun _ => ?_)
      · exact m_sub [0, 1, 2, 3] rfl (WM_laysLesson_40 hX hdd x1 x2 x3 V)
      · refine m_aload_n hX 0 dX4_laysLesson_14 rfl rfl ?_
        refine fg_47 hX dX4_laysLesson_15 ?_
        refine m_aload_n hX 0 dX4_laysLesson_18 rfl rfl ?_
        refine fg_48 hX dX4_laysLesson_19 ?_
        refine al_47 hX dX4_laysLesson_22 ?_
        refine m_iload_n hX 3 dX4_laysLesson_23 rfl rfl ?_
        refine m_icmp_ge hX 40 dX4_laysLesson_24 (by decide) (fun _ => ?_) (fun _ => ?_)
        · exact m_sub [0, 1, 2, 3] rfl (WM_laysLesson_40 hX hdd x1 x2 x3 V)
        · refine m_aload_n hX 0 dX4_laysLesson_27 rfl rfl ?_
          refine m_dup hX dX4_laysLesson_28 rfl ?_
          refine fg_48 hX dX4_laysLesson_29 ?_
          refine m_ic hX dX4_laysLesson_32 (by decide) (by decide) ?_
          refine m_isub hX dX4_laysLesson_33 ?_
          refine fp_48 hX dX4_laysLesson_34 fun V1 => ?_
          refine m_goto hX 0 dX4_laysLesson_37 (by decide) ?_
          exact m_sub [0, 1, 2, 3] rfl (ih x1 x2 x3 V1)
noncomputable def M_laysLesson (x1 : Int) (x2 : Int) (x3 : Int) (V : VV) : Option (Int × VV) := M_laysLesson_0 FU x1 x2 x3 V
theorem WM_laysLesson (l : Launch) {d : Nat} (hdd : 1 ≤ d) (x1 : Int) (x2 : Int) (x3 : Int) (V : VV) (hV : okV V) (ho : oks [(0, x1), (0, x2), (0, x3)]) (fin : Int × VV) (hf : M_laysLesson x1 x2 x3 V = some fin) : mSpec l yX4_laysLesson cX4_laysLesson 4 none d 2 [(3, 0), (0, x1), (0, x2), (0, x3)] V fin := by
  refine m_enter (lv := [(0, (3, 0)), (1, (0, x1)), (2, (0, x2)), (3, (0, x3))]) (by decide) rfl (Nat.le_of_ble_eq_true rfl) rfl (fun Z hZ hX => ?_) hV (ho.c (okA.t 0)) fin hf
  unfold M_laysLesson
  exact m_sub [0, 1, 2, 3] rfl (WM_laysLesson_0 hX hdd FU x1 x2 x3 V)
theorem cl_laysLesson {Z : MZ} {cc : ByteArray} {nL : Nat} {ret : Option FieldType} {d rk : Nat} {pc : Nat} {lv : List (Nat × AV)} {st : List AV} {V : VV} {g : Int → VV → Option (Int × VV)} (hX : MX Z cc nL ret d rk) {a0 a1 a2 : Int} (hdd : 2 ≤ d) (hcat : (st.map fun v => if v.1 = 1 then 2 else 1).sum ≤ 8) (hdg : decode cc pc = .ok (.invokevirtual 446, 3)) (kk : ∀ r V1, MG Z (pc + 3) lv st V1 (g r V1)) : MG Z pc lv ((0, a2) :: (0, a1) :: (0, a0) :: (3, 0) :: st) V (mb (M_laysLesson a0 a1 a2 V) g) :=
  m_callVv hX [(0, a0), (0, a1), (0, a2)] 3 (fun hV ho fin hf => WM_laysLesson (zL Z) (Nat.le_refl 1) a0 a1 a2 V hV ho fin hf) (lw_V q2269 q2271 qs117 q131 q2272) (by decide +kernel) rfl (by omega) (by decide) rfl hcat hdg kk
noncomputable def M_laysBackward_192 (K91 : Int → VV → Option (Int × VV)) (K99 : Int → Int → Int → VV → Option (Int × VV)) (x1 : Int) (x2 : Int) (x3 : Int) (V : VV) : Option (Int × VV) := nm (w32 (x3 + 1)) fun v1 => K99 x1 x2 v1 V
theorem WM_laysBackward_192 {Z : MZ} {d : Nat} (hX : MX Z cX4_laysBackward 5 none d 2) (hdd : 131 ≤ d) {K91 : Int → VV → Option (Int × VV)} (hK91 : ∀ x1 V, MG Z 91 [(0, (3, 0)), (1, (0, x1))] [] V (K91 x1 V)) {K99 : Int → Int → Int → VV → Option (Int × VV)} (hK99 : ∀ x1 x2 x3 V, MG Z 99 [(0, (3, 0)), (1, (0, x1)), (2, (0, x2)), (3, (0, x3))] [] V (K99 x1 x2 x3 V)) : ∀ x1 x2 x3 V, MG Z 192 [(0, (3, 0)), (1, (0, x1)), (2, (0, x2)), (3, (0, x3))] [] V (M_laysBackward_192 K91 K99 x1 x2 x3 V) := by
  intro x1 x2 x3 V
  unfold M_laysBackward_192
  refine m_iinc hX 3 dX4_laysBackward_192 rfl (by decide) fun v1 => m_lv (lv' := [(3, (0, v1)), (0, (3, 0)), (1, (0, x1)), (2, (0, x2))]) rfl ?_
  refine m_goto hX 99 dX4_laysBackward_195 (by decide) ?_
  exact m_sub [1, 2, 3, 0] rfl (hK99 x1 x2 v1 V)
noncomputable def M_laysBackward_173 (K91 : Int → VV → Option (Int × VV)) (K99 : Int → Int → Int → VV → Option (Int × VV)) (x1 : Int) (x2 : Int) (x3 : Int) (x4 : Int) (V : VV) : Option (Int × VV) := ck (w32 ((w32 (4 * x3)) + (w32 (2 * x4)))) 80 <| mb (M_laysLesson x3 1 (V 33 (w32 ((w32 (4 * x3)) + (w32 (2 * x4))))) V) fun r1 V2 => M_laysBackward_192 K91 K99 x1 x2 x3 V2
theorem WM_laysBackward_173 {Z : MZ} {d : Nat} (hX : MX Z cX4_laysBackward 5 none d 2) (hdd : 131 ≤ d) {K91 : Int → VV → Option (Int × VV)} (hK91 : ∀ x1 V, MG Z 91 [(0, (3, 0)), (1, (0, x1))] [] V (K91 x1 V)) {K99 : Int → Int → Int → VV → Option (Int × VV)} (hK99 : ∀ x1 x2 x3 V, MG Z 99 [(0, (3, 0)), (1, (0, x1)), (2, (0, x2)), (3, (0, x3))] [] V (K99 x1 x2 x3 V)) : ∀ x1 x2 x3 x4 V, MG Z 173 [(0, (3, 0)), (1, (0, x1)), (2, (0, x2)), (3, (0, x3)), (4, (0, x4))] [] V (M_laysBackward_173 K91 K99 x1 x2 x3 x4 V) := by
  intro x1 x2 x3 x4 V
  unfold M_laysBackward_173
  refine m_aload_n hX 0 dX4_laysBackward_173 rfl rfl ?_
  refine m_iload_n hX 3 dX4_laysBackward_174 rfl rfl ?_
  refine m_ic hX dX4_laysBackward_175 (by decide) (by decide) ?_
  refine m_aload_n hX 0 dX4_laysBackward_176 rfl rfl ?_
  refine fg_33 hX dX4_laysBackward_177 ?_
  refine m_ic hX dX4_laysBackward_180 (by decide) (by decide) ?_
  refine m_iload_n hX 3 dX4_laysBackward_181 rfl rfl ?_
  refine m_imul hX dX4_laysBackward_182 ?_
  refine m_ic hX dX4_laysBackward_183 (by decide) (by decide) ?_
  refine m_iload hX 4 dX4_laysBackward_184 rfl ?_
  refine m_imul hX dX4_laysBackward_186 ?_
  refine m_iadd hX dX4_laysBackward_187 ?_
  refine al_33 hX dX4_laysBackward_188 ?_
  refine cl_laysLesson hX (by omega) (Nat.le_of_ble_eq_true rfl) dX4_laysBackward_189 fun r1 V2 => ?_
  exact m_sub [0, 1, 2, 3] rfl (WM_laysBackward_192 hX hdd hK91 hK99 x1 x2 x3 V2)
noncomputable def M_laysBackward_198 (K91 : Int → VV → Option (Int × VV)) (x1 : Int) (V : VV) : Option (Int × VV) := nm (w32 (x1 + (-1))) fun v1 => K91 v1 V
theorem WM_laysBackward_198 {Z : MZ} {d : Nat} (hX : MX Z cX4_laysBackward 5 none d 2) (hdd : 131 ≤ d) {K91 : Int → VV → Option (Int × VV)} (hK91 : ∀ x1 V, MG Z 91 [(0, (3, 0)), (1, (0, x1))] [] V (K91 x1 V)) : ∀ x1 V, MG Z 198 [(0, (3, 0)), (1, (0, x1))] [] V (M_laysBackward_198 K91 x1 V) := by
  intro x1 V
  unfold M_laysBackward_198
  refine m_iinc hX 1 dX4_laysBackward_198 rfl (by decide) fun v1 => m_lv (lv' := [(1, (0, v1)), (0, (3, 0))]) rfl ?_
  refine m_goto hX 91 dX4_laysBackward_201 (by decide) ?_
  exact m_sub [1, 0] rfl (hK91 v1 V)
noncomputable def M_laysBackward_99 (K91 : Int → VV → Option (Int × VV)) : Nat → Int → Int → Int → VV → Option (Int × VV)
  | 0, _, _, _, _ => none
  | n + 1, x1, x2, x3, V => mb (M_questions V) fun r1 V2 => if r1 ≤ x3 then (M_laysBackward_198 K91 x1 V2) else (ck x3 20 <| if 0 < V2 38 x3 then (mb (M_helpedBy x3 x2 V2) fun r3 V4 => mb (M_kingsWith x3 x2 V4) fun r5 V6 => ck x3 20 <| if V6 38 x3 = x1 then (if x1 = 2 then (ck (w32 ((w32 ((w32 (4 * x3)) + (w32 (2 * r3)))) + 1)) 80 <| mb (M_laysLesson x3 2 (V6 33 (w32 ((w32 ((w32 (4 * x3)) + (w32 (2 * r3)))) + 1))) V6) fun r7 V8 => M_laysBackward_173 K91 (M_laysBackward_99 K91 n) x1 r5 x3 r3 V8) else (M_laysBackward_173 K91 (M_laysBackward_99 K91 n) x1 r5 x3 r3 V6)) else (M_laysBackward_192 K91 (M_laysBackward_99 K91 n) x1 r5 x3 V6)) else (M_laysBackward_192 K91 (M_laysBackward_99 K91 n) x1 x2 x3 V2))
theorem WM_laysBackward_99 {Z : MZ} {d : Nat} (hX : MX Z cX4_laysBackward 5 none d 2) (hdd : 131 ≤ d) {K91 : Int → VV → Option (Int × VV)} (hK91 : ∀ x1 V, MG Z 91 [(0, (3, 0)), (1, (0, x1))] [] V (K91 x1 V)) : ∀ n x1 x2 x3 V, MG Z 99 [(0, (3, 0)), (1, (0, x1)), (2, (0, x2)), (3, (0, x3))] [] V (M_laysBackward_99 K91 n x1 x2 x3 V) := by
  intro n
  induction n with
  | zero => intro x1 x2 x3 V; exact m_none
  | succ n ih =>
    intro x1 x2 x3 V
    rw [M_laysBackward_99]
    refine m_iload_n hX 3 dX4_laysBackward_99 rfl rfl ?_
    refine m_aload_n hX 0 dX4_laysBackward_100 rfl rfl ?_
    refine cl_questions hX (by omega) (Nat.le_of_ble_eq_true rfl) dX4_laysBackward_101 fun r1 V2 => ?_
    refine m_icmp_ge hX 198 dX4_laysBackward_104 (by decide) (fun _ => ?_) (fun _ => ?_)
    · exact m_sub [0, 1] rfl (WM_laysBackward_198 hX hdd hK91 x1 V2)
    · refine m_aload_n hX 0 dX4_laysBackward_107 rfl rfl ?_
      refine fg_38 hX dX4_laysBackward_108 ?_
      refine m_iload_n hX 3 dX4_laysBackward_111 rfl rfl ?_
      refine al_38 hX dX4_laysBackward_112 ?_
      refine m_if_gt hX 119 dX4_laysBackward_113 (by decide) (fun _ => ?_) (fun _ => ?_)
      · refine m_aload_n hX 0 dX4_laysBackward_119 rfl rfl ?_
        refine m_iload_n hX 3 dX4_laysBackward_120 rfl rfl ?_
        refine m_iload_n hX 2 dX4_laysBackward_121 rfl rfl ?_
        refine cl_helpedBy hX (by omega) (Nat.le_of_ble_eq_true rfl) dX4_laysBackward_122 fun r3 V4 => ?_
        refine m_istore hX (lv' := [(4, (0, r3)), (0, (3, 0)), (1, (0, x1)), (2, (0, x2)), (3, (0, x3))]) dX4_laysBackward_125 (by decide) rfl ?_
        refine m_aload_n hX 1 dX4_laysBackward_127 rfl rfl ?_
        refine m_iload_n hX 4 dX4_laysBackward_128 rfl rfl ?_
        refine m_iload_n hX 3 dX4_laysBackward_129 rfl rfl ?_
        refine cl_kingsWith hX (by omega) (Nat.le_of_ble_eq_true rfl) dX4_laysBackward_130 fun r5 V6 => ?_
        refine m_istore_n hX (lv' := [(2, (0, r5)), (4, (0, r3)), (0, (3, 0)), (1, (0, x1)), (3, (0, x3))]) dX4_laysBackward_133 rfl (by decide) rfl ?_
        refine m_aload_n hX 2 dX4_laysBackward_134 rfl rfl ?_
        refine fg_38 hX dX4_laysBackward_135 ?_
        refine m_iload_n hX 4 dX4_laysBackward_138 rfl rfl ?_
        refine al_38 hX dX4_laysBackward_139 ?_
        refine m_iload_n hX 3 dX4_laysBackward_140 rfl rfl ?_
        refine m_icmp_eq hX 147 dX4_laysBackward_141 (by decide) (fun _ => ?_) (fun _ => ?_)
        · refine m_iload_n hX 3 dX4_laysBackward_147 rfl rfl ?_
          refine m_ic hX dX4_laysBackward_148 (by decide) (by decide) ?_
          refine m_icmp_ne hX 173 dX4_laysBackward_149 (by decide) (fun _ => ?_) (fun _ => ?_)
          · exact m_sub [2, 3, 0, 4, 1] rfl (WM_laysBackward_173 hX hdd hK91 ih x1 r5 x3 r3 V6)
          · refine m_aload_n hX 2 dX4_laysBackward_152 rfl rfl ?_
            refine m_iload_n hX 4 dX4_laysBackward_153 rfl rfl ?_
            refine m_ic hX dX4_laysBackward_154 (by decide) (by decide) ?_
            refine m_aload_n hX 2 dX4_laysBackward_155 rfl rfl ?_
            refine fg_33 hX dX4_laysBackward_156 ?_
            refine m_ic hX dX4_laysBackward_159 (by decide) (by decide) ?_
            refine m_iload_n hX 4 dX4_laysBackward_160 rfl rfl ?_
            refine m_imul hX dX4_laysBackward_161 ?_
            refine m_ic hX dX4_laysBackward_162 (by decide) (by decide) ?_
            refine m_iload hX 1 dX4_laysBackward_163 rfl ?_
            refine m_imul hX dX4_laysBackward_165 ?_
            refine m_iadd hX dX4_laysBackward_166 ?_
            refine m_ic hX dX4_laysBackward_167 (by decide) (by decide) ?_
            refine m_iadd hX dX4_laysBackward_168 ?_
            refine al_33 hX dX4_laysBackward_169 ?_
            refine cl_laysLesson hX (by omega) (Nat.le_of_ble_eq_true rfl) dX4_laysBackward_170 fun r7 V8 => ?_
            exact m_sub [2, 3, 0, 4, 1] rfl (WM_laysBackward_173 hX hdd hK91 ih x1 r5 x3 r3 V8)
        · refine m_goto hX 192 dX4_laysBackward_144 (by decide) ?_
          exact m_sub [2, 3, 0, 4] rfl (WM_laysBackward_192 hX hdd hK91 ih x1 r5 x3 V6)
      · refine m_goto hX 192 dX4_laysBackward_116 (by decide) ?_
        exact m_sub [0, 1, 2, 3] rfl (WM_laysBackward_192 hX hdd hK91 ih x1 x2 x3 V2)
noncomputable def M_laysBackward_91 : Nat → Int → VV → Option (Int × VV)
  | 0, _, _ => none
  | n + 1, x1, V => if x1 ≤ 0 then (some (0, V)) else (M_laysBackward_99 (M_laysBackward_91 n) FU x1 0 0 V)
theorem WM_laysBackward_91 {Z : MZ} {d : Nat} (hX : MX Z cX4_laysBackward 5 none d 2) (hdd : 131 ≤ d) : ∀ n x1 V, MG Z 91 [(0, (3, 0)), (1, (0, x1))] [] V (M_laysBackward_91 n x1 V) := by
  intro n
  induction n with
  | zero => intro x1 V; exact m_none
  | succ n ih =>
    intro x1 V
    rw [M_laysBackward_91]
    refine m_iload_n hX 1 dX4_laysBackward_91 rfl rfl ?_
    refine m_if_le hX 204 dX4_laysBackward_92 (by decide) (fun _ => ?_) (fun _ => ?_)
    · exact m_vret hX rfl dX4_laysBackward_204
    · refine m_ic hX dX4_laysBackward_95 (by decide) (by decide) ?_
      refine m_istore_n hX (lv' := [(2, (0, 0)), (0, (3, 0)), (1, (0, x1))]) dX4_laysBackward_96 rfl (by decide) rfl ?_
      refine m_ic hX dX4_laysBackward_97 (by decide) (by decide) ?_
      refine m_istore_n hX (lv' := [(3, (0, 0)), (2, (0, 0)), (0, (3, 0)), (1, (0, x1))]) dX4_laysBackward_98 rfl (by decide) rfl ?_
      exact m_sub [2, 3, 1, 0] rfl (WM_laysBackward_99 hX hdd ih FU x1 0 0 V)
noncomputable def M_laysBackward_63 (V : VV) : Option (Int × VV) := mb (M_term 5 V) fun r1 V2 => nm (vup V2 48 0 (w32 (r1 - 1))) fun V3 => nm (vup V3 49 0 0) fun V4 => nm (vup V4 50 0 (-1)) fun V5 => nm (vup V5 51 0 0) fun V6 => M_laysBackward_91 FU 2 V6
theorem WM_laysBackward_63 {Z : MZ} {d : Nat} (hX : MX Z cX4_laysBackward 5 none d 2) (hdd : 131 ≤ d) : ∀ V, MG Z 63 [(0, (3, 0))] [] V (M_laysBackward_63 V) := by
  intro V
  unfold M_laysBackward_63
  refine m_aload_n hX 0 dX4_laysBackward_63 rfl rfl ?_
  refine m_aload_n hX 0 dX4_laysBackward_64 rfl rfl ?_
  refine m_ic hX dX4_laysBackward_65 (by decide) (by decide) ?_
  refine cl_term hX (by omega) (Nat.le_of_ble_eq_true rfl) dX4_laysBackward_66 fun r1 V2 => ?_
  refine m_ic hX dX4_laysBackward_69 (by decide) (by decide) ?_
  refine m_isub hX dX4_laysBackward_70 ?_
  refine fp_48 hX dX4_laysBackward_71 fun V3 => ?_
  refine m_aload_n hX 0 dX4_laysBackward_74 rfl rfl ?_
  refine m_ic hX dX4_laysBackward_75 (by decide) (by decide) ?_
  refine fp_49 hX dX4_laysBackward_76 fun V4 => ?_
  refine m_aload_n hX 0 dX4_laysBackward_79 rfl rfl ?_
  refine m_ic hX dX4_laysBackward_80 (by decide) (by decide) ?_
  refine fp_50 hX dX4_laysBackward_81 fun V5 => ?_
  refine m_aload_n hX 0 dX4_laysBackward_84 rfl rfl ?_
  refine m_ic hX dX4_laysBackward_85 (by decide) (by decide) ?_
  refine m_cb (b := 0) (by decide) ?_
  refine fp_51 hX dX4_laysBackward_86 fun V6 => ?_
  refine m_ic hX dX4_laysBackward_89 (by decide) (by decide) ?_
  refine m_istore_n hX (lv' := [(1, (0, 2)), (0, (3, 0))]) dX4_laysBackward_90 rfl (by decide) rfl ?_
  exact m_sub [1, 0] rfl (WM_laysBackward_91 hX hdd FU 2 V6)
noncomputable def M_laysBackward_39 : Nat → Int → VV → Option (Int × VV)
  | 0, _, _ => none
  | n + 1, x1, V => if 20 ≤ x1 then (M_laysBackward_63 V) else (mb (M_term 6 V) fun r1 V2 => ck x1 20 <| nm (vup V2 47 x1 r1) fun V3 => nm (w32 (x1 + 1)) fun v4 => M_laysBackward_39 n v4 V3)
theorem WM_laysBackward_39 {Z : MZ} {d : Nat} (hX : MX Z cX4_laysBackward 5 none d 2) (hdd : 131 ≤ d) : ∀ n x1 V, MG Z 39 [(0, (3, 0)), (1, (0, x1))] [] V (M_laysBackward_39 n x1 V) := by
  intro n
  induction n with
  | zero => intro x1 V; exact m_none
  | succ n ih =>
    intro x1 V
    rw [M_laysBackward_39]
    refine m_iload_n hX 1 dX4_laysBackward_39 rfl rfl ?_
    refine m_bp hX dX4_laysBackward_40 (by decide) (by decide) ?_
    refine m_icmp_ge hX 63 dX4_laysBackward_42 (by decide) (fun _ => ?_) (fun _ => ?_)
    · exact m_sub [0] rfl (WM_laysBackward_63 hX hdd V)
    · refine m_aload_n hX 0 dX4_laysBackward_45 rfl rfl ?_
      refine fg_47 hX dX4_laysBackward_46 ?_
      refine m_iload_n hX 1 dX4_laysBackward_49 rfl rfl ?_
      refine m_aload_n hX 0 dX4_laysBackward_50 rfl rfl ?_
      refine m_bp hX dX4_laysBackward_51 (by decide) (by decide) ?_
      refine cl_term hX (by omega) (Nat.le_of_ble_eq_true rfl) dX4_laysBackward_53 fun r1 V2 => ?_
      refine as_47 hX dX4_laysBackward_56 fun V3 => ?_
      refine m_iinc hX 1 dX4_laysBackward_57 rfl (by decide) fun v4 => m_lv (lv' := [(1, (0, v4)), (0, (3, 0))]) rfl ?_
      refine m_goto hX 39 dX4_laysBackward_60 (by decide) ?_
      exact m_sub [1, 0] rfl (ih v4 V3)
noncomputable def M_laysBackward_37 (V : VV) : Option (Int × VV) := M_laysBackward_39 FU 0 V
theorem WM_laysBackward_37 {Z : MZ} {d : Nat} (hX : MX Z cX4_laysBackward 5 none d 2) (hdd : 131 ≤ d) : ∀ V, MG Z 37 [(0, (3, 0))] [] V (M_laysBackward_37 V) := by
  intro V
  unfold M_laysBackward_37
  refine m_ic hX dX4_laysBackward_37 (by decide) (by decide) ?_
  refine m_istore_n hX (lv' := [(1, (0, 0)), (0, (3, 0))]) dX4_laysBackward_38 rfl (by decide) rfl ?_
  exact m_sub [1, 0] rfl (WM_laysBackward_39 hX hdd FU 0 V)
noncomputable def M_laysBackward_18 : Nat → Int → VV → Option (Int × VV)
  | 0, _, _ => none
  | n + 1, x1, V => if 40 ≤ x1 then (M_laysBackward_37 V) else (ck x1 40 <| nm (vup V 46 x1 (-1)) fun V1 => nm (w32 (x1 + 1)) fun v2 => M_laysBackward_18 n v2 V1)
theorem WM_laysBackward_18 {Z : MZ} {d : Nat} (hX : MX Z cX4_laysBackward 5 none d 2) (hdd : 131 ≤ d) : ∀ n x1 V, MG Z 18 [(0, (3, 0)), (1, (0, x1))] [] V (M_laysBackward_18 n x1 V) := by
  intro n
  induction n with
  | zero => intro x1 V; exact m_none
  | succ n ih =>
    intro x1 V
    rw [M_laysBackward_18]
    refine m_iload_n hX 1 dX4_laysBackward_18 rfl rfl ?_
    refine m_bp hX dX4_laysBackward_19 (by decide) (by decide) ?_
    refine m_icmp_ge hX 37 dX4_laysBackward_21 (by decide) (fun _ => ?_) (fun _ => ?_)
    · exact m_sub [0] rfl (WM_laysBackward_37 hX hdd V)
    · refine m_aload_n hX 0 dX4_laysBackward_24 rfl rfl ?_
      refine fg_46 hX dX4_laysBackward_25 ?_
      refine m_iload_n hX 1 dX4_laysBackward_28 rfl rfl ?_
      refine m_ic hX dX4_laysBackward_29 (by decide) (by decide) ?_
      refine as_46 hX dX4_laysBackward_30 fun V1 => ?_
      refine m_iinc hX 1 dX4_laysBackward_31 rfl (by decide) fun v2 => m_lv (lv' := [(1, (0, v2)), (0, (3, 0))]) rfl ?_
      refine m_goto hX 18 dX4_laysBackward_34 (by decide) ?_
      exact m_sub [1, 0] rfl (ih v2 V1)
noncomputable def M_laysBackward (V : VV) : Option (Int × VV) := mb (M_term 5 V) fun r1 V2 => mb (M_term 6 V2) fun r3 V4 => mb (M_firsts (w32 (r1 * r3)) V4) fun r5 V6 => M_laysBackward_18 FU 0 V6
theorem WM_laysBackward (l : Launch) {d : Nat} (hdd : 131 ≤ d) (V : VV) (hV : okV V) (ho : oks []) (fin : Int × VV) (hf : M_laysBackward V = some fin) : mSpec l yX4_laysBackward cX4_laysBackward 5 none d 2 [(3, 0)] V fin := by
  refine m_enter (lv := [(0, (3, 0))]) (by decide) rfl (Nat.le_of_ble_eq_true rfl) rfl (fun Z hZ hX => ?_) hV (ho.c (okA.t 0)) fin hf
  unfold M_laysBackward
  refine m_aload_n hX 0 dX4_laysBackward_0 rfl rfl ?_
  refine m_aload_n hX 0 dX4_laysBackward_1 rfl rfl ?_
  refine m_ic hX dX4_laysBackward_2 (by decide) (by decide) ?_
  refine cl_term hX (by omega) (Nat.le_of_ble_eq_true rfl) dX4_laysBackward_3 fun r1 V2 => ?_
  refine m_aload_n hX 0 dX4_laysBackward_6 rfl rfl ?_
  refine m_bp hX dX4_laysBackward_7 (by decide) (by decide) ?_
  refine cl_term hX (by omega) (Nat.le_of_ble_eq_true rfl) dX4_laysBackward_9 fun r3 V4 => ?_
  refine m_imul hX dX4_laysBackward_12 ?_
  refine cl_firsts hX (by omega) (Nat.le_of_ble_eq_true rfl) dX4_laysBackward_13 fun r5 V6 => ?_
  refine m_ic hX dX4_laysBackward_16 (by decide) (by decide) ?_
  refine m_istore_n hX (lv' := [(1, (0, 0)), (0, (3, 0))]) dX4_laysBackward_17 rfl (by decide) rfl ?_
  exact m_sub [1, 0] rfl (WM_laysBackward_18 hX hdd FU 0 V6)
theorem cl_laysBackward {Z : MZ} {cc : ByteArray} {nL : Nat} {ret : Option FieldType} {d rk : Nat} {pc : Nat} {lv : List (Nat × AV)} {st : List AV} {V : VV} {g : Int → VV → Option (Int × VV)} (hX : MX Z cc nL ret d rk) (hdd : 132 ≤ d) (hcat : (st.map fun v => if v.1 = 1 then 2 else 1).sum ≤ 8) (hdg : decode cc pc = .ok (.invokevirtual 450, 3)) (kk : ∀ r V1, MG Z (pc + 3) lv st V1 (g r V1)) : MG Z pc lv ((3, 0) :: st) V (mb (M_laysBackward V) g) :=
  m_callVv hX [] 0 (fun hV ho fin hf => WM_laysBackward (zL Z) (Nat.le_refl 131) V hV ho fin hf) (lw_V q2265 q2267 qs116 q131 q2268) (by decide +kernel) rfl (by omega) (by decide) rfl hcat hdg kk
noncomputable def M_backward_13 (x1 : Int) (x2 : Int) (V : VV) : Option (Int × VV) := mb (M_lies x2 1 2 V) fun r1 V2 => if r1 = 0 then (some ((-1), V2)) else (mb (M_laysBackward V2) fun r3 V4 => if x1 = (-1) then (if x2 = 1 then (some (V4 49 0, V4)) else (some (V4 50 0, V4))) else (ck (w32 ((w32 ((w32 (2 * x1)) + x2)) - 1)) 40 <| some (V4 46 (w32 ((w32 ((w32 (2 * x1)) + x2)) - 1)), V4)))
theorem WM_backward_13 {Z : MZ} {d : Nat} (hX : MX Z cX4_backward 3 (some .int) d 0) (hdd : 132 ≤ d) : ∀ x1 x2 V, MG Z 13 [(0, (3, 0)), (1, (0, x1)), (2, (0, x2))] [] V (M_backward_13 x1 x2 V) := by
  intro x1 x2 V
  unfold M_backward_13
  refine m_iload_n hX 2 dX4_backward_13 rfl rfl ?_
  refine m_ic hX dX4_backward_14 (by decide) (by decide) ?_
  refine m_ic hX dX4_backward_15 (by decide) (by decide) ?_
  refine cl_lies hX (by omega) (Nat.le_of_ble_eq_true rfl) dX4_backward_16 fun r1 V2 => ?_
  refine m_if_ne hX 24 dX4_backward_19 (by decide) (fun _ => ?_) (fun _ => ?_)
  · refine m_aload_n hX 0 dX4_backward_24 rfl rfl ?_
    refine cl_laysBackward hX (by omega) (Nat.le_of_ble_eq_true rfl) dX4_backward_25 fun r3 V4 => ?_
    refine m_iload_n hX 1 dX4_backward_28 rfl rfl ?_
    refine m_ic hX dX4_backward_29 (by decide) (by decide) ?_
    refine m_icmp_eq hX 48 dX4_backward_30 (by decide) (fun _ => ?_) (fun _ => ?_)
    · refine m_iload_n hX 2 dX4_backward_48 rfl rfl ?_
      refine m_ic hX dX4_backward_49 (by decide) (by decide) ?_
      refine m_icmp_ne hX 60 dX4_backward_50 (by decide) (fun _ => ?_) (fun _ => ?_)
      · refine m_aload_n hX 0 dX4_backward_60 rfl rfl ?_
        refine fg_50 hX dX4_backward_61 ?_
        exact m_iret hX rfl dX4_backward_64
      · refine m_aload_n hX 0 dX4_backward_53 rfl rfl ?_
        refine fg_49 hX dX4_backward_54 ?_
        refine m_goto hX 64 dX4_backward_57 (by decide) ?_
        exact m_iret hX rfl dX4_backward_64
    · refine m_aload_n hX 0 dX4_backward_33 rfl rfl ?_
      refine fg_46 hX dX4_backward_34 ?_
      refine m_ic hX dX4_backward_37 (by decide) (by decide) ?_
      refine m_iload_n hX 1 dX4_backward_38 rfl rfl ?_
      refine m_imul hX dX4_backward_39 ?_
      refine m_iload_n hX 2 dX4_backward_40 rfl rfl ?_
      refine m_iadd hX dX4_backward_41 ?_
      refine m_ic hX dX4_backward_42 (by decide) (by decide) ?_
      refine m_isub hX dX4_backward_43 ?_
      refine al_46 hX dX4_backward_44 ?_
      refine m_goto hX 64 dX4_backward_45 (by decide) ?_
      exact m_iret hX rfl dX4_backward_64
  · refine m_ic hX dX4_backward_22 (by decide) (by decide) ?_
    exact m_iret hX rfl dX4_backward_23
noncomputable def M_backward (x1 : Int) (x2 : Int) (V : VV) : Option (Int × VV) := if x1 = (-1) then (M_backward_13 x1 x2 V) else (mb (M_isQuestion x1 V) fun r1 V2 => if r1 = 0 then (some ((-1), V2)) else (M_backward_13 x1 x2 V2))
theorem WM_backward (l : Launch) {d : Nat} (hdd : 132 ≤ d) (x1 : Int) (x2 : Int) (V : VV) (hV : okV V) (ho : oks [(0, x1), (0, x2)]) (fin : Int × VV) (hf : M_backward x1 x2 V = some fin) : mSpec l yX4_backward cX4_backward 3 (some .int) d 0 [(3, 0), (0, x1), (0, x2)] V fin := by
  refine m_enter (lv := [(0, (3, 0)), (1, (0, x1)), (2, (0, x2))]) (by decide) rfl (Nat.le_of_ble_eq_true rfl) rfl (fun Z hZ hX => ?_) hV (ho.c (okA.t 0)) fin hf
  unfold M_backward
  refine m_iload_n hX 1 dX4_backward_0 rfl rfl ?_
  refine m_ic hX dX4_backward_1 (by decide) (by decide) ?_
  refine m_icmp_eq hX 13 dX4_backward_2 (by decide) (fun _ => ?_) (fun _ => ?_)
  · exact m_sub [0, 1, 2] rfl (WM_backward_13 hX hdd x1 x2 V)
  · refine m_aload_n hX 0 dX4_backward_5 rfl rfl ?_
    refine m_iload_n hX 1 dX4_backward_6 rfl rfl ?_
    refine cl_isQuestion hX (by omega) (Nat.le_of_ble_eq_true rfl) dX4_backward_7 fun r1 V2 => ?_
    refine m_if_eq hX 22 dX4_backward_10 (by decide) (fun _ => ?_) (fun _ => ?_)
    · refine m_ic hX dX4_backward_22 (by decide) (by decide) ?_
      exact m_iret hX rfl dX4_backward_23
    · exact m_sub [0, 1, 2] rfl (WM_backward_13 hX hdd x1 x2 V2)
-- backward: not called inside
noncomputable def M_friend_32 (V : VV) : Option (Int × VV) := mb (M_refuses (-1) V) fun r1 V2 => some (r1, V2)
theorem WM_friend_32 {Z : MZ} {d : Nat} (hX : MX Z cX4_friend 3 (some .int) d 0) (hdd : 3 ≤ d) : ∀ V, MG Z 32 [(0, (3, 0))] [] V (M_friend_32 V) := by
  intro V
  unfold M_friend_32
  refine m_aload_n hX 0 dX4_friend_32 rfl rfl ?_
  refine m_ic hX dX4_friend_33 (by decide) (by decide) ?_
  refine cl_refuses hX (by omega) (Nat.le_of_ble_eq_true rfl) dX4_friend_34 fun r1 V2 => ?_
  exact m_iret hX rfl dX4_friend_37
noncomputable def M_friend (x1 : Int) (x2 : Int) (V : VV) : Option (Int × VV) := mb (M_lies x1 0 2 V) fun r1 V2 => if r1 = 0 then (M_friend_32 V2) else (mb (M_lies x2 0 99 V2) fun r3 V4 => if r3 = 0 then (M_friend_32 V4) else (mb (M_replaces (w32 (347 + x1)) x2 V4) fun r5 V6 => some (r5, V6)))
theorem WM_friend (l : Launch) {d : Nat} (hdd : 3 ≤ d) (x1 : Int) (x2 : Int) (V : VV) (hV : okV V) (ho : oks [(0, x1), (0, x2)]) (fin : Int × VV) (hf : M_friend x1 x2 V = some fin) : mSpec l yX4_friend cX4_friend 3 (some .int) d 0 [(3, 0), (0, x1), (0, x2)] V fin := by
  refine m_enter (lv := [(0, (3, 0)), (1, (0, x1)), (2, (0, x2))]) (by decide) rfl (Nat.le_of_ble_eq_true rfl) rfl (fun Z hZ hX => ?_) hV (ho.c (okA.t 0)) fin hf
  unfold M_friend
  refine m_iload_n hX 1 dX4_friend_0 rfl rfl ?_
  refine m_ic hX dX4_friend_1 (by decide) (by decide) ?_
  refine m_ic hX dX4_friend_2 (by decide) (by decide) ?_
  refine cl_lies hX (by omega) (Nat.le_of_ble_eq_true rfl) dX4_friend_3 fun r1 V2 => ?_
  refine m_if_eq hX 32 dX4_friend_6 (by decide) (fun _ => ?_) (fun _ => ?_)
  · exact m_sub [0] rfl (WM_friend_32 hX hdd V2)
  · refine m_iload_n hX 2 dX4_friend_9 rfl rfl ?_
    refine m_ic hX dX4_friend_10 (by decide) (by decide) ?_
    refine m_bp hX dX4_friend_11 (by decide) (by decide) ?_
    refine cl_lies hX (by omega) (Nat.le_of_ble_eq_true rfl) dX4_friend_13 fun r3 V4 => ?_
    refine m_if_eq hX 32 dX4_friend_16 (by decide) (fun _ => ?_) (fun _ => ?_)
    · exact m_sub [0] rfl (WM_friend_32 hX hdd V4)
    · refine m_aload_n hX 0 dX4_friend_19 rfl rfl ?_
      refine m_sp hX dX4_friend_20 (by decide) (by decide) ?_
      refine m_iload_n hX 1 dX4_friend_23 rfl rfl ?_
      refine m_iadd hX dX4_friend_24 ?_
      refine m_iload_n hX 2 dX4_friend_25 rfl rfl ?_
      refine cl_replaces hX (by omega) (Nat.le_of_ble_eq_true rfl) dX4_friend_26 fun r5 V6 => ?_
      refine m_goto hX 37 dX4_friend_29 (by decide) ?_
      exact m_iret hX rfl dX4_friend_37
-- friend: not called inside
theorem cr_shares {Z : MZ} {cc : ByteArray} {nL : Nat} {ret : Option FieldType} {d rk : Nat} {pc : Nat} {lv : List (Nat × AV)} {st : List AV} {V : VV} {g : Int → VV → Option (Int × VV)} (hX : MX Z cc nL ret d rk) {a0 a1 : Int} {dr : Nat} {R_shares : Int → Int → VV → Option (Int × VV)} (hR : ∀ (a0 : Int) (a1 : Int) (V : VV), okV V → oks [(0, a0), (0, a1)] → ∀ fin, R_shares a0 a1 V = some fin → mSpec (zL Z) yX4_shares cX4_shares 4 none dr 2 [(3, 0), (0, a0), (0, a1)] V fin) (hdd : dr + 1 ≤ d) (hcat : (st.map fun v => if v.1 = 1 then 2 else 1).sum ≤ 8) (hdg : decode cc pc = .ok (.invokevirtual 459, 3)) (kk : ∀ r V1, MG Z (pc + 3) lv st V1 (g r V1)) : MG Z pc lv ((0, a1) :: (0, a0) :: (3, 0) :: st) V (mb (R_shares a0 a1 V) g) :=
  m_callVv hX [(0, a0), (0, a1)] 2 (fun hV ho fin hf => hR a0 a1 V hV ho fin hf) (lw_V q2281 q2283 qs118 q131 q2284) (by decide +kernel) rfl hdd (by decide) rfl hcat hdg kk
noncomputable def M_shares_31 (R_shares : Int → Int → VV → Option (Int × VV)) : Nat → Int → VV → Option (Int × VV)
  | 0, _, _ => none
  | n + 1, x3, V => if V 56 0 ≤ x3 then (some (0, V)) else (ck x3 12 <| ck x3 12 <| nm (vup V 54 x3 (V 53 x3)) fun V1 => nm (w32 (x3 + 1)) fun v2 => M_shares_31 R_shares n v2 V1)
theorem WM_shares_31 {Z : MZ} {d : Nat} {dr : Nat} (hX : MX Z cX4_shares 4 none d 2) (hdd : dr + 1 ≤ d ∧ 1 ≤ d) {R_shares : Int → Int → VV → Option (Int × VV)} (hR_shares : ∀ (a0 : Int) (a1 : Int) (V : VV), okV V → oks [(0, a0), (0, a1)] → ∀ fin, R_shares a0 a1 V = some fin → mSpec (zL Z) yX4_shares cX4_shares 4 none dr 2 [(3, 0), (0, a0), (0, a1)] V fin) : ∀ n x3 V, MG Z 31 [(0, (3, 0)), (3, (0, x3))] [] V (M_shares_31 R_shares n x3 V) := by
  intro n
  induction n with
  | zero => intro x3 V; exact m_none
  | succ n ih =>
    intro x3 V
    rw [M_shares_31]
    refine m_iload_n hX 1 dX4_shares_31 rfl rfl ?_
    refine m_aload_n hX 0 dX4_shares_32 rfl rfl ?_
    refine fg_56 hX dX4_shares_33 ?_
    refine m_icmp_ge hX 57 dX4_shares_36 (by decide) (fun _ => ?_) (fun _ => ?_)
    · exact m_vret hX rfl dX4_shares_57
    · refine m_aload_n hX 0 dX4_shares_39 rfl rfl ?_
      refine fg_54 hX dX4_shares_40 ?_
      refine m_iload_n hX 1 dX4_shares_43 rfl rfl ?_
      refine m_aload_n hX 0 dX4_shares_44 rfl rfl ?_
      refine fg_53 hX dX4_shares_45 ?_
      refine m_iload_n hX 1 dX4_shares_48 rfl rfl ?_
      refine al_53 hX dX4_shares_49 ?_
      refine as_54 hX dX4_shares_50 fun V1 => ?_
      refine m_iinc hX 1 dX4_shares_51 rfl (by decide) fun v2 => m_lv (lv' := [(3, (0, v2)), (0, (3, 0))]) rfl ?_
      refine m_goto hX 31 dX4_shares_54 (by decide) ?_
      exact m_sub [1, 0] rfl (ih v2 V1)
noncomputable def M_shares_130 (R_shares : Int → Int → VV → Option (Int × VV)) (K60 : Int → Int → Int → VV → Option (Int × VV)) (x1 : Int) (x2 : Int) (x3 : Int) (V : VV) : Option (Int × VV) := nm (w32 (x3 + 1)) fun v1 => K60 x1 x2 v1 V
theorem WM_shares_130 {Z : MZ} {d : Nat} {dr : Nat} (hX : MX Z cX4_shares 4 none d 2) (hdd : dr + 1 ≤ d ∧ 1 ≤ d) {R_shares : Int → Int → VV → Option (Int × VV)} (hR_shares : ∀ (a0 : Int) (a1 : Int) (V : VV), okV V → oks [(0, a0), (0, a1)] → ∀ fin, R_shares a0 a1 V = some fin → mSpec (zL Z) yX4_shares cX4_shares 4 none dr 2 [(3, 0), (0, a0), (0, a1)] V fin) {K60 : Int → Int → Int → VV → Option (Int × VV)} (hK60 : ∀ x1 x2 x3 V, MG Z 60 [(0, (3, 0)), (1, (0, x1)), (2, (0, x2)), (3, (0, x3))] [] V (K60 x1 x2 x3 V)) : ∀ x1 x2 x3 V, MG Z 130 [(0, (3, 0)), (1, (0, x1)), (2, (0, x2)), (3, (0, x3))] [] V (M_shares_130 R_shares K60 x1 x2 x3 V) := by
  intro x1 x2 x3 V
  unfold M_shares_130
  refine m_iinc hX 3 dX4_shares_130 rfl (by decide) fun v1 => m_lv (lv' := [(3, (0, v1)), (0, (3, 0)), (1, (0, x1)), (2, (0, x2))]) rfl ?_
  refine m_goto hX 60 dX4_shares_133 (by decide) ?_
  exact m_sub [1, 2, 3, 0] rfl (hK60 x1 x2 v1 V)
noncomputable def M_shares_136 (R_shares : Int → Int → VV → Option (Int × VV)) (x1 : Int) (x2 : Int) (V : VV) : Option (Int × VV) := ck x1 12 <| nm (vup V 53 x1 (-1)) fun V1 => mb (R_shares (w32 (x1 + 1)) x2 V1) fun r2 V3 => some (0, V3)
theorem WM_shares_136 {Z : MZ} {d : Nat} {dr : Nat} (hX : MX Z cX4_shares 4 none d 2) (hdd : dr + 1 ≤ d ∧ 1 ≤ d) {R_shares : Int → Int → VV → Option (Int × VV)} (hR_shares : ∀ (a0 : Int) (a1 : Int) (V : VV), okV V → oks [(0, a0), (0, a1)] → ∀ fin, R_shares a0 a1 V = some fin → mSpec (zL Z) yX4_shares cX4_shares 4 none dr 2 [(3, 0), (0, a0), (0, a1)] V fin) : ∀ x1 x2 V, MG Z 136 [(0, (3, 0)), (1, (0, x1)), (2, (0, x2))] [] V (M_shares_136 R_shares x1 x2 V) := by
  intro x1 x2 V
  unfold M_shares_136
  refine m_aload_n hX 0 dX4_shares_136 rfl rfl ?_
  refine fg_53 hX dX4_shares_137 ?_
  refine m_iload_n hX 1 dX4_shares_140 rfl rfl ?_
  refine m_ic hX dX4_shares_141 (by decide) (by decide) ?_
  refine as_53 hX dX4_shares_142 fun V1 => ?_
  refine m_aload_n hX 0 dX4_shares_143 rfl rfl ?_
  refine m_iload_n hX 1 dX4_shares_144 rfl rfl ?_
  refine m_ic hX dX4_shares_145 (by decide) (by decide) ?_
  refine m_iadd hX dX4_shares_146 ?_
  refine m_iload_n hX 2 dX4_shares_147 rfl rfl ?_
  refine cr_shares hX hR_shares hdd.1 (Nat.le_of_ble_eq_true rfl) dX4_shares_148 fun r2 V3 => ?_
  exact m_vret hX rfl dX4_shares_151
noncomputable def M_shares_60 (R_shares : Int → Int → VV → Option (Int × VV)) : Nat → Int → Int → Int → VV → Option (Int × VV)
  | 0, _, _, _, _ => none
  | n + 1, x1, x2, x3, V => if 3 ≤ x3 then (M_shares_136 R_shares x1 x2 V) else (ck x3 3 <| ck x1 12 <| if V 55 x1 ≤ V 52 x3 then (ck x3 3 <| ck x1 12 <| ck x3 3 <| nm (vup V 52 x3 (w32 ((V 52 x3) - (V 55 x1)))) fun V1 => ck x1 12 <| nm (vup V1 53 x1 x3) fun V2 => mb (R_shares (w32 (x1 + 1)) (w32 (x2 + 1)) V2) fun r3 V4 => ck x3 3 <| ck x1 12 <| ck x3 3 <| nm (vup V4 52 x3 (w32 ((V4 52 x3) + (V4 55 x1)))) fun V5 => M_shares_130 R_shares (M_shares_60 R_shares n) x1 x2 x3 V5) else (M_shares_130 R_shares (M_shares_60 R_shares n) x1 x2 x3 V))
theorem WM_shares_60 {Z : MZ} {d : Nat} {dr : Nat} (hX : MX Z cX4_shares 4 none d 2) (hdd : dr + 1 ≤ d ∧ 1 ≤ d) {R_shares : Int → Int → VV → Option (Int × VV)} (hR_shares : ∀ (a0 : Int) (a1 : Int) (V : VV), okV V → oks [(0, a0), (0, a1)] → ∀ fin, R_shares a0 a1 V = some fin → mSpec (zL Z) yX4_shares cX4_shares 4 none dr 2 [(3, 0), (0, a0), (0, a1)] V fin) : ∀ n x1 x2 x3 V, MG Z 60 [(0, (3, 0)), (1, (0, x1)), (2, (0, x2)), (3, (0, x3))] [] V (M_shares_60 R_shares n x1 x2 x3 V) := by
  intro n
  induction n with
  | zero => intro x1 x2 x3 V; exact m_none
  | succ n ih =>
    intro x1 x2 x3 V
    rw [M_shares_60]
    refine m_iload_n hX 3 dX4_shares_60 rfl rfl ?_
    refine m_ic hX dX4_shares_61 (by decide) (by decide) ?_
    refine m_icmp_ge hX 136 dX4_shares_62 (by decide) (fun _ => ?_) (fun _ => ?_)
    · exact m_sub [0, 1, 2] rfl (WM_shares_136 hX hdd hR_shares x1 x2 V)
    · refine m_aload_n hX 0 dX4_shares_65 rfl rfl ?_
      refine fg_52 hX dX4_shares_66 ?_
      refine m_iload_n hX 3 dX4_shares_69 rfl rfl ?_
      refine al_52 hX dX4_shares_70 ?_
      refine m_aload_n hX 0 dX4_shares_71 rfl rfl ?_
      refine fg_55 hX dX4_shares_72 ?_
      refine m_iload_n hX 1 dX4_shares_75 rfl rfl ?_
      refine al_55 hX dX4_shares_76 ?_
      refine m_icmp_ge hX 83 dX4_shares_77 (by decide) (fun _ => ?_) (fun _ => ?_)
      · refine m_aload_n hX 0 dX4_shares_83 rfl rfl ?_
        refine fg_52 hX dX4_shares_84 ?_
        refine m_iload_n hX 3 dX4_shares_87 rfl rfl ?_
        refine m_dup2 hX dX4_shares_88 rfl rfl ?_
        refine al_52 hX dX4_shares_89 ?_
        refine m_aload_n hX 0 dX4_shares_90 rfl rfl ?_
        refine fg_55 hX dX4_shares_91 ?_
        refine m_iload_n hX 1 dX4_shares_94 rfl rfl ?_
        refine al_55 hX dX4_shares_95 ?_
        refine m_isub hX dX4_shares_96 ?_
        refine as_52 hX dX4_shares_97 fun V1 => ?_
        refine m_aload_n hX 0 dX4_shares_98 rfl rfl ?_
        refine fg_53 hX dX4_shares_99 ?_
        refine m_iload_n hX 1 dX4_shares_102 rfl rfl ?_
        refine m_iload_n hX 3 dX4_shares_103 rfl rfl ?_
        refine as_53 hX dX4_shares_104 fun V2 => ?_
        refine m_aload_n hX 0 dX4_shares_105 rfl rfl ?_
        refine m_iload_n hX 1 dX4_shares_106 rfl rfl ?_
        refine m_ic hX dX4_shares_107 (by decide) (by decide) ?_
        refine m_iadd hX dX4_shares_108 ?_
        refine m_iload_n hX 2 dX4_shares_109 rfl rfl ?_
        refine m_ic hX dX4_shares_110 (by decide) (by decide) ?_
        refine m_iadd hX dX4_shares_111 ?_
        refine cr_shares hX hR_shares hdd.1 (Nat.le_of_ble_eq_true rfl) dX4_shares_112 fun r3 V4 => ?_
        refine m_aload_n hX 0 dX4_shares_115 rfl rfl ?_
        refine fg_52 hX dX4_shares_116 ?_
        refine m_iload_n hX 3 dX4_shares_119 rfl rfl ?_
        refine m_dup2 hX dX4_shares_120 rfl rfl ?_
        refine al_52 hX dX4_shares_121 ?_
        refine m_aload_n hX 0 dX4_shares_122 rfl rfl ?_
        refine fg_55 hX dX4_shares_123 ?_
        refine m_iload_n hX 1 dX4_shares_126 rfl rfl ?_
        refine al_55 hX dX4_shares_127 ?_
        refine m_iadd hX dX4_shares_128 ?_
        refine as_52 hX dX4_shares_129 fun V5 => ?_
        exact m_sub [0, 1, 2, 3] rfl (WM_shares_130 hX hdd hR_shares ih x1 x2 x3 V5)
      · refine m_goto hX 130 dX4_shares_80 (by decide) ?_
        exact m_sub [0, 1, 2, 3] rfl (WM_shares_130 hX hdd hR_shares ih x1 x2 x3 V)
noncomputable def M_shares_b (R_shares : Int → Int → VV → Option (Int × VV)) (x1 : Int) (x2 : Int) (V : VV) : Option (Int × VV) := if V 57 0 < w32 ((w32 (x2 + (V 56 0))) - x1) then (if x1 = V 56 0 then (nm (vup V 57 0 x2) fun V1 => M_shares_31 R_shares FU 0 V1) else (M_shares_60 R_shares FU x1 x2 0 V)) else (some (0, V))
theorem WM_shares_b (l : Launch) {d dr : Nat} (hdd : dr + 1 ≤ d ∧ 1 ≤ d) {R_shares : Int → Int → VV → Option (Int × VV)} (hR_shares : ∀ (a0 : Int) (a1 : Int) (V : VV), okV V → oks [(0, a0), (0, a1)] → ∀ fin, R_shares a0 a1 V = some fin → mSpec (l) yX4_shares cX4_shares 4 none dr 2 [(3, 0), (0, a0), (0, a1)] V fin) (x1 : Int) (x2 : Int) (V : VV) (hV : okV V) (ho : oks [(0, x1), (0, x2)]) (fin : Int × VV) (hf : M_shares_b R_shares x1 x2 V = some fin) : mSpec l yX4_shares cX4_shares 4 none d 2 [(3, 0), (0, x1), (0, x2)] V fin := by
  refine m_enter (lv := [(0, (3, 0)), (1, (0, x1)), (2, (0, x2))]) (by decide) rfl (Nat.le_of_ble_eq_true rfl) rfl (fun Z hZ hX => ?_) hV (ho.c (okA.t 0)) fin hf
  subst hZ
  unfold M_shares_b
  refine m_iload_n hX 2 dX4_shares_0 rfl rfl ?_
  refine m_aload_n hX 0 dX4_shares_1 rfl rfl ?_
  refine fg_56 hX dX4_shares_2 ?_
  refine m_iadd hX dX4_shares_5 ?_
  refine m_iload_n hX 1 dX4_shares_6 rfl rfl ?_
  refine m_isub hX dX4_shares_7 ?_
  refine m_aload_n hX 0 dX4_shares_8 rfl rfl ?_
  refine fg_57 hX dX4_shares_9 ?_
  refine m_icmp_gt hX 16 dX4_shares_12 (by decide) (fun _ => ?_) (fun _ => ?_)
  · refine m_iload_n hX 1 dX4_shares_16 rfl rfl ?_
    refine m_aload_n hX 0 dX4_shares_17 rfl rfl ?_
    refine fg_56 hX dX4_shares_18 ?_
    refine m_icmp_ne hX 58 dX4_shares_21 (by decide) (fun _ => ?_) (fun _ => ?_)
    · refine m_ic hX dX4_shares_58 (by decide) (by decide) ?_
      refine m_istore_n hX (lv' := [(3, (0, 0)), (0, (3, 0)), (1, (0, x1)), (2, (0, x2))]) dX4_shares_59 rfl (by decide) rfl ?_
      exact m_sub [1, 2, 3, 0] rfl (WM_shares_60 hX hdd hR_shares FU x1 x2 0 V)
    · refine m_aload_n hX 0 dX4_shares_24 rfl rfl ?_
      refine m_iload_n hX 2 dX4_shares_25 rfl rfl ?_
      refine fp_57 hX dX4_shares_26 fun V1 => ?_
      refine m_ic hX dX4_shares_29 (by decide) (by decide) ?_
      refine m_istore_n hX (lv' := [(3, (0, 0)), (0, (3, 0)), (1, (0, x1)), (2, (0, x2))]) dX4_shares_30 rfl (by decide) rfl ?_
      exact m_sub [1, 0] rfl (WM_shares_31 hX hdd hR_shares FU 0 V1)
  · exact m_vret hX rfl dX4_shares_15
noncomputable def MR_shares : Nat → (Int → Int → VV → Option (Int × VV))
  | 0 => (fun _ _ _ => none)
  | n + 1 => (M_shares_b (MR_shares n))
noncomputable def M_shares (n : Nat) (a0 : Int) (a1 : Int) (V : VV) : Option (Int × VV) := (MR_shares n) a0 a1 V
theorem WMR_shares (l : Launch) : ∀ (n dr : Nat), 0 + n ≤ dr → (∀ (a0 : Int) (a1 : Int) (V : VV), okV V → oks [(0, a0), (0, a1)] → ∀ fin, (MR_shares n) a0 a1 V = some fin → mSpec (l) yX4_shares cX4_shares 4 none dr 2 [(3, 0), (0, a0), (0, a1)] V fin) := by
  intro n
  induction n with
  | zero => intro dr _; exact ((fun a0 a1 V _ _ fin h => by cases h))
  | succ n ih =>
    intro dr h
    have hR_shares := ih (dr - 1) (by omega)
    exact ((fun a0 a1 V hV ho fin hf => WM_shares_b l (dr := dr - 1) (by omega) hR_shares a0 a1 V hV ho fin hf))
theorem WM_shares (l : Launch) {d : Nat} (hdd : 61 ≤ d) (a0 : Int) (a1 : Int) (V : VV) (hV : okV V) (ho : oks [(0, a0), (0, a1)]) (fin : Int × VV) (hf : M_shares RF a0 a1 V = some fin) : mSpec l yX4_shares cX4_shares 4 none d 2 [(3, 0), (0, a0), (0, a1)] V fin := (WMR_shares l RF d (by rw [RF_eq]; omega)) a0 a1 V hV ho fin hf
theorem cl_shares {Z : MZ} {cc : ByteArray} {nL : Nat} {ret : Option FieldType} {d rk : Nat} {pc : Nat} {lv : List (Nat × AV)} {st : List AV} {V : VV} {g : Int → VV → Option (Int × VV)} (hX : MX Z cc nL ret d rk) {a0 a1 : Int} (hdd : 62 ≤ d) (hcat : (st.map fun v => if v.1 = 1 then 2 else 1).sum ≤ 8) (hdg : decode cc pc = .ok (.invokevirtual 459, 3)) (kk : ∀ r V1, MG Z (pc + 3) lv st V1 (g r V1)) : MG Z pc lv ((0, a1) :: (0, a0) :: (3, 0) :: st) V (mb (M_shares RF a0 a1 V) g) :=
  m_callVv hX [(0, a0), (0, a1)] 2 (fun hV ho fin hf => WM_shares (zL Z) (Nat.le_refl 61) a0 a1 V hV ho fin hf) (lw_V q2281 q2283 qs118 q131 q2284) (by decide +kernel) rfl (by omega) (by decide) rfl hcat hdg kk
noncomputable def M_share_132 (x1 : Int) (V : VV) : Option (Int × VV) := if x1 = (-1) then (some (V 57 0, V)) else (ck x1 12 <| some (V 54 x1, V))
theorem WM_share_132 {Z : MZ} {d : Nat} (hX : MX Z cX4_share 3 (some .int) d 0) (hdd : 127 ≤ d) : ∀ x1 V, MG Z 132 [(0, (3, 0)), (1, (0, x1))] [] V (M_share_132 x1 V) := by
  intro x1 V
  unfold M_share_132
  refine m_iload_n hX 1 dX4_share_132 rfl rfl ?_
  refine m_ic hX dX4_share_133 (by decide) (by decide) ?_
  refine m_icmp_ne hX 144 dX4_share_134 (by decide) (fun _ => ?_) (fun _ => ?_)
  · refine m_aload_n hX 0 dX4_share_144 rfl rfl ?_
    refine fg_54 hX dX4_share_145 ?_
    refine m_iload_n hX 1 dX4_share_148 rfl rfl ?_
    refine al_54 hX dX4_share_149 ?_
    exact m_iret hX rfl dX4_share_150
  · refine m_aload_n hX 0 dX4_share_137 rfl rfl ?_
    refine fg_57 hX dX4_share_138 ?_
    refine m_goto hX 150 dX4_share_141 (by decide) ?_
    exact m_iret hX rfl dX4_share_150
noncomputable def M_share_121 (x1 : Int) (V : VV) : Option (Int × VV) := nm (vup V 57 0 (-1)) fun V1 => mb (M_shares RF 0 0 V1) fun r2 V3 => M_share_132 x1 V3
theorem WM_share_121 {Z : MZ} {d : Nat} (hX : MX Z cX4_share 3 (some .int) d 0) (hdd : 127 ≤ d) : ∀ x1 V, MG Z 121 [(0, (3, 0)), (1, (0, x1))] [] V (M_share_121 x1 V) := by
  intro x1 V
  unfold M_share_121
  refine m_aload_n hX 0 dX4_share_121 rfl rfl ?_
  refine m_ic hX dX4_share_122 (by decide) (by decide) ?_
  refine fp_57 hX dX4_share_123 fun V1 => ?_
  refine m_aload_n hX 0 dX4_share_126 rfl rfl ?_
  refine m_ic hX dX4_share_127 (by decide) (by decide) ?_
  refine m_ic hX dX4_share_128 (by decide) (by decide) ?_
  refine cl_shares hX (by omega) (Nat.le_of_ble_eq_true rfl) dX4_share_129 fun r2 V3 => ?_
  exact m_sub [0, 1] rfl (WM_share_132 hX hdd x1 V3)
noncomputable def M_share_94 : Nat → Int → Int → VV → Option (Int × VV)
  | 0, _, _, _ => none
  | n + 1, x1, x2, V => if 3 ≤ x2 then (M_share_121 x1 V) else (ck (w32 (347 + x2)) 5201 <| ck x2 3 <| nm (vup V 52 x2 (V 3 (w32 (347 + x2)))) fun V1 => nm (w32 (x2 + 1)) fun v2 => M_share_94 n x1 v2 V1)
theorem WM_share_94 {Z : MZ} {d : Nat} (hX : MX Z cX4_share 3 (some .int) d 0) (hdd : 127 ≤ d) : ∀ n x1 x2 V, MG Z 94 [(0, (3, 0)), (1, (0, x1)), (2, (0, x2))] [] V (M_share_94 n x1 x2 V) := by
  intro n
  induction n with
  | zero => intro x1 x2 V; exact m_none
  | succ n ih =>
    intro x1 x2 V
    rw [M_share_94]
    refine m_iload_n hX 2 dX4_share_94 rfl rfl ?_
    refine m_ic hX dX4_share_95 (by decide) (by decide) ?_
    refine m_icmp_ge hX 121 dX4_share_96 (by decide) (fun _ => ?_) (fun _ => ?_)
    · exact m_sub [0, 1] rfl (WM_share_121 hX hdd x1 V)
    · refine m_aload_n hX 0 dX4_share_99 rfl rfl ?_
      refine fg_52 hX dX4_share_100 ?_
      refine m_iload_n hX 2 dX4_share_103 rfl rfl ?_
      refine m_aload_n hX 0 dX4_share_104 rfl rfl ?_
      refine fg_3 hX dX4_share_105 ?_
      refine m_sp hX dX4_share_108 (by decide) (by decide) ?_
      refine m_iload_n hX 2 dX4_share_111 rfl rfl ?_
      refine m_iadd hX dX4_share_112 ?_
      refine al_3 hX dX4_share_113 ?_
      refine as_52 hX dX4_share_114 fun V1 => ?_
      refine m_iinc hX 2 dX4_share_115 rfl (by decide) fun v2 => m_lv (lv' := [(2, (0, v2)), (0, (3, 0)), (1, (0, x1))]) rfl ?_
      refine m_goto hX 94 dX4_share_118 (by decide) ?_
      exact m_sub [1, 2, 0] rfl (ih x1 v2 V1)
noncomputable def M_share_92 (x1 : Int) (V : VV) : Option (Int × VV) := M_share_94 FU x1 0 V
theorem WM_share_92 {Z : MZ} {d : Nat} (hX : MX Z cX4_share 3 (some .int) d 0) (hdd : 127 ≤ d) : ∀ x1 V, MG Z 92 [(0, (3, 0)), (1, (0, x1))] [] V (M_share_92 x1 V) := by
  intro x1 V
  unfold M_share_92
  refine m_ic hX dX4_share_92 (by decide) (by decide) ?_
  refine m_istore_n hX (lv' := [(2, (0, 0)), (0, (3, 0)), (1, (0, x1))]) dX4_share_93 rfl (by decide) rfl ?_
  exact m_sub [1, 2, 0] rfl (WM_share_94 hX hdd FU x1 0 V)
noncomputable def M_share_55 : Nat → Int → Int → VV → Option (Int × VV)
  | 0, _, _, _ => none
  | n + 1, x1, x2, V => if V 56 0 ≤ x2 then (M_share_92 x1 V) else (mb (M_takesOf x2 1 0 0 V) fun r1 V2 => mb (M_takesOf x2 2 0 0 V2) fun r3 V4 => ck x2 12 <| nm (vup V4 55 x2 (w32 (r1 + r3))) fun V5 => nm (w32 (x2 + 1)) fun v6 => M_share_55 n x1 v6 V5)
theorem WM_share_55 {Z : MZ} {d : Nat} (hX : MX Z cX4_share 3 (some .int) d 0) (hdd : 127 ≤ d) : ∀ n x1 x2 V, MG Z 55 [(0, (3, 0)), (1, (0, x1)), (2, (0, x2))] [] V (M_share_55 n x1 x2 V) := by
  intro n
  induction n with
  | zero => intro x1 x2 V; exact m_none
  | succ n ih =>
    intro x1 x2 V
    rw [M_share_55]
    refine m_iload_n hX 2 dX4_share_55 rfl rfl ?_
    refine m_aload_n hX 0 dX4_share_56 rfl rfl ?_
    refine fg_56 hX dX4_share_57 ?_
    refine m_icmp_ge hX 92 dX4_share_60 (by decide) (fun _ => ?_) (fun _ => ?_)
    · exact m_sub [0, 1] rfl (WM_share_92 hX hdd x1 V)
    · refine m_aload_n hX 0 dX4_share_63 rfl rfl ?_
      refine fg_55 hX dX4_share_64 ?_
      refine m_iload_n hX 2 dX4_share_67 rfl rfl ?_
      refine m_aload_n hX 0 dX4_share_68 rfl rfl ?_
      refine m_iload_n hX 2 dX4_share_69 rfl rfl ?_
      refine m_ic hX dX4_share_70 (by decide) (by decide) ?_
      refine m_ic hX dX4_share_71 (by decide) (by decide) ?_
      refine m_ic hX dX4_share_72 (by decide) (by decide) ?_
      refine cl_takesOf hX (by omega) (Nat.le_of_ble_eq_true rfl) dX4_share_73 fun r1 V2 => ?_
      refine m_aload_n hX 0 dX4_share_76 rfl rfl ?_
      refine m_iload_n hX 2 dX4_share_77 rfl rfl ?_
      refine m_ic hX dX4_share_78 (by decide) (by decide) ?_
      refine m_ic hX dX4_share_79 (by decide) (by decide) ?_
      refine m_ic hX dX4_share_80 (by decide) (by decide) ?_
      refine cl_takesOf hX (by omega) (Nat.le_of_ble_eq_true rfl) dX4_share_81 fun r3 V4 => ?_
      refine m_iadd hX dX4_share_84 ?_
      refine as_55 hX dX4_share_85 fun V5 => ?_
      refine m_iinc hX 2 dX4_share_86 rfl (by decide) fun v6 => m_lv (lv' := [(2, (0, v6)), (0, (3, 0)), (1, (0, x1))]) rfl ?_
      refine m_goto hX 55 dX4_share_89 (by decide) ?_
      exact m_sub [1, 2, 0] rfl (ih x1 v6 V5)
noncomputable def M_share_34 (x1 : Int) (V : VV) : Option (Int × VV) := if V 58 0 = V 1 0 then (M_share_132 x1 V) else (nm (vup V 58 0 (V 1 0)) fun V1 => M_share_55 FU x1 0 V1)
theorem WM_share_34 {Z : MZ} {d : Nat} (hX : MX Z cX4_share 3 (some .int) d 0) (hdd : 127 ≤ d) : ∀ x1 V, MG Z 34 [(0, (3, 0)), (1, (0, x1))] [] V (M_share_34 x1 V) := by
  intro x1 V
  unfold M_share_34
  refine m_aload_n hX 0 dX4_share_34 rfl rfl ?_
  refine fg_58 hX dX4_share_35 ?_
  refine m_aload_n hX 0 dX4_share_38 rfl rfl ?_
  refine fg_1 hX dX4_share_39 ?_
  refine m_icmp_eq hX 132 dX4_share_42 (by decide) (fun _ => ?_) (fun _ => ?_)
  · exact m_sub [0, 1] rfl (WM_share_132 hX hdd x1 V)
  · refine m_aload_n hX 0 dX4_share_45 rfl rfl ?_
    refine m_aload_n hX 0 dX4_share_46 rfl rfl ?_
    refine fg_1 hX dX4_share_47 ?_
    refine fp_58 hX dX4_share_50 fun V1 => ?_
    refine m_ic hX dX4_share_53 (by decide) (by decide) ?_
    refine m_istore_n hX (lv' := [(2, (0, 0)), (0, (3, 0)), (1, (0, x1))]) dX4_share_54 rfl (by decide) rfl ?_
    exact m_sub [1, 2, 0] rfl (WM_share_55 hX hdd FU x1 0 V1)
noncomputable def M_share (x1 : Int) (V : VV) : Option (Int × VV) := mb (M_questions V) fun r1 V2 => mb (M_lesser 12 r1 V2) fun r3 V4 => nm (vup V4 56 0 r3) fun V5 => if x1 = (-1) then (M_share_34 x1 V5) else (mb (M_lies x1 0 (w32 ((V5 56 0) - 1)) V5) fun r6 V7 => if r6 = 0 then (some ((-1), V7)) else (M_share_34 x1 V7))
theorem WM_share (l : Launch) {d : Nat} (hdd : 127 ≤ d) (x1 : Int) (V : VV) (hV : okV V) (ho : oks [(0, x1)]) (fin : Int × VV) (hf : M_share x1 V = some fin) : mSpec l yX4_share cX4_share 3 (some .int) d 0 [(3, 0), (0, x1)] V fin := by
  refine m_enter (lv := [(0, (3, 0)), (1, (0, x1))]) (by decide) rfl (Nat.le_of_ble_eq_true rfl) rfl (fun Z hZ hX => ?_) hV (ho.c (okA.t 0)) fin hf
  unfold M_share
  refine m_aload_n hX 0 dX4_share_0 rfl rfl ?_
  refine m_bp hX dX4_share_1 (by decide) (by decide) ?_
  refine m_aload_n hX 0 dX4_share_3 rfl rfl ?_
  refine cl_questions hX (by omega) (Nat.le_of_ble_eq_true rfl) dX4_share_4 fun r1 V2 => ?_
  refine cl_lesser hX (by omega) (Nat.le_of_ble_eq_true rfl) dX4_share_7 fun r3 V4 => ?_
  refine fp_56 hX dX4_share_10 fun V5 => ?_
  refine m_iload_n hX 1 dX4_share_13 rfl rfl ?_
  refine m_ic hX dX4_share_14 (by decide) (by decide) ?_
  refine m_icmp_eq hX 34 dX4_share_15 (by decide) (fun _ => ?_) (fun _ => ?_)
  · exact m_sub [0, 1] rfl (WM_share_34 hX hdd x1 V5)
  · refine m_iload_n hX 1 dX4_share_18 rfl rfl ?_
    refine m_ic hX dX4_share_19 (by decide) (by decide) ?_
    refine m_aload_n hX 0 dX4_share_20 rfl rfl ?_
    refine fg_56 hX dX4_share_21 ?_
    refine m_ic hX dX4_share_24 (by decide) (by decide) ?_
    refine m_isub hX dX4_share_25 ?_
    refine cl_lies hX (by omega) (Nat.le_of_ble_eq_true rfl) dX4_share_26 fun r6 V7 => ?_
    refine m_if_ne hX 34 dX4_share_29 (by decide) (fun _ => ?_) (fun _ => ?_)
    · exact m_sub [0, 1] rfl (WM_share_34 hX hdd x1 V7)
    · refine m_ic hX dX4_share_32 (by decide) (by decide) ?_
      exact m_iret hX rfl dX4_share_33
-- share: not called inside
noncomputable def M_ill_85 (K29 : Int → Int → Int → Int → Int → VV → Option (Int × VV)) (K54 : Int → Int → Int → Int → Int → Int → Int → VV → Option (Int × VV)) (s0 : Int) (s1 : Int) (x1 : Int) (x2 : Int) (x3 : Int) (x5 : Int) (x7 : Int) (x10 : Int) (V : VV) : Option (Int × VV) := nm (α := Int) (w64 (s0 * s1)) fun v1 => nm (w32 (x10 + 1)) fun v2 => K54 x1 x2 x3 x5 x7 v1 v2 V
theorem WM_ill_85 {Z : MZ} {d : Nat} (hX : MX Z cX4_ill 11 (some .int) d 0) (hdd : 130 ≤ d) {K29 : Int → Int → Int → Int → Int → VV → Option (Int × VV)} (hK29 : ∀ x1 x2 x3 x5 x7 V, MG Z 29 [(0, (3, 0)), (1, (0, x1)), (2, (0, x2)), (3, (1, x3)), (5, (1, x5)), (7, (0, x7))] [] V (K29 x1 x2 x3 x5 x7 V)) {K54 : Int → Int → Int → Int → Int → Int → Int → VV → Option (Int × VV)} (hK54 : ∀ x1 x2 x3 x5 x7 x8 x10 V, MG Z 54 [(0, (3, 0)), (1, (0, x1)), (2, (0, x2)), (3, (1, x3)), (5, (1, x5)), (7, (0, x7)), (8, (1, x8)), (10, (0, x10))] [] V (K54 x1 x2 x3 x5 x7 x8 x10 V)) : ∀ s0 s1 x1 x2 x3 x5 x7 x10 V, MG Z 85 [(0, (3, 0)), (1, (0, x1)), (2, (0, x2)), (3, (1, x3)), (5, (1, x5)), (7, (0, x7)), (10, (0, x10))] [(0, s1), (1, s0)] V (M_ill_85 K29 K54 s0 s1 x1 x2 x3 x5 x7 x10 V) := by
  intro s0 s1 x1 x2 x3 x5 x7 x10 V
  unfold M_ill_85
  refine m_i2l hX dX4_ill_85 ?_
  refine m_lmul hX dX4_ill_86 ?_
  refine m_nmT fun v1 => ?_
  refine m_lstore hX (lv' := [(8, (1, v1)), (0, (3, 0)), (1, (0, x1)), (2, (0, x2)), (3, (1, x3)), (5, (1, x5)), (7, (0, x7)), (10, (0, x10))]) dX4_ill_87 (by decide) rfl ?_
  refine m_iinc hX 7 dX4_ill_89 rfl (by decide) fun v2 => m_lv (lv' := [(10, (0, v2)), (8, (1, v1)), (0, (3, 0)), (1, (0, x1)), (2, (0, x2)), (3, (1, x3)), (5, (1, x5)), (7, (0, x7))]) rfl ?_
  refine m_goto hX 54 dX4_ill_92 (by decide) ?_
  exact m_sub [2, 3, 4, 5, 6, 7, 1, 0] rfl (hK54 x1 x2 x3 x5 x7 v1 v2 V)
noncomputable def M_ill_95 (K29 : Int → Int → Int → Int → Int → VV → Option (Int × VV)) (x1 : Int) (x2 : Int) (x3 : Int) (x5 : Int) (x7 : Int) (x8 : Int) (V : VV) : Option (Int × VV) := nm (α := Int) (w64 (x3 + (w64 (x8 * (V 36 0))))) fun v1 => nm (w32 (x7 + 1)) fun v2 => K29 x1 x2 v1 x5 v2 V
theorem WM_ill_95 {Z : MZ} {d : Nat} (hX : MX Z cX4_ill 11 (some .int) d 0) (hdd : 130 ≤ d) {K29 : Int → Int → Int → Int → Int → VV → Option (Int × VV)} (hK29 : ∀ x1 x2 x3 x5 x7 V, MG Z 29 [(0, (3, 0)), (1, (0, x1)), (2, (0, x2)), (3, (1, x3)), (5, (1, x5)), (7, (0, x7))] [] V (K29 x1 x2 x3 x5 x7 V)) : ∀ x1 x2 x3 x5 x7 x8 V, MG Z 95 [(0, (3, 0)), (1, (0, x1)), (2, (0, x2)), (3, (1, x3)), (5, (1, x5)), (7, (0, x7)), (8, (1, x8))] [] V (M_ill_95 K29 x1 x2 x3 x5 x7 x8 V) := by
  intro x1 x2 x3 x5 x7 x8 V
  unfold M_ill_95
  refine m_lload_n hX 3 dX4_ill_95 rfl rfl ?_
  refine m_lload hX 6 dX4_ill_96 rfl ?_
  refine m_aload_n hX 0 dX4_ill_98 rfl rfl ?_
  refine fg_36 hX dX4_ill_99 ?_
  refine m_lmul hX dX4_ill_102 ?_
  refine m_ladd hX dX4_ill_103 ?_
  refine m_nmT fun v1 => ?_
  refine m_lstore_n hX (lv' := [(3, (1, v1)), (0, (3, 0)), (1, (0, x1)), (2, (0, x2)), (5, (1, x5)), (7, (0, x7)), (8, (1, x8))]) dX4_ill_104 rfl (by decide) rfl ?_
  refine m_iinc hX 5 dX4_ill_105 rfl (by decide) fun v2 => m_lv (lv' := [(7, (0, v2)), (3, (1, v1)), (0, (3, 0)), (1, (0, x1)), (2, (0, x2)), (5, (1, x5)), (8, (1, x8))]) rfl ?_
  refine m_goto hX 29 dX4_ill_108 (by decide) ?_
  exact m_sub [2, 3, 4, 1, 5, 0] rfl (hK29 x1 x2 v1 x5 v2 V)
noncomputable def M_ill_54 (K29 : Int → Int → Int → Int → Int → VV → Option (Int × VV)) : Nat → Int → Int → Int → Int → Int → Int → Int → VV → Option (Int × VV)
  | 0, _, _, _, _, _, _, _, _ => none
  | n + 1, x1, x2, x3, x5, x7, x8, x10, V => if x1 ≤ x10 then (M_ill_95 K29 x1 x2 x3 x5 x7 x8 V) else (if x7 ≤ x10 then (mb (M_term 4 V) fun r1 V2 => M_ill_85 K29 (M_ill_54 K29 n) x8 r1 x1 x2 x3 x5 x7 x10 V2) else (mb (M_term 4 V) fun r3 V4 => M_ill_85 K29 (M_ill_54 K29 n) x8 (w32 (100 - r3)) x1 x2 x3 x5 x7 x10 V4))
theorem WM_ill_54 {Z : MZ} {d : Nat} (hX : MX Z cX4_ill 11 (some .int) d 0) (hdd : 130 ≤ d) {K29 : Int → Int → Int → Int → Int → VV → Option (Int × VV)} (hK29 : ∀ x1 x2 x3 x5 x7 V, MG Z 29 [(0, (3, 0)), (1, (0, x1)), (2, (0, x2)), (3, (1, x3)), (5, (1, x5)), (7, (0, x7))] [] V (K29 x1 x2 x3 x5 x7 V)) : ∀ n x1 x2 x3 x5 x7 x8 x10 V, MG Z 54 [(0, (3, 0)), (1, (0, x1)), (2, (0, x2)), (3, (1, x3)), (5, (1, x5)), (7, (0, x7)), (8, (1, x8)), (10, (0, x10))] [] V (M_ill_54 K29 n x1 x2 x3 x5 x7 x8 x10 V) := by
  intro n
  induction n with
  | zero => intro x1 x2 x3 x5 x7 x8 x10 V; exact m_none
  | succ n ih =>
    intro x1 x2 x3 x5 x7 x8 x10 V
    rw [M_ill_54]
    refine m_iload hX 7 dX4_ill_54 rfl ?_
    refine m_iload_n hX 1 dX4_ill_56 rfl rfl ?_
    refine m_icmp_ge hX 95 dX4_ill_57 (by decide) (fun _ => ?_) (fun _ => ?_)
    · exact m_sub [0, 1, 2, 3, 4, 5, 6] rfl (WM_ill_95 hX hdd hK29 x1 x2 x3 x5 x7 x8 V)
    · refine m_lload hX 6 dX4_ill_60 rfl ?_
      refine m_iload hX 7 dX4_ill_62 rfl ?_
      refine m_iload hX 5 dX4_ill_64 rfl ?_
      refine m_icmp_ge hX 80 dX4_ill_66 (by decide) (fun _ => ?_) (fun _ => ?_)
      · refine m_aload_n hX 0 dX4_ill_80 rfl rfl ?_
        refine m_ic hX dX4_ill_81 (by decide) (by decide) ?_
        refine cl_term hX (by omega) (Nat.le_of_ble_eq_true rfl) dX4_ill_82 fun r1 V2 => ?_
        exact m_sub [0, 1, 2, 3, 4, 5, 7] rfl (WM_ill_85 hX hdd hK29 ih x8 r1 x1 x2 x3 x5 x7 x10 V2)
      · refine m_bp hX dX4_ill_69 (by decide) (by decide) ?_
        refine m_aload_n hX 0 dX4_ill_71 rfl rfl ?_
        refine m_ic hX dX4_ill_72 (by decide) (by decide) ?_
        refine cl_term hX (by omega) (Nat.le_of_ble_eq_true rfl) dX4_ill_73 fun r3 V4 => ?_
        refine m_isub hX dX4_ill_76 ?_
        refine m_goto hX 85 dX4_ill_77 (by decide) ?_
        exact m_sub [0, 1, 2, 3, 4, 5, 7] rfl (WM_ill_85 hX hdd hK29 ih x8 (w32 (100 - r3)) x1 x2 x3 x5 x7 x10 V4)
noncomputable def M_ill_134 (x3 : Int) (x5 : Int) (V : VV) : Option (Int × VV) := mb (M_millionths x3 (w64 (x5 * (V 34 0))) V) fun r1 V2 => some (r1, V2)
theorem WM_ill_134 {Z : MZ} {d : Nat} (hX : MX Z cX4_ill 11 (some .int) d 0) (hdd : 130 ≤ d) : ∀ x3 x5 V, MG Z 134 [(0, (3, 0)), (3, (1, x3)), (5, (1, x5))] [] V (M_ill_134 x3 x5 V) := by
  intro x3 x5 V
  unfold M_ill_134
  refine m_lload_n hX 1 dX4_ill_134 rfl rfl ?_
  refine m_lload hX 2 dX4_ill_135 rfl ?_
  refine m_aload_n hX 0 dX4_ill_137 rfl rfl ?_
  refine fg_34 hX dX4_ill_138 ?_
  refine m_lmul hX dX4_ill_141 ?_
  refine cl_millionths hX (by omega) (Nat.le_of_ble_eq_true rfl) dX4_ill_142 fun r1 V2 => ?_
  exact m_iret hX rfl dX4_ill_145
noncomputable def M_ill_114 : Nat → Int → Int → Int → Int → VV → Option (Int × VV)
  | 0, _, _, _, _, _ => none
  | n + 1, x1, x3, x5, x7, V => if x1 ≤ x7 then (M_ill_134 x3 x5 V) else (nm (α := Int) (w64 (x5 * 100)) fun v1 => nm (w32 (x7 + 1)) fun v2 => M_ill_114 n x1 x3 v1 v2 V)
theorem WM_ill_114 {Z : MZ} {d : Nat} (hX : MX Z cX4_ill 11 (some .int) d 0) (hdd : 130 ≤ d) : ∀ n x1 x3 x5 x7 V, MG Z 114 [(0, (3, 0)), (1, (0, x1)), (3, (1, x3)), (5, (1, x5)), (7, (0, x7))] [] V (M_ill_114 n x1 x3 x5 x7 V) := by
  intro n
  induction n with
  | zero => intro x1 x3 x5 x7 V; exact m_none
  | succ n ih =>
    intro x1 x3 x5 x7 V
    rw [M_ill_114]
    refine m_iload hX 4 dX4_ill_114 rfl ?_
    refine m_iload_n hX 1 dX4_ill_116 rfl rfl ?_
    refine m_icmp_ge hX 134 dX4_ill_117 (by decide) (fun _ => ?_) (fun _ => ?_)
    · exact m_sub [0, 2, 3] rfl (WM_ill_134 hX hdd x3 x5 V)
    · refine m_lload hX 3 dX4_ill_120 rfl ?_
      refine m_ldc2 hX (n := 100) q2125 dX4_ill_122 (by decide +kernel) ⟨by decide, by decide⟩ ?_
      refine m_lmul hX dX4_ill_125 ?_
      refine m_nmT fun v1 => ?_
      refine m_lstore hX (lv' := [(5, (1, v1)), (0, (3, 0)), (1, (0, x1)), (3, (1, x3)), (7, (0, x7))]) dX4_ill_126 (by decide) rfl ?_
      refine m_iinc hX 4 dX4_ill_128 rfl (by decide) fun v2 => m_lv (lv' := [(7, (0, v2)), (5, (1, v1)), (0, (3, 0)), (1, (0, x1)), (3, (1, x3))]) rfl ?_
      refine m_goto hX 114 dX4_ill_131 (by decide) ?_
      exact m_sub [2, 3, 4, 1, 0] rfl (ih x1 x3 v1 v2 V)
noncomputable def M_ill_111 (x1 : Int) (x3 : Int) (x5 : Int) (V : VV) : Option (Int × VV) := M_ill_114 FU x1 x3 x5 0 V
theorem WM_ill_111 {Z : MZ} {d : Nat} (hX : MX Z cX4_ill 11 (some .int) d 0) (hdd : 130 ≤ d) : ∀ x1 x3 x5 V, MG Z 111 [(0, (3, 0)), (1, (0, x1)), (3, (1, x3)), (5, (1, x5))] [] V (M_ill_111 x1 x3 x5 V) := by
  intro x1 x3 x5 V
  unfold M_ill_111
  refine m_ic hX dX4_ill_111 (by decide) (by decide) ?_
  refine m_istore hX (lv' := [(7, (0, 0)), (0, (3, 0)), (1, (0, x1)), (3, (1, x3)), (5, (1, x5))]) dX4_ill_112 (by decide) rfl ?_
  exact m_sub [1, 2, 3, 4, 0] rfl (WM_ill_114 hX hdd FU x1 x3 x5 0 V)
noncomputable def M_ill_29 : Nat → Int → Int → Int → Int → Int → VV → Option (Int × VV)
  | 0, _, _, _, _, _, _ => none
  | n + 1, x1, x2, x3, x5, x7, V => if x1 < x7 then (M_ill_111 x1 x3 x5 V) else (mb (M_bests (w32 (x7 * x2)) V) fun r1 V2 => mb (M_choose x1 x7 V2) fun r3 V4 => M_ill_54 (M_ill_29 n) FU x1 x2 x3 x5 x7 r3 0 V4)
theorem WM_ill_29 {Z : MZ} {d : Nat} (hX : MX Z cX4_ill 11 (some .int) d 0) (hdd : 130 ≤ d) : ∀ n x1 x2 x3 x5 x7 V, MG Z 29 [(0, (3, 0)), (1, (0, x1)), (2, (0, x2)), (3, (1, x3)), (5, (1, x5)), (7, (0, x7))] [] V (M_ill_29 n x1 x2 x3 x5 x7 V) := by
  intro n
  induction n with
  | zero => intro x1 x2 x3 x5 x7 V; exact m_none
  | succ n ih =>
    intro x1 x2 x3 x5 x7 V
    rw [M_ill_29]
    refine m_iload hX 5 dX4_ill_29 rfl ?_
    refine m_iload_n hX 1 dX4_ill_31 rfl rfl ?_
    refine m_icmp_gt hX 111 dX4_ill_32 (by decide) (fun _ => ?_) (fun _ => ?_)
    · exact m_sub [0, 1, 3, 4] rfl (WM_ill_111 hX hdd x1 x3 x5 V)
    · refine m_aload_n hX 0 dX4_ill_35 rfl rfl ?_
      refine m_iload hX 5 dX4_ill_36 rfl ?_
      refine m_iload_n hX 2 dX4_ill_38 rfl rfl ?_
      refine m_imul hX dX4_ill_39 ?_
      refine cl_bests hX (by omega) (Nat.le_of_ble_eq_true rfl) dX4_ill_40 fun r1 V2 => ?_
      refine m_iload_n hX 1 dX4_ill_43 rfl rfl ?_
      refine m_iload hX 5 dX4_ill_44 rfl ?_
      refine cl_choose hX (by omega) (Nat.le_of_ble_eq_true rfl) dX4_ill_46 fun r3 V4 => ?_
      refine m_lstore hX (lv' := [(8, (1, r3)), (0, (3, 0)), (1, (0, x1)), (2, (0, x2)), (3, (1, x3)), (5, (1, x5)), (7, (0, x7))]) dX4_ill_49 (by decide) rfl ?_
      refine m_ic hX dX4_ill_51 (by decide) (by decide) ?_
      refine m_istore hX (lv' := [(10, (0, 0)), (8, (1, r3)), (0, (3, 0)), (1, (0, x1)), (2, (0, x2)), (3, (1, x3)), (5, (1, x5)), (7, (0, x7))]) dX4_ill_52 (by decide) rfl ?_
      exact m_sub [2, 3, 4, 5, 6, 7, 1, 0] rfl (WM_ill_54 hX hdd ih FU x1 x2 x3 x5 x7 r3 0 V4)
noncomputable def M_ill (x1 : Int) (x2 : Int) (V : VV) : Option (Int × VV) := mb (M_lies x1 0 3 V) fun r1 V2 => if r1 = 0 then (some ((-1), V2)) else (mb (M_lies x2 0 100 V2) fun r3 V4 => if r3 = 0 then (some ((-1), V4)) else (M_ill_29 FU x1 x2 0 1 0 V4))
theorem WM_ill (l : Launch) {d : Nat} (hdd : 130 ≤ d) (x1 : Int) (x2 : Int) (V : VV) (hV : okV V) (ho : oks [(0, x1), (0, x2)]) (fin : Int × VV) (hf : M_ill x1 x2 V = some fin) : mSpec l yX4_ill cX4_ill 11 (some .int) d 0 [(3, 0), (0, x1), (0, x2)] V fin := by
  refine m_enter (lv := [(0, (3, 0)), (1, (0, x1)), (2, (0, x2))]) (by decide) rfl (Nat.le_of_ble_eq_true rfl) rfl (fun Z hZ hX => ?_) hV (ho.c (okA.t 0)) fin hf
  unfold M_ill
  refine m_iload_n hX 1 dX4_ill_0 rfl rfl ?_
  refine m_ic hX dX4_ill_1 (by decide) (by decide) ?_
  refine m_ic hX dX4_ill_2 (by decide) (by decide) ?_
  refine cl_lies hX (by omega) (Nat.le_of_ble_eq_true rfl) dX4_ill_3 fun r1 V2 => ?_
  refine m_if_eq hX 19 dX4_ill_6 (by decide) (fun _ => ?_) (fun _ => ?_)
  · refine m_ic hX dX4_ill_19 (by decide) (by decide) ?_
    exact m_iret hX rfl dX4_ill_20
  · refine m_iload_n hX 2 dX4_ill_9 rfl rfl ?_
    refine m_ic hX dX4_ill_10 (by decide) (by decide) ?_
    refine m_bp hX dX4_ill_11 (by decide) (by decide) ?_
    refine cl_lies hX (by omega) (Nat.le_of_ble_eq_true rfl) dX4_ill_13 fun r3 V4 => ?_
    refine m_if_ne hX 21 dX4_ill_16 (by decide) (fun _ => ?_) (fun _ => ?_)
    · refine m_l0 hX dX4_ill_21 ?_
      refine m_lstore_n hX (lv' := [(3, (1, 0)), (0, (3, 0)), (1, (0, x1)), (2, (0, x2))]) dX4_ill_22 rfl (by decide) rfl ?_
      refine m_l1 hX dX4_ill_23 ?_
      refine m_lstore hX (lv' := [(5, (1, 1)), (3, (1, 0)), (0, (3, 0)), (1, (0, x1)), (2, (0, x2))]) dX4_ill_24 (by decide) rfl ?_
      refine m_ic hX dX4_ill_26 (by decide) (by decide) ?_
      refine m_istore hX (lv' := [(7, (0, 0)), (5, (1, 1)), (3, (1, 0)), (0, (3, 0)), (1, (0, x1)), (2, (0, x2))]) dX4_ill_27 (by decide) rfl ?_
      exact m_sub [3, 4, 5, 2, 1, 0] rfl (WM_ill_29 hX hdd FU x1 x2 0 1 0 V4)
    · refine m_ic hX dX4_ill_19 (by decide) (by decide) ?_
      exact m_iret hX rfl dX4_ill_20
-- ill: not called inside
noncomputable def M_year_14 (V : VV) : Option (Int × VV) := mb (M_refuses (-1) V) fun r1 V2 => some (r1, V2)
theorem WM_year_14 {Z : MZ} {d : Nat} (hX : MX Z cX4_year 2 (some .int) d 0) (hdd : 2 ≤ d) : ∀ V, MG Z 14 [(0, (3, 0))] [] V (M_year_14 V) := by
  intro V
  unfold M_year_14
  refine m_aload_n hX 0 dX4_year_14 rfl rfl ?_
  refine m_ic hX dX4_year_15 (by decide) (by decide) ?_
  refine cl_refuses hX (by omega) (Nat.le_of_ble_eq_true rfl) dX4_year_16 fun r1 V2 => ?_
  exact m_iret hX rfl dX4_year_19
noncomputable def M_year (x1 : Int) (V : VV) : Option (Int × VV) := if x1 < 0 then (M_year_14 V) else (mb (M_questions V) fun r1 V2 => if x1 < ishl 1 r1 then (if V2 3 392 = 40 then (mb (M_refuses (-5) V2) fun r7 V8 => some (r7, V8)) else (ck (w32 (350 + (V2 3 392))) 5201 <| nm (vup V2 3 (w32 (350 + (V2 3 392))) x1) fun V3 => nm (vup V3 3 392 (w32 ((V3 3 392) + 1))) fun V4 => mb (M_good (V4 3 392) V4) fun r5 V6 => some (r5, V6))) else (M_year_14 V2))
theorem WM_year (l : Launch) {d : Nat} (hdd : 2 ≤ d) (x1 : Int) (V : VV) (hV : okV V) (ho : oks [(0, x1)]) (fin : Int × VV) (hf : M_year x1 V = some fin) : mSpec l yX4_year cX4_year 2 (some .int) d 0 [(3, 0), (0, x1)] V fin := by
  refine m_enter (lv := [(0, (3, 0)), (1, (0, x1))]) (by decide) rfl (Nat.le_of_ble_eq_true rfl) rfl (fun Z hZ hX => ?_) hV (ho.c (okA.t 0)) fin hf
  unfold M_year
  refine m_iload_n hX 1 dX4_year_0 rfl rfl ?_
  refine m_if_lt hX 14 dX4_year_1 (by decide) (fun _ => ?_) (fun _ => ?_)
  · exact m_sub [0] rfl (WM_year_14 hX hdd V)
  · refine m_iload_n hX 1 dX4_year_4 rfl rfl ?_
    refine m_ic hX dX4_year_5 (by decide) (by decide) ?_
    refine m_aload_n hX 0 dX4_year_6 rfl rfl ?_
    refine cl_questions hX (by omega) (Nat.le_of_ble_eq_true rfl) dX4_year_7 fun r1 V2 => ?_
    refine m_ishl hX dX4_year_10 ?_
    refine m_icmp_lt hX 20 dX4_year_11 (by decide) (fun _ => ?_) (fun _ => ?_)
    · refine m_aload_n hX 0 dX4_year_20 rfl rfl ?_
      refine fg_3 hX dX4_year_21 ?_
      refine m_sp hX dX4_year_24 (by decide) (by decide) ?_
      refine m_in (by decide) (by decide) (al_3 hX dX4_year_27 ?_)
      refine m_bp hX dX4_year_28 (by decide) (by decide) ?_
      refine m_icmp_ne hX 40 dX4_year_30 (by decide) (fun _ => ?_) (fun _ => ?_)
      · refine m_aload_n hX 0 dX4_year_40 rfl rfl ?_
        refine fg_3 hX dX4_year_41 ?_
        refine m_sp hX dX4_year_44 (by decide) (by decide) ?_
        refine m_aload_n hX 0 dX4_year_47 rfl rfl ?_
        refine fg_3 hX dX4_year_48 ?_
        refine m_sp hX dX4_year_51 (by decide) (by decide) ?_
        refine m_in (by decide) (by decide) (al_3 hX dX4_year_54 ?_)
        refine m_iadd hX dX4_year_55 ?_
        refine m_iload_n hX 1 dX4_year_56 rfl rfl ?_
        refine as_3 hX dX4_year_57 fun V3 => ?_
        refine m_aload_n hX 0 dX4_year_58 rfl rfl ?_
        refine fg_3 hX dX4_year_59 ?_
        refine m_sp hX dX4_year_62 (by decide) (by decide) ?_
        refine m_dup2 hX dX4_year_65 rfl rfl ?_
        refine m_in (by decide) (by decide) (al_3 hX dX4_year_66 ?_)
        refine m_ic hX dX4_year_67 (by decide) (by decide) ?_
        refine m_iadd hX dX4_year_68 ?_
        refine m_in (by decide) (by decide) (as_3 hX dX4_year_69 fun V4 => ?_)
        refine m_aload_n hX 0 dX4_year_70 rfl rfl ?_
        refine m_aload_n hX 0 dX4_year_71 rfl rfl ?_
        refine fg_3 hX dX4_year_72 ?_
        refine m_sp hX dX4_year_75 (by decide) (by decide) ?_
        refine m_in (by decide) (by decide) (al_3 hX dX4_year_78 ?_)
        refine cl_good hX (by omega) (Nat.le_of_ble_eq_true rfl) dX4_year_79 fun r5 V6 => ?_
        exact m_iret hX rfl dX4_year_82
      · refine m_aload_n hX 0 dX4_year_33 rfl rfl ?_
        refine m_bp hX dX4_year_34 (by decide) (by decide) ?_
        refine cl_refuses hX (by omega) (Nat.le_of_ble_eq_true rfl) dX4_year_36 fun r7 V8 => ?_
        exact m_iret hX rfl dX4_year_39
    · exact m_sub [0] rfl (WM_year_14 hX hdd V2)
-- year: not called inside
noncomputable def M_row_161 (K40 : Int → Int → Int → VV → Option (Int × VV)) (x1 : Int) (x2 : Int) (x3 : Int) (x5 : Int) (V : VV) : Option (Int × VV) := nm (α := Int) (if x5 = 0 then 1 else 0) fun v1 => nm (vup V 59 0 (w32 ((V 59 0) + v1))) fun V2 => nm (w32 (x3 + 4)) fun v3 => K40 x1 x2 v3 V2
theorem WM_row_161 {Z : MZ} {d : Nat} (hX : MX Z cX4_row 6 (some .int) d 0) (hdd : 2 ≤ d) {K40 : Int → Int → Int → VV → Option (Int × VV)} (hK40 : ∀ x1 x2 x3 V, MG Z 40 [(0, (3, 0)), (1, (0, x1)), (2, (0, x2)), (3, (0, x3))] [] V (K40 x1 x2 x3 V)) : ∀ x1 x2 x3 x5 V, MG Z 161 [(0, (3, 0)), (1, (0, x1)), (2, (0, x2)), (3, (0, x3)), (5, (0, x5))] [] V (M_row_161 K40 x1 x2 x3 x5 V) := by
  intro x1 x2 x3 x5 V
  unfold M_row_161
  refine m_aload_n hX 0 dX4_row_161 rfl rfl ?_
  refine m_dup hX dX4_row_162 rfl ?_
  refine fg_59 hX dX4_row_163 ?_
  refine m_iload hX 4 dX4_row_166 rfl ?_
  refine m_join 176 (fun v1 => [(0, v1), (0, V 59 0), (3, 0)]) (fun v1 => ?_) (fun hJ => ?_)
  · refine m_iadd hX dX4_row_176 ?_
    refine fp_59 hX dX4_row_177 fun V2 => ?_
    refine m_iinc hX 3 dX4_row_180 rfl (by decide) fun v3 => m_lv (lv' := [(3, (0, v3)), (0, (3, 0)), (1, (0, x1)), (2, (0, x2)), (5, (0, x5))]) rfl ?_
    refine m_goto hX 40 dX4_row_183 (by decide) ?_
    exact m_sub [1, 2, 3, 0] rfl (hK40 x1 x2 v3 V2)
  · refine m_if_eqF hX 175 dX4_row_168 (by decide) (fun _ => ?_) (fun _ => ?_)
    · refine m_ic hX dX4_row_175 (by decide) (by decide) ?_
      exact hJ _
    · refine m_ic hX dX4_row_171 (by decide) (by decide) ?_
      refine m_goto hX 176 dX4_row_172 (by decide) ?_
      exact hJ _
noncomputable def M_row_120 (K40 : Int → Int → Int → VV → Option (Int × VV)) (s0 : Int) (x1 : Int) (x2 : Int) (x3 : Int) (x4 : Int) (V : VV) : Option (Int × VV) := if s0 = 0 then (M_row_161 K40 x1 x2 x3 s0 V) else (ck (w32 (350 + (V 3 392))) 5201 <| nm (vup V 3 (w32 (350 + (V 3 392))) x4) fun V1 => nm (vup V1 3 392 (w32 ((V1 3 392) + 1))) fun V2 => nm (w32 (x2 + 1)) fun v3 => M_row_161 K40 x1 v3 x3 s0 V2)
theorem WM_row_120 {Z : MZ} {d : Nat} (hX : MX Z cX4_row 6 (some .int) d 0) (hdd : 2 ≤ d) {K40 : Int → Int → Int → VV → Option (Int × VV)} (hK40 : ∀ x1 x2 x3 V, MG Z 40 [(0, (3, 0)), (1, (0, x1)), (2, (0, x2)), (3, (0, x3))] [] V (K40 x1 x2 x3 V)) : ∀ s0 x1 x2 x3 x4 V, MG Z 120 [(0, (3, 0)), (1, (0, x1)), (2, (0, x2)), (3, (0, x3)), (4, (0, x4))] [(0, s0)] V (M_row_120 K40 s0 x1 x2 x3 x4 V) := by
  intro s0 x1 x2 x3 x4 V
  unfold M_row_120
  refine m_istore hX (lv' := [(5, (0, s0)), (0, (3, 0)), (1, (0, x1)), (2, (0, x2)), (3, (0, x3)), (4, (0, x4))]) dX4_row_120 (by decide) rfl ?_
  refine m_iload hX 0 dX4_row_122 rfl ?_
  refine m_if_eq hX 161 dX4_row_124 (by decide) (fun _ => ?_) (fun _ => ?_)
  · exact m_sub [1, 2, 3, 4, 0] rfl (WM_row_161 hX hdd hK40 x1 x2 x3 s0 V)
  · refine m_aload_n hX 1 dX4_row_127 rfl rfl ?_
    refine fg_3 hX dX4_row_128 ?_
    refine m_sp hX dX4_row_131 (by decide) (by decide) ?_
    refine m_aload_n hX 1 dX4_row_134 rfl rfl ?_
    refine fg_3 hX dX4_row_135 ?_
    refine m_sp hX dX4_row_138 (by decide) (by decide) ?_
    refine m_in (by decide) (by decide) (al_3 hX dX4_row_141 ?_)
    refine m_iadd hX dX4_row_142 ?_
    refine m_iload hX 5 dX4_row_143 rfl ?_
    refine as_3 hX dX4_row_145 fun V1 => ?_
    refine m_aload_n hX 1 dX4_row_146 rfl rfl ?_
    refine fg_3 hX dX4_row_147 ?_
    refine m_sp hX dX4_row_150 (by decide) (by decide) ?_
    refine m_dup2 hX dX4_row_153 rfl rfl ?_
    refine m_in (by decide) (by decide) (al_3 hX dX4_row_154 ?_)
    refine m_ic hX dX4_row_155 (by decide) (by decide) ?_
    refine m_iadd hX dX4_row_156 ?_
    refine m_in (by decide) (by decide) (as_3 hX dX4_row_157 fun V2 => ?_)
    refine m_iinc hX 3 dX4_row_158 rfl (by decide) fun v3 => m_lv (lv' := [(2, (0, v3)), (5, (0, s0)), (0, (3, 0)), (1, (0, x1)), (3, (0, x3)), (4, (0, x4))]) rfl ?_
    exact m_sub [2, 3, 0, 4, 1] rfl (WM_row_161 hX hdd hK40 x1 v3 x3 s0 V2)
noncomputable def M_row_119 (K40 : Int → Int → Int → VV → Option (Int × VV)) (x1 : Int) (x2 : Int) (x3 : Int) (x4 : Int) (V : VV) : Option (Int × VV) := M_row_120 K40 0 x1 x2 x3 x4 V
theorem WM_row_119 {Z : MZ} {d : Nat} (hX : MX Z cX4_row 6 (some .int) d 0) (hdd : 2 ≤ d) {K40 : Int → Int → Int → VV → Option (Int × VV)} (hK40 : ∀ x1 x2 x3 V, MG Z 40 [(0, (3, 0)), (1, (0, x1)), (2, (0, x2)), (3, (0, x3))] [] V (K40 x1 x2 x3 V)) : ∀ x1 x2 x3 x4 V, MG Z 119 [(0, (3, 0)), (1, (0, x1)), (2, (0, x2)), (3, (0, x3)), (4, (0, x4))] [] V (M_row_119 K40 x1 x2 x3 x4 V) := by
  intro x1 x2 x3 x4 V
  unfold M_row_119
  refine m_ic hX dX4_row_119 (by decide) (by decide) ?_
  exact m_sub [0, 1, 2, 3, 4] rfl (WM_row_120 hX hdd hK40 0 x1 x2 x3 x4 V)
noncomputable def M_row_86 (K40 : Int → Int → Int → VV → Option (Int × VV)) (x1 : Int) (x2 : Int) (x3 : Int) (x4 : Int) (V : VV) : Option (Int × VV) := if x4 < 0 then (M_row_119 K40 x1 x2 x3 x4 V) else (mb (M_questions V) fun r1 V2 => if ishl 1 r1 ≤ x4 then (M_row_119 K40 x1 x2 x3 x4 V2) else (if 40 ≤ V2 3 392 then (M_row_119 K40 x1 x2 x3 x4 V2) else (M_row_120 K40 1 x1 x2 x3 x4 V2)))
theorem WM_row_86 {Z : MZ} {d : Nat} (hX : MX Z cX4_row 6 (some .int) d 0) (hdd : 2 ≤ d) {K40 : Int → Int → Int → VV → Option (Int × VV)} (hK40 : ∀ x1 x2 x3 V, MG Z 40 [(0, (3, 0)), (1, (0, x1)), (2, (0, x2)), (3, (0, x3))] [] V (K40 x1 x2 x3 V)) : ∀ x1 x2 x3 x4 V, MG Z 86 [(0, (3, 0)), (1, (0, x1)), (2, (0, x2)), (3, (0, x3)), (4, (0, x4))] [] V (M_row_86 K40 x1 x2 x3 x4 V) := by
  intro x1 x2 x3 x4 V
  unfold M_row_86
  refine m_iload hX 4 dX4_row_86 rfl ?_
  refine m_if_lt hX 119 dX4_row_88 (by decide) (fun _ => ?_) (fun _ => ?_)
  · exact m_sub [0, 1, 2, 3, 4] rfl (WM_row_119 hX hdd hK40 x1 x2 x3 x4 V)
  · refine m_iload hX 4 dX4_row_91 rfl ?_
    refine m_ic hX dX4_row_93 (by decide) (by decide) ?_
    refine m_aload_n hX 0 dX4_row_94 rfl rfl ?_
    refine cl_questions hX (by omega) (Nat.le_of_ble_eq_true rfl) dX4_row_95 fun r1 V2 => ?_
    refine m_ishl hX dX4_row_98 ?_
    refine m_icmp_ge hX 119 dX4_row_99 (by decide) (fun _ => ?_) (fun _ => ?_)
    · exact m_sub [0, 1, 2, 3, 4] rfl (WM_row_119 hX hdd hK40 x1 x2 x3 x4 V2)
    · refine m_aload_n hX 0 dX4_row_102 rfl rfl ?_
      refine fg_3 hX dX4_row_103 ?_
      refine m_sp hX dX4_row_106 (by decide) (by decide) ?_
      refine m_in (by decide) (by decide) (al_3 hX dX4_row_109 ?_)
      refine m_bp hX dX4_row_110 (by decide) (by decide) ?_
      refine m_icmp_ge hX 119 dX4_row_112 (by decide) (fun _ => ?_) (fun _ => ?_)
      · exact m_sub [0, 1, 2, 3, 4] rfl (WM_row_119 hX hdd hK40 x1 x2 x3 x4 V2)
      · refine m_ic hX dX4_row_115 (by decide) (by decide) ?_
        refine m_goto hX 120 dX4_row_116 (by decide) ?_
        exact m_sub [0, 1, 2, 3, 4] rfl (WM_row_120 hX hdd hK40 1 x1 x2 x3 x4 V2)
noncomputable def M_row_53 (K40 : Int → Int → Int → VV → Option (Int × VV)) : Nat → Int → Int → Int → Int → Int → VV → Option (Int × VV)
  | 0, _, _, _, _, _, _ => none
  | n + 1, x1, x2, x3, x4, x5, V => if 4 ≤ x5 then (M_row_86 K40 x1 x2 x3 x4 V) else (ck (w32 (x3 + x5)) 400 <| nm (α := Int) (ior (ishl x4 8) (iand (V 7 (w32 (x3 + x5))) 255)) fun v1 => nm (w32 (x5 + 1)) fun v2 => M_row_53 K40 n x1 x2 x3 v1 v2 V)
theorem WM_row_53 {Z : MZ} {d : Nat} (hX : MX Z cX4_row 6 (some .int) d 0) (hdd : 2 ≤ d) {K40 : Int → Int → Int → VV → Option (Int × VV)} (hK40 : ∀ x1 x2 x3 V, MG Z 40 [(0, (3, 0)), (1, (0, x1)), (2, (0, x2)), (3, (0, x3))] [] V (K40 x1 x2 x3 V)) : ∀ n x1 x2 x3 x4 x5 V, MG Z 53 [(0, (3, 0)), (1, (0, x1)), (2, (0, x2)), (3, (0, x3)), (4, (0, x4)), (5, (0, x5))] [] V (M_row_53 K40 n x1 x2 x3 x4 x5 V) := by
  intro n
  induction n with
  | zero => intro x1 x2 x3 x4 x5 V; exact m_none
  | succ n ih =>
    intro x1 x2 x3 x4 x5 V
    rw [M_row_53]
    refine m_iload hX 5 dX4_row_53 rfl ?_
    refine m_ic hX dX4_row_55 (by decide) (by decide) ?_
    refine m_icmp_ge hX 86 dX4_row_56 (by decide) (fun _ => ?_) (fun _ => ?_)
    · exact m_sub [0, 1, 2, 3, 4] rfl (WM_row_86 hX hdd hK40 x1 x2 x3 x4 V)
    · refine m_iload hX 4 dX4_row_59 rfl ?_
      refine m_bp hX dX4_row_61 (by decide) (by decide) ?_
      refine m_ishl hX dX4_row_63 ?_
      refine m_aload_n hX 0 dX4_row_64 rfl rfl ?_
      refine fg_7 hX dX4_row_65 ?_
      refine m_iload_n hX 3 dX4_row_68 rfl rfl ?_
      refine m_iload hX 5 dX4_row_69 rfl ?_
      refine m_iadd hX dX4_row_71 ?_
      refine al_7 hX dX4_row_72 ?_
      refine m_sp hX dX4_row_73 (by decide) (by decide) ?_
      refine m_iand hX dX4_row_76 ?_
      refine m_ior hX dX4_row_77 ?_
      refine m_nmT fun v1 => ?_
      refine m_istore hX (lv' := [(4, (0, v1)), (0, (3, 0)), (1, (0, x1)), (2, (0, x2)), (3, (0, x3)), (5, (0, x5))]) dX4_row_78 (by decide) rfl ?_
      refine m_iinc hX 5 dX4_row_80 rfl (by decide) fun v2 => m_lv (lv' := [(5, (0, v2)), (4, (0, v1)), (0, (3, 0)), (1, (0, x1)), (2, (0, x2)), (3, (0, x3))]) rfl ?_
      refine m_goto hX 53 dX4_row_83 (by decide) ?_
      exact m_sub [2, 3, 4, 5, 1, 0] rfl (ih x1 x2 x3 v1 v2 V)
noncomputable def M_row_186 (x2 : Int) (V : VV) : Option (Int × VV) := mb (M_good x2 V) fun r1 V2 => some (r1, V2)
theorem WM_row_186 {Z : MZ} {d : Nat} (hX : MX Z cX4_row 6 (some .int) d 0) (hdd : 2 ≤ d) : ∀ x2 V, MG Z 186 [(0, (3, 0)), (2, (0, x2))] [] V (M_row_186 x2 V) := by
  intro x2 V
  unfold M_row_186
  refine m_aload_n hX 0 dX4_row_186 rfl rfl ?_
  refine m_iload_n hX 1 dX4_row_187 rfl rfl ?_
  refine cl_good hX (by omega) (Nat.le_of_ble_eq_true rfl) dX4_row_188 fun r1 V2 => ?_
  exact m_iret hX rfl dX4_row_191
noncomputable def M_row_40 : Nat → Int → Int → Int → VV → Option (Int × VV)
  | 0, _, _, _, _ => none
  | n + 1, x1, x2, x3, V => if x1 < w32 (x3 + 4) then (M_row_186 x2 V) else (M_row_53 (M_row_40 n) FU x1 x2 x3 0 0 V)
theorem WM_row_40 {Z : MZ} {d : Nat} (hX : MX Z cX4_row 6 (some .int) d 0) (hdd : 2 ≤ d) : ∀ n x1 x2 x3 V, MG Z 40 [(0, (3, 0)), (1, (0, x1)), (2, (0, x2)), (3, (0, x3))] [] V (M_row_40 n x1 x2 x3 V) := by
  intro n
  induction n with
  | zero => intro x1 x2 x3 V; exact m_none
  | succ n ih =>
    intro x1 x2 x3 V
    rw [M_row_40]
    refine m_iload_n hX 3 dX4_row_40 rfl rfl ?_
    refine m_ic hX dX4_row_41 (by decide) (by decide) ?_
    refine m_iadd hX dX4_row_42 ?_
    refine m_iload_n hX 1 dX4_row_43 rfl rfl ?_
    refine m_icmp_gt hX 186 dX4_row_44 (by decide) (fun _ => ?_) (fun _ => ?_)
    · exact m_sub [0, 2] rfl (WM_row_186 hX hdd x2 V)
    · refine m_ic hX dX4_row_47 (by decide) (by decide) ?_
      refine m_istore hX (lv' := [(4, (0, 0)), (0, (3, 0)), (1, (0, x1)), (2, (0, x2)), (3, (0, x3))]) dX4_row_48 (by decide) rfl ?_
      refine m_ic hX dX4_row_50 (by decide) (by decide) ?_
      refine m_istore hX (lv' := [(5, (0, 0)), (4, (0, 0)), (0, (3, 0)), (1, (0, x1)), (2, (0, x2)), (3, (0, x3))]) dX4_row_51 (by decide) rfl ?_
      exact m_sub [2, 3, 4, 5, 1, 0] rfl (WM_row_53 hX hdd ih FU x1 x2 x3 0 0 V)
noncomputable def M_row (V : VV) : Option (Int × VV) := nm (α := Int) (V 9 0) fun v1 => nm (vup V 9 0 0) fun V2 => if v1 = 0 then (mb (M_refuses (-6) V2) fun r5 V6 => some (r5, V6)) else (nm (α := Int) (if v1.tmod 4 = 0 then 0 else 1) fun v3 => nm (vup V2 59 0 v3) fun V4 => M_row_40 FU v1 0 0 V4)
theorem WM_row (l : Launch) {d : Nat} (hdd : 2 ≤ d) (V : VV) (hV : okV V) (ho : oks []) (fin : Int × VV) (hf : M_row V = some fin) : mSpec l yX4_row cX4_row 6 (some .int) d 0 [(3, 0)] V fin := by
  refine m_enter (lv := [(0, (3, 0))]) (by decide) rfl (Nat.le_of_ble_eq_true rfl) rfl (fun Z hZ hX => ?_) hV (ho.c (okA.t 0)) fin hf
  unfold M_row
  refine m_aload_n hX 0 dX4_row_0 rfl rfl ?_
  refine fg_9 hX dX4_row_1 ?_
  refine m_nmT fun v1 => ?_
  refine m_istore_n hX (lv' := [(1, (0, v1)), (0, (3, 0))]) dX4_row_4 rfl (by decide) rfl ?_
  refine m_aload_n hX 1 dX4_row_5 rfl rfl ?_
  refine m_ic hX dX4_row_6 (by decide) (by decide) ?_
  refine fp_9 hX dX4_row_7 fun V2 => ?_
  refine m_iload_n hX 0 dX4_row_10 rfl rfl ?_
  refine m_if_ne hX 21 dX4_row_11 (by decide) (fun _ => ?_) (fun _ => ?_)
  · refine m_ic hX dX4_row_21 (by decide) (by decide) ?_
    refine m_istore_n hX (lv' := [(2, (0, 0)), (1, (0, v1)), (0, (3, 0))]) dX4_row_22 rfl (by decide) rfl ?_
    refine m_aload_n hX 2 dX4_row_23 rfl rfl ?_
    refine m_iload_n hX 1 dX4_row_24 rfl rfl ?_
    refine m_ic hX dX4_row_25 (by decide) (by decide) ?_
    refine m_nz (b := 4) (by decide) (m_irem hX dX4_row_26 ?_)
    refine m_join 35 (fun v3 => [(0, v3), (3, 0)]) (fun v3 => ?_) (fun hJ => ?_)
    · refine fp_59 hX dX4_row_35 fun V4 => ?_
      refine m_ic hX dX4_row_38 (by decide) (by decide) ?_
      refine m_istore_n hX (lv' := [(3, (0, 0)), (2, (0, 0)), (1, (0, v1)), (0, (3, 0))]) dX4_row_39 rfl (by decide) rfl ?_
      exact m_sub [3, 2, 1, 0] rfl (WM_row_40 hX hdd FU v1 0 0 V4)
    · refine m_if_neF hX 34 dX4_row_27 (by decide) (fun _ => ?_) (fun _ => ?_)
      · refine m_ic hX dX4_row_34 (by decide) (by decide) ?_
        exact hJ _
      · refine m_ic hX dX4_row_30 (by decide) (by decide) ?_
        refine m_goto hX 35 dX4_row_31 (by decide) ?_
        exact hJ _
  · refine m_aload_n hX 1 dX4_row_14 rfl rfl ?_
    refine m_bp hX dX4_row_15 (by decide) (by decide) ?_
    refine cl_refuses hX (by omega) (Nat.le_of_ble_eq_true rfl) dX4_row_17 fun r5 V6 => ?_
    exact m_iret hX rfl dX4_row_20
-- row: not called inside
noncomputable def M_lost (V : VV) : Option (Int × VV) := some (V 59 0, V)
theorem WM_lost (l : Launch) {d : Nat} (hdd : 1 ≤ d) (V : VV) (hV : okV V) (ho : oks []) (fin : Int × VV) (hf : M_lost V = some fin) : mSpec l yX4_lost cX4_lost 1 (some .int) d 0 [(3, 0)] V fin := by
  refine m_enter (lv := [(0, (3, 0))]) (by decide) rfl (Nat.le_of_ble_eq_true rfl) rfl (fun Z hZ hX => ?_) hV (ho.c (okA.t 0)) fin hf
  unfold M_lost
  refine m_aload_n hX 0 dX4_lost_0 rfl rfl ?_
  refine fg_59 hX dX4_lost_1 ?_
  exact m_iret hX rfl dX4_lost_4
-- lost: not called inside
noncomputable def M_drawnTimes_4 : Nat → Int → Int → Int → VV → Option (Int × VV)
  | 0, _, _, _, _ => none
  | n + 1, x1, x2, x3, V => if V 3 392 ≤ x3 then (some (x2, V)) else (ck (w32 (350 + x3)) 5201 <| nm (α := Int) (w32 (x2 + (iand (ishr (V 3 (w32 (350 + x3))) x1) 1))) fun v1 => nm (w32 (x3 + 1)) fun v2 => M_drawnTimes_4 n x1 v1 v2 V)
theorem WM_drawnTimes_4 {Z : MZ} {d : Nat} (hX : MX Z cX4_drawnTimes 4 (some .int) d 0) (hdd : 1 ≤ d) : ∀ n x1 x2 x3 V, MG Z 4 [(0, (3, 0)), (1, (0, x1)), (2, (0, x2)), (3, (0, x3))] [] V (M_drawnTimes_4 n x1 x2 x3 V) := by
  intro n
  induction n with
  | zero => intro x1 x2 x3 V; exact m_none
  | succ n ih =>
    intro x1 x2 x3 V
    rw [M_drawnTimes_4]
    refine m_iload_n hX 3 dX4_drawnTimes_4 rfl rfl ?_
    refine m_aload_n hX 0 dX4_drawnTimes_5 rfl rfl ?_
    refine fg_3 hX dX4_drawnTimes_6 ?_
    refine m_sp hX dX4_drawnTimes_9 (by decide) (by decide) ?_
    refine m_in (by decide) (by decide) (al_3 hX dX4_drawnTimes_12 ?_)
    refine m_icmp_ge hX 39 dX4_drawnTimes_13 (by decide) (fun _ => ?_) (fun _ => ?_)
    · refine m_iload_n hX 2 dX4_drawnTimes_39 rfl rfl ?_
      exact m_iret hX rfl dX4_drawnTimes_40
    · refine m_iload_n hX 2 dX4_drawnTimes_16 rfl rfl ?_
      refine m_aload_n hX 0 dX4_drawnTimes_17 rfl rfl ?_
      refine fg_3 hX dX4_drawnTimes_18 ?_
      refine m_sp hX dX4_drawnTimes_21 (by decide) (by decide) ?_
      refine m_iload_n hX 3 dX4_drawnTimes_24 rfl rfl ?_
      refine m_iadd hX dX4_drawnTimes_25 ?_
      refine al_3 hX dX4_drawnTimes_26 ?_
      refine m_iload_n hX 1 dX4_drawnTimes_27 rfl rfl ?_
      refine m_ishr hX dX4_drawnTimes_28 ?_
      refine m_ic hX dX4_drawnTimes_29 (by decide) (by decide) ?_
      refine m_iand hX dX4_drawnTimes_30 ?_
      refine m_iadd hX dX4_drawnTimes_31 ?_
      refine m_nmT fun v1 => ?_
      refine m_istore_n hX (lv' := [(2, (0, v1)), (0, (3, 0)), (1, (0, x1)), (3, (0, x3))]) dX4_drawnTimes_32 rfl (by decide) rfl ?_
      refine m_iinc hX 3 dX4_drawnTimes_33 rfl (by decide) fun v2 => m_lv (lv' := [(3, (0, v2)), (2, (0, v1)), (0, (3, 0)), (1, (0, x1))]) rfl ?_
      refine m_goto hX 4 dX4_drawnTimes_36 (by decide) ?_
      exact m_sub [2, 3, 1, 0] rfl (ih x1 v1 v2 V)
noncomputable def M_drawnTimes (x1 : Int) (V : VV) : Option (Int × VV) := M_drawnTimes_4 FU x1 0 0 V
theorem WM_drawnTimes (l : Launch) {d : Nat} (hdd : 1 ≤ d) (x1 : Int) (V : VV) (hV : okV V) (ho : oks [(0, x1)]) (fin : Int × VV) (hf : M_drawnTimes x1 V = some fin) : mSpec l yX4_drawnTimes cX4_drawnTimes 4 (some .int) d 0 [(3, 0), (0, x1)] V fin := by
  refine m_enter (lv := [(0, (3, 0)), (1, (0, x1))]) (by decide) rfl (Nat.le_of_ble_eq_true rfl) rfl (fun Z hZ hX => ?_) hV (ho.c (okA.t 0)) fin hf
  unfold M_drawnTimes
  refine m_ic hX dX4_drawnTimes_0 (by decide) (by decide) ?_
  refine m_istore_n hX (lv' := [(2, (0, 0)), (0, (3, 0)), (1, (0, x1))]) dX4_drawnTimes_1 rfl (by decide) rfl ?_
  refine m_ic hX dX4_drawnTimes_2 (by decide) (by decide) ?_
  refine m_istore_n hX (lv' := [(3, (0, 0)), (2, (0, 0)), (0, (3, 0)), (1, (0, x1))]) dX4_drawnTimes_3 rfl (by decide) rfl ?_
  exact m_sub [2, 3, 1, 0] rfl (WM_drawnTimes_4 hX hdd FU x1 0 0 V)
theorem cl_drawnTimes {Z : MZ} {cc : ByteArray} {nL : Nat} {ret : Option FieldType} {d rk : Nat} {pc : Nat} {lv : List (Nat × AV)} {st : List AV} {V : VV} {g : Int → VV → Option (Int × VV)} (hX : MX Z cc nL ret d rk) {a0 : Int} (hdd : 2 ≤ d) (hcat : (st.map fun v => if v.1 = 1 then 2 else 1).sum ≤ 8) (hdg : decode cc pc = .ok (.invokevirtual 465, 3)) (kk : ∀ r V1, MG Z (pc + 3) lv ((0, r) :: st) V1 (g r V1)) : MG Z pc lv ((0, a0) :: (3, 0) :: st) V (mb (M_drawnTimes a0 V) g) :=
  m_callVi hX [(0, a0)] 1 (fun hV ho fin hf => WM_drawnTimes (zL Z) (Nat.le_refl 1) a0 V hV ho fin hf) (lw_V q2305 q2307 qs119 q131 q2308) (by decide +kernel) rfl (by omega) (by decide) rfl hcat hdg kk
noncomputable def M_drawn_31 : Nat → Int → Int → VV → Option (Int × VV)
  | 0, _, _, _ => none
  | n + 1, x1, x3, V => if V 3 392 ≤ x3 then (some ((-1), V)) else (ck (w32 ((w32 ((w32 (350 + (V 3 392))) - 1)) - x3)) 5201 <| if iand (ishr (V 3 (w32 ((w32 ((w32 (350 + (V 3 392))) - 1)) - x3))) x1) 1 = 1 then (some (x3, V)) else (nm (w32 (x3 + 1)) fun v1 => M_drawn_31 n x1 v1 V))
theorem WM_drawn_31 {Z : MZ} {d : Nat} (hX : MX Z cX4_drawn 4 (some .int) d 0) (hdd : 3 ≤ d) : ∀ n x1 x3 V, MG Z 31 [(0, (3, 0)), (1, (0, x1)), (3, (0, x3))] [] V (M_drawn_31 n x1 x3 V) := by
  intro n
  induction n with
  | zero => intro x1 x3 V; exact m_none
  | succ n ih =>
    intro x1 x3 V
    rw [M_drawn_31]
    refine m_iload_n hX 2 dX4_drawn_31 rfl rfl ?_
    refine m_aload_n hX 0 dX4_drawn_32 rfl rfl ?_
    refine fg_3 hX dX4_drawn_33 ?_
    refine m_sp hX dX4_drawn_36 (by decide) (by decide) ?_
    refine m_in (by decide) (by decide) (al_3 hX dX4_drawn_39 ?_)
    refine m_icmp_ge hX 80 dX4_drawn_40 (by decide) (fun _ => ?_) (fun _ => ?_)
    · refine m_ic hX dX4_drawn_80 (by decide) (by decide) ?_
      exact m_iret hX rfl dX4_drawn_81
    · refine m_aload_n hX 0 dX4_drawn_43 rfl rfl ?_
      refine fg_3 hX dX4_drawn_44 ?_
      refine m_sp hX dX4_drawn_47 (by decide) (by decide) ?_
      refine m_aload_n hX 0 dX4_drawn_50 rfl rfl ?_
      refine fg_3 hX dX4_drawn_51 ?_
      refine m_sp hX dX4_drawn_54 (by decide) (by decide) ?_
      refine m_in (by decide) (by decide) (al_3 hX dX4_drawn_57 ?_)
      refine m_iadd hX dX4_drawn_58 ?_
      refine m_ic hX dX4_drawn_59 (by decide) (by decide) ?_
      refine m_isub hX dX4_drawn_60 ?_
      refine m_iload_n hX 2 dX4_drawn_61 rfl rfl ?_
      refine m_isub hX dX4_drawn_62 ?_
      refine al_3 hX dX4_drawn_63 ?_
      refine m_iload_n hX 1 dX4_drawn_64 rfl rfl ?_
      refine m_ishr hX dX4_drawn_65 ?_
      refine m_ic hX dX4_drawn_66 (by decide) (by decide) ?_
      refine m_iand hX dX4_drawn_67 ?_
      refine m_ic hX dX4_drawn_68 (by decide) (by decide) ?_
      refine m_icmp_ne hX 74 dX4_drawn_69 (by decide) (fun _ => ?_) (fun _ => ?_)
      · refine m_iinc hX 2 dX4_drawn_74 rfl (by decide) fun v1 => m_lv (lv' := [(3, (0, v1)), (0, (3, 0)), (1, (0, x1))]) rfl ?_
        refine m_goto hX 31 dX4_drawn_77 (by decide) ?_
        exact m_sub [1, 2, 0] rfl (ih x1 v1 V)
      · refine m_iload_n hX 2 dX4_drawn_72 rfl rfl ?_
        exact m_iret hX rfl dX4_drawn_73
noncomputable def M_drawn (x1 : Int) (x2 : Int) (V : VV) : Option (Int × VV) := mb (M_isQuestion x1 V) fun r1 V2 => if r1 = 0 then (some ((-1), V2)) else (mb (M_lies x2 0 1 V2) fun r3 V4 => if r3 = 0 then (some ((-1), V4)) else (if x2 = 0 then (mb (M_drawnTimes x1 V4) fun r5 V6 => some (r5, V6)) else (M_drawn_31 FU x1 0 V4)))
theorem WM_drawn (l : Launch) {d : Nat} (hdd : 3 ≤ d) (x1 : Int) (x2 : Int) (V : VV) (hV : okV V) (ho : oks [(0, x1), (0, x2)]) (fin : Int × VV) (hf : M_drawn x1 x2 V = some fin) : mSpec l yX4_drawn cX4_drawn 4 (some .int) d 0 [(3, 0), (0, x1), (0, x2)] V fin := by
  refine m_enter (lv := [(0, (3, 0)), (1, (0, x1)), (2, (0, x2))]) (by decide) rfl (Nat.le_of_ble_eq_true rfl) rfl (fun Z hZ hX => ?_) hV (ho.c (okA.t 0)) fin hf
  unfold M_drawn
  refine m_aload_n hX 0 dX4_drawn_0 rfl rfl ?_
  refine m_iload_n hX 1 dX4_drawn_1 rfl rfl ?_
  refine cl_isQuestion hX (by omega) (Nat.le_of_ble_eq_true rfl) dX4_drawn_2 fun r1 V2 => ?_
  refine m_if_eq hX 17 dX4_drawn_5 (by decide) (fun _ => ?_) (fun _ => ?_)
  · refine m_ic hX dX4_drawn_17 (by decide) (by decide) ?_
    exact m_iret hX rfl dX4_drawn_18
  · refine m_iload_n hX 2 dX4_drawn_8 rfl rfl ?_
    refine m_ic hX dX4_drawn_9 (by decide) (by decide) ?_
    refine m_ic hX dX4_drawn_10 (by decide) (by decide) ?_
    refine cl_lies hX (by omega) (Nat.le_of_ble_eq_true rfl) dX4_drawn_11 fun r3 V4 => ?_
    refine m_if_ne hX 19 dX4_drawn_14 (by decide) (fun _ => ?_) (fun _ => ?_)
    · refine m_iload_n hX 2 dX4_drawn_19 rfl rfl ?_
      refine m_if_ne hX 29 dX4_drawn_20 (by decide) (fun _ => ?_) (fun _ => ?_)
      · refine m_ic hX dX4_drawn_29 (by decide) (by decide) ?_
        refine m_istore_n hX (lv' := [(3, (0, 0)), (0, (3, 0)), (1, (0, x1)), (2, (0, x2))]) dX4_drawn_30 rfl (by decide) rfl ?_
        exact m_sub [1, 2, 0] rfl (WM_drawn_31 hX hdd FU x1 0 V4)
      · refine m_aload_n hX 0 dX4_drawn_23 rfl rfl ?_
        refine m_iload_n hX 1 dX4_drawn_24 rfl rfl ?_
        refine cl_drawnTimes hX (by omega) (Nat.le_of_ble_eq_true rfl) dX4_drawn_25 fun r5 V6 => ?_
        exact m_iret hX rfl dX4_drawn_28
    · refine m_ic hX dX4_drawn_17 (by decide) (by decide) ?_
      exact m_iret hX rfl dX4_drawn_18
-- drawn: not called inside
noncomputable def M_be_2 : Nat → Int → Int → Int → VV → Option (Int × VV)
  | 0, _, _, _, _ => none
  | n + 1, x0, x1, x3, V => if 12 ≤ x3 then (some (0, V)) else (nm (α := Int) (if x3 = 0 then x1 else 0) fun v1 => ca 4 x0 x3 <| nm (vup V x0.toNat x3 v1) fun V2 => nm (w32 (x3 + 1)) fun v3 => M_be_2 n x0 x1 v3 V2)
theorem WM_be_2 {Z : MZ} {d : Nat} (hX : MX Z cX4_be 4 none d 2) (hdd : 1 ≤ d) : ∀ n x0 x1 x3 V, MG Z 2 [(0, (2, x0)), (1, (1, x1)), (3, (0, x3))] [] V (M_be_2 n x0 x1 x3 V) := by
  intro n
  induction n with
  | zero => intro x0 x1 x3 V; exact m_none
  | succ n ih =>
    intro x0 x1 x3 V
    rw [M_be_2]
    refine m_iload_n hX 2 dX4_be_2 rfl rfl ?_
    refine m_bp hX dX4_be_3 (by decide) (by decide) ?_
    refine m_icmp_ge hX 26 dX4_be_5 (by decide) (fun _ => ?_) (fun _ => ?_)
    · exact m_vret hX rfl dX4_be_26
    · refine m_aload_n2 hX 0 dX4_be_8 rfl rfl ?_
      refine m_iload_n hX 2 dX4_be_9 rfl rfl ?_
      refine m_iload_n hX 2 dX4_be_10 rfl rfl ?_
      refine m_join 19 (fun v1 => [(1, v1), (0, x3), (2, x0)]) (fun v1 => ?_) (fun hJ => ?_)
      · refine m_lastp hX dX4_be_19 fun V2 => ?_
        refine m_iinc hX 2 dX4_be_20 rfl (by decide) fun v3 => m_lv (lv' := [(3, (0, v3)), (0, (2, x0)), (1, (1, x1))]) rfl ?_
        refine m_goto hX 2 dX4_be_23 (by decide) ?_
        exact m_sub [1, 2, 0] rfl (ih x0 x1 v3 V2)
      · refine m_if_neF hX 18 dX4_be_11 (by decide) (fun _ => ?_) (fun _ => ?_)
        · refine m_l0 hX dX4_be_18 ?_
          exact hJ _
        · refine m_lload_n hX 1 dX4_be_14 rfl rfl ?_
          refine m_goto hX 19 dX4_be_15 (by decide) ?_
          exact hJ _
noncomputable def M_be (x0 : Int) (x1 : Int) (V : VV) : Option (Int × VV) := M_be_2 FU x0 x1 0 V
theorem WM_be (l : Launch) {d : Nat} (hdd : 1 ≤ d) (x0 : Int) (x1 : Int) (V : VV) (hV : okV V) (ho : oks [(2, x0), (1, x1)]) (fin : Int × VV) (hf : M_be x0 x1 V = some fin) : mSpec l yX4_be cX4_be 4 none d 2 [(2, x0), (1, x1)] V fin := by
  refine m_enter (lv := [(0, (2, x0)), (1, (1, x1))]) (by decide) rfl (Nat.le_of_ble_eq_true rfl) rfl (fun Z hZ hX => ?_) hV ho fin hf
  unfold M_be
  refine m_ic hX dX4_be_0 (by decide) (by decide) ?_
  refine m_istore_n hX (lv' := [(3, (0, 0)), (0, (2, x0)), (1, (1, x1))]) dX4_be_1 rfl (by decide) rfl ?_
  exact m_sub [1, 2, 0] rfl (WM_be_2 hX hdd FU x0 x1 0 V)
theorem cl_be {Z : MZ} {cc : ByteArray} {nL : Nat} {ret : Option FieldType} {d rk : Nat} {pc : Nat} {lv : List (Nat × AV)} {st : List AV} {V : VV} {g : Int → VV → Option (Int × VV)} (hX : MX Z cc nL ret d rk) {a0 a1 : Int} (hdd : 2 ≤ d) (hcat : (st.map fun v => if v.1 = 1 then 2 else 1).sum ≤ 8) (hdg : decode cc pc = .ok (.invokestatic 470, 3)) (kk : ∀ r V1, MG Z (pc + 3) lv st V1 (g r V1)) : MG Z pc lv ((1, a1) :: (2, a0) :: st) V (mb (M_be a0 a1 V) g) :=
  m_callSv hX [(2, a0), (1, a1)] 2 (fun hV ho fin hf => WM_be (zL Z) (Nat.le_refl 1) a0 a1 V hV ho fin hf) (lw_S q2317 q2318 q131 q2319) (by decide +kernel) rfl (by omega) (by decide) rfl hcat hdg kk
noncomputable def M_makes_56 (K2 : Int → Int → Int → Int → VV → Option (Int × VV)) (x0 : Int) (x1 : Int) (x2 : Int) (x3 : Int) (V : VV) : Option (Int × VV) := nm (w32 (x3 + 1)) fun v1 => K2 x0 x1 x2 v1 V
theorem WM_makes_56 {Z : MZ} {d : Nat} (hX : MX Z cX4_makes 9 none d 2) (hdd : 1 ≤ d) {K2 : Int → Int → Int → Int → VV → Option (Int × VV)} (hK2 : ∀ x0 x1 x2 x3 V, MG Z 2 [(0, (2, x0)), (1, (0, x1)), (2, (0, x2)), (3, (0, x3))] [] V (K2 x0 x1 x2 x3 V)) : ∀ x0 x1 x2 x3 V, MG Z 56 [(0, (2, x0)), (1, (0, x1)), (2, (0, x2)), (3, (0, x3))] [] V (M_makes_56 K2 x0 x1 x2 x3 V) := by
  intro x0 x1 x2 x3 V
  unfold M_makes_56
  refine m_iinc hX 3 dX4_makes_56 rfl (by decide) fun v1 => m_lv (lv' := [(3, (0, v1)), (0, (2, x0)), (1, (0, x1)), (2, (0, x2))]) rfl ?_
  refine m_goto hX 2 dX4_makes_59 (by decide) ?_
  exact m_sub [1, 2, 3, 0] rfl (hK2 x0 x1 x2 v1 V)
noncomputable def M_makes_13 (K2 : Int → Int → Int → Int → VV → Option (Int × VV)) : Nat → Int → Int → Int → Int → Int → Int → VV → Option (Int × VV)
  | 0, _, _, _, _, _, _, _ => none
  | n + 1, x0, x1, x2, x3, x4, x6, V => if 12 ≤ x6 then (M_makes_56 K2 x0 x1 x2 x3 V) else (ca 4 x0 x6 <| nm (α := Int) (w64 ((w64 ((V x0.toNat x6) * x1)) + x4)) fun v1 => ca 4 x0 x6 <| nm (vup V x0.toNat x6 (v1.tmod 100000000)) fun V2 => nm (α := Int) (w64 (v1.tdiv 100000000)) fun v3 => nm (w32 (x6 + 1)) fun v4 => M_makes_13 K2 n x0 x1 x2 x3 v3 v4 V2)
theorem WM_makes_13 {Z : MZ} {d : Nat} (hX : MX Z cX4_makes 9 none d 2) (hdd : 1 ≤ d) {K2 : Int → Int → Int → Int → VV → Option (Int × VV)} (hK2 : ∀ x0 x1 x2 x3 V, MG Z 2 [(0, (2, x0)), (1, (0, x1)), (2, (0, x2)), (3, (0, x3))] [] V (K2 x0 x1 x2 x3 V)) : ∀ n x0 x1 x2 x3 x4 x6 V, MG Z 13 [(0, (2, x0)), (1, (0, x1)), (2, (0, x2)), (3, (0, x3)), (4, (1, x4)), (6, (0, x6))] [] V (M_makes_13 K2 n x0 x1 x2 x3 x4 x6 V) := by
  intro n
  induction n with
  | zero => intro x0 x1 x2 x3 x4 x6 V; exact m_none
  | succ n ih =>
    intro x0 x1 x2 x3 x4 x6 V
    rw [M_makes_13]
    refine m_iload hX 5 dX4_makes_13 rfl ?_
    refine m_bp hX dX4_makes_15 (by decide) (by decide) ?_
    refine m_icmp_ge hX 56 dX4_makes_17 (by decide) (fun _ => ?_) (fun _ => ?_)
    · exact m_sub [0, 1, 2, 3] rfl (WM_makes_56 hX hdd hK2 x0 x1 x2 x3 V)
    · refine m_aload_n2 hX 0 dX4_makes_20 rfl rfl ?_
      refine m_iload hX 5 dX4_makes_21 rfl ?_
      refine m_laldp hX dX4_makes_23 ?_
      refine m_iload_n hX 1 dX4_makes_24 rfl rfl ?_
      refine m_i2l hX dX4_makes_25 ?_
      refine m_lmul hX dX4_makes_26 ?_
      refine m_lload hX 4 dX4_makes_27 rfl ?_
      refine m_ladd hX dX4_makes_29 ?_
      refine m_nmT fun v1 => ?_
      refine m_lstore hX (lv' := [(7, (1, v1)), (0, (2, x0)), (1, (0, x1)), (2, (0, x2)), (3, (0, x3)), (4, (1, x4)), (6, (0, x6))]) dX4_makes_30 (by decide) rfl ?_
      refine m_aload_n2 hX 1 dX4_makes_32 rfl rfl ?_
      refine m_iload hX 6 dX4_makes_33 rfl ?_
      refine m_lload hX 0 dX4_makes_35 rfl ?_
      refine m_ldc2 hX (n := 100000000) q2323 dX4_makes_37 (by decide +kernel) ⟨by decide, by decide⟩ ?_
      refine m_nz (b := 100000000) (by decide) (m_lrem hX dX4_makes_40 ?_)
      refine m_lastp hX dX4_makes_41 fun V2 => ?_
      refine m_lload hX 0 dX4_makes_42 rfl ?_
      refine m_ldc2 hX (n := 100000000) q2323 dX4_makes_44 (by decide +kernel) ⟨by decide, by decide⟩ ?_
      refine m_nz (b := 100000000) (by decide) (m_ldiv hX dX4_makes_47 ?_)
      refine m_nmT fun v3 => ?_
      refine m_lstore hX (lv' := [(4, (1, v3)), (7, (1, v1)), (0, (2, x0)), (1, (0, x1)), (2, (0, x2)), (3, (0, x3)), (6, (0, x6))]) dX4_makes_48 (by decide) rfl ?_
      refine m_iinc hX 6 dX4_makes_50 rfl (by decide) fun v4 => m_lv (lv' := [(6, (0, v4)), (4, (1, v3)), (7, (1, v1)), (0, (2, x0)), (1, (0, x1)), (2, (0, x2)), (3, (0, x3))]) rfl ?_
      refine m_goto hX 13 dX4_makes_53 (by decide) ?_
      exact m_sub [3, 4, 5, 6, 1, 0] rfl (ih x0 x1 x2 x3 v3 v4 V2)
noncomputable def M_makes_2 : Nat → Int → Int → Int → Int → VV → Option (Int × VV)
  | 0, _, _, _, _, _ => none
  | n + 1, x0, x1, x2, x3, V => if x2 ≤ x3 then (some (0, V)) else (M_makes_13 (M_makes_2 n) FU x0 x1 x2 x3 0 0 V)
theorem WM_makes_2 {Z : MZ} {d : Nat} (hX : MX Z cX4_makes 9 none d 2) (hdd : 1 ≤ d) : ∀ n x0 x1 x2 x3 V, MG Z 2 [(0, (2, x0)), (1, (0, x1)), (2, (0, x2)), (3, (0, x3))] [] V (M_makes_2 n x0 x1 x2 x3 V) := by
  intro n
  induction n with
  | zero => intro x0 x1 x2 x3 V; exact m_none
  | succ n ih =>
    intro x0 x1 x2 x3 V
    rw [M_makes_2]
    refine m_iload_n hX 3 dX4_makes_2 rfl rfl ?_
    refine m_iload_n hX 2 dX4_makes_3 rfl rfl ?_
    refine m_icmp_ge hX 62 dX4_makes_4 (by decide) (fun _ => ?_) (fun _ => ?_)
    · exact m_vret hX rfl dX4_makes_62
    · refine m_l0 hX dX4_makes_7 ?_
      refine m_lstore hX (lv' := [(4, (1, 0)), (0, (2, x0)), (1, (0, x1)), (2, (0, x2)), (3, (0, x3))]) dX4_makes_8 (by decide) rfl ?_
      refine m_ic hX dX4_makes_10 (by decide) (by decide) ?_
      refine m_istore hX (lv' := [(6, (0, 0)), (4, (1, 0)), (0, (2, x0)), (1, (0, x1)), (2, (0, x2)), (3, (0, x3))]) dX4_makes_11 (by decide) rfl ?_
      exact m_sub [2, 3, 4, 5, 1, 0] rfl (WM_makes_13 hX hdd ih FU x0 x1 x2 x3 0 0 V)
noncomputable def M_makes (x0 : Int) (x1 : Int) (x2 : Int) (V : VV) : Option (Int × VV) := M_makes_2 FU x0 x1 x2 0 V
theorem WM_makes (l : Launch) {d : Nat} (hdd : 1 ≤ d) (x0 : Int) (x1 : Int) (x2 : Int) (V : VV) (hV : okV V) (ho : oks [(2, x0), (0, x1), (0, x2)]) (fin : Int × VV) (hf : M_makes x0 x1 x2 V = some fin) : mSpec l yX4_makes cX4_makes 9 none d 2 [(2, x0), (0, x1), (0, x2)] V fin := by
  refine m_enter (lv := [(0, (2, x0)), (1, (0, x1)), (2, (0, x2))]) (by decide) rfl (Nat.le_of_ble_eq_true rfl) rfl (fun Z hZ hX => ?_) hV ho fin hf
  unfold M_makes
  refine m_ic hX dX4_makes_0 (by decide) (by decide) ?_
  refine m_istore_n hX (lv' := [(3, (0, 0)), (0, (2, x0)), (1, (0, x1)), (2, (0, x2))]) dX4_makes_1 rfl (by decide) rfl ?_
  exact m_sub [1, 2, 3, 0] rfl (WM_makes_2 hX hdd FU x0 x1 x2 0 V)
theorem cl_makes {Z : MZ} {cc : ByteArray} {nL : Nat} {ret : Option FieldType} {d rk : Nat} {pc : Nat} {lv : List (Nat × AV)} {st : List AV} {V : VV} {g : Int → VV → Option (Int × VV)} (hX : MX Z cc nL ret d rk) {a0 a1 a2 : Int} (hdd : 2 ≤ d) (hcat : (st.map fun v => if v.1 = 1 then 2 else 1).sum ≤ 8) (hdg : decode cc pc = .ok (.invokestatic 474, 3)) (kk : ∀ r V1, MG Z (pc + 3) lv st V1 (g r V1)) : MG Z pc lv ((0, a2) :: (0, a1) :: (2, a0) :: st) V (mb (M_makes a0 a1 a2 V) g) :=
  m_callSv hX [(2, a0), (0, a1), (0, a2)] 3 (fun hV ho fin hf => WM_makes (zL Z) (Nat.le_refl 1) a0 a1 a2 V hV ho fin hf) (lw_S q2320 q2321 q131 q2322) (by decide +kernel) rfl (by omega) (by decide) rfl hcat hdg kk
noncomputable def M_adds_5 : Nat → Int → Int → Int → Int → VV → Option (Int × VV)
  | 0, _, _, _, _, _ => none
  | n + 1, x0, x1, x2, x4, V => if 12 ≤ x4 then (some (0, V)) else (ca 4 x0 x4 <| ca 4 x1 x4 <| nm (α := Int) (w64 ((w64 ((V x0.toNat x4) + (V x1.toNat x4))) + x2)) fun v1 => ca 4 x0 x4 <| nm (vup V x0.toNat x4 (v1.tmod 100000000)) fun V2 => nm (α := Int) (w64 (v1.tdiv 100000000)) fun v3 => nm (w32 (x4 + 1)) fun v4 => M_adds_5 n x0 x1 v3 v4 V2)
theorem WM_adds_5 {Z : MZ} {d : Nat} (hX : MX Z cX4_adds 7 none d 2) (hdd : 1 ≤ d) : ∀ n x0 x1 x2 x4 V, MG Z 5 [(0, (2, x0)), (1, (2, x1)), (2, (1, x2)), (4, (0, x4))] [] V (M_adds_5 n x0 x1 x2 x4 V) := by
  intro n
  induction n with
  | zero => intro x0 x1 x2 x4 V; exact m_none
  | succ n ih =>
    intro x0 x1 x2 x4 V
    rw [M_adds_5]
    refine m_iload hX 3 dX4_adds_5 rfl ?_
    refine m_bp hX dX4_adds_7 (by decide) (by decide) ?_
    refine m_icmp_ge hX 48 dX4_adds_9 (by decide) (fun _ => ?_) (fun _ => ?_)
    · exact m_vret hX rfl dX4_adds_48
    · refine m_aload_n2 hX 0 dX4_adds_12 rfl rfl ?_
      refine m_iload hX 3 dX4_adds_13 rfl ?_
      refine m_laldp hX dX4_adds_15 ?_
      refine m_aload_n2 hX 1 dX4_adds_16 rfl rfl ?_
      refine m_iload hX 3 dX4_adds_17 rfl ?_
      refine m_laldp hX dX4_adds_19 ?_
      refine m_ladd hX dX4_adds_20 ?_
      refine m_lload_n hX 2 dX4_adds_21 rfl rfl ?_
      refine m_ladd hX dX4_adds_22 ?_
      refine m_nmT fun v1 => ?_
      refine m_lstore hX (lv' := [(5, (1, v1)), (0, (2, x0)), (1, (2, x1)), (2, (1, x2)), (4, (0, x4))]) dX4_adds_23 (by decide) rfl ?_
      refine m_aload_n2 hX 1 dX4_adds_25 rfl rfl ?_
      refine m_iload hX 4 dX4_adds_26 rfl ?_
      refine m_lload hX 0 dX4_adds_28 rfl ?_
      refine m_ldc2 hX (n := 100000000) q2323 dX4_adds_30 (by decide +kernel) ⟨by decide, by decide⟩ ?_
      refine m_nz (b := 100000000) (by decide) (m_lrem hX dX4_adds_33 ?_)
      refine m_lastp hX dX4_adds_34 fun V2 => ?_
      refine m_lload hX 0 dX4_adds_35 rfl ?_
      refine m_ldc2 hX (n := 100000000) q2323 dX4_adds_37 (by decide +kernel) ⟨by decide, by decide⟩ ?_
      refine m_nz (b := 100000000) (by decide) (m_ldiv hX dX4_adds_40 ?_)
      refine m_nmT fun v3 => ?_
      refine m_lstore_n hX (lv' := [(2, (1, v3)), (5, (1, v1)), (0, (2, x0)), (1, (2, x1)), (4, (0, x4))]) dX4_adds_41 rfl (by decide) rfl ?_
      refine m_iinc hX 4 dX4_adds_42 rfl (by decide) fun v4 => m_lv (lv' := [(4, (0, v4)), (2, (1, v3)), (5, (1, v1)), (0, (2, x0)), (1, (2, x1))]) rfl ?_
      refine m_goto hX 5 dX4_adds_45 (by decide) ?_
      exact m_sub [3, 4, 1, 0] rfl (ih x0 x1 v3 v4 V2)
noncomputable def M_adds (x0 : Int) (x1 : Int) (V : VV) : Option (Int × VV) := M_adds_5 FU x0 x1 0 0 V
theorem WM_adds (l : Launch) {d : Nat} (hdd : 1 ≤ d) (x0 : Int) (x1 : Int) (V : VV) (hV : okV V) (ho : oks [(2, x0), (2, x1)]) (fin : Int × VV) (hf : M_adds x0 x1 V = some fin) : mSpec l yX4_adds cX4_adds 7 none d 2 [(2, x0), (2, x1)] V fin := by
  refine m_enter (lv := [(0, (2, x0)), (1, (2, x1))]) (by decide) rfl (Nat.le_of_ble_eq_true rfl) rfl (fun Z hZ hX => ?_) hV ho fin hf
  unfold M_adds
  refine m_l0 hX dX4_adds_0 ?_
  refine m_lstore_n hX (lv' := [(2, (1, 0)), (0, (2, x0)), (1, (2, x1))]) dX4_adds_1 rfl (by decide) rfl ?_
  refine m_ic hX dX4_adds_2 (by decide) (by decide) ?_
  refine m_istore hX (lv' := [(4, (0, 0)), (2, (1, 0)), (0, (2, x0)), (1, (2, x1))]) dX4_adds_3 (by decide) rfl ?_
  exact m_sub [2, 3, 1, 0] rfl (WM_adds_5 hX hdd FU x0 x1 0 0 V)
theorem cl_adds {Z : MZ} {cc : ByteArray} {nL : Nat} {ret : Option FieldType} {d rk : Nat} {pc : Nat} {lv : List (Nat × AV)} {st : List AV} {V : VV} {g : Int → VV → Option (Int × VV)} (hX : MX Z cc nL ret d rk) {a0 a1 : Int} (hdd : 2 ≤ d) (hcat : (st.map fun v => if v.1 = 1 then 2 else 1).sum ≤ 8) (hdg : decode cc pc = .ok (.invokestatic 482, 3)) (kk : ∀ r V1, MG Z (pc + 3) lv st V1 (g r V1)) : MG Z pc lv ((2, a1) :: (2, a0) :: st) V (mb (M_adds a0 a1 V) g) :=
  m_callSv hX [(2, a0), (2, a1)] 2 (fun hV ho fin hf => WM_adds (zL Z) (Nat.le_refl 1) a0 a1 V hV ho fin hf) (lw_S q2327 q2328 q131 q2329) (by decide +kernel) rfl (by omega) (by decide) rfl hcat hdg kk
noncomputable def M_shares1_6 : Nat → Int → Int → Int → Int → VV → Option (Int × VV)
  | 0, _, _, _, _, _ => none
  | n + 1, x0, x1, x2, x4, V => if x4 < 0 then (some (0, V)) else (ca 4 x0 x4 <| nm (α := Int) (w64 ((w64 (x2 * 100000000)) + (V x0.toNat x4))) fun v1 => cz x1 <| ca 4 x0 x4 <| nm (vup V x0.toNat x4 (w64 (v1.tdiv x1))) fun V2 => cz x1 <| nm (α := Int) (v1.tmod x1) fun v3 => nm (w32 (x4 + (-1))) fun v4 => M_shares1_6 n x0 x1 v3 v4 V2)
theorem WM_shares1_6 {Z : MZ} {d : Nat} (hX : MX Z cX4_shares1 7 none d 2) (hdd : 1 ≤ d) : ∀ n x0 x1 x2 x4 V, MG Z 6 [(0, (2, x0)), (1, (0, x1)), (2, (1, x2)), (4, (0, x4))] [] V (M_shares1_6 n x0 x1 x2 x4 V) := by
  intro n
  induction n with
  | zero => intro x0 x1 x2 x4 V; exact m_none
  | succ n ih =>
    intro x0 x1 x2 x4 V
    rw [M_shares1_6]
    refine m_iload hX 3 dX4_shares1_6 rfl ?_
    refine m_if_lt hX 44 dX4_shares1_8 (by decide) (fun _ => ?_) (fun _ => ?_)
    · exact m_vret hX rfl dX4_shares1_44
    · refine m_lload_n hX 2 dX4_shares1_11 rfl rfl ?_
      refine m_ldc2 hX (n := 100000000) q2323 dX4_shares1_12 (by decide +kernel) ⟨by decide, by decide⟩ ?_
      refine m_lmul hX dX4_shares1_15 ?_
      refine m_aload_n2 hX 0 dX4_shares1_16 rfl rfl ?_
      refine m_iload hX 3 dX4_shares1_17 rfl ?_
      refine m_laldp hX dX4_shares1_19 ?_
      refine m_ladd hX dX4_shares1_20 ?_
      refine m_nmT fun v1 => ?_
      refine m_lstore hX (lv' := [(5, (1, v1)), (0, (2, x0)), (1, (0, x1)), (2, (1, x2)), (4, (0, x4))]) dX4_shares1_21 (by decide) rfl ?_
      refine m_aload_n2 hX 1 dX4_shares1_23 rfl rfl ?_
      refine m_iload hX 4 dX4_shares1_24 rfl ?_
      refine m_lload hX 0 dX4_shares1_26 rfl ?_
      refine m_iload_n hX 2 dX4_shares1_28 rfl rfl ?_
      refine m_i2l hX dX4_shares1_29 ?_
      refine m_ldiv hX dX4_shares1_30 ?_
      refine m_lastp hX dX4_shares1_31 fun V2 => ?_
      refine m_lload hX 0 dX4_shares1_32 rfl ?_
      refine m_iload_n hX 2 dX4_shares1_34 rfl rfl ?_
      refine m_i2l hX dX4_shares1_35 ?_
      refine m_lrem hX dX4_shares1_36 ?_
      refine m_nmT fun v3 => ?_
      refine m_lstore_n hX (lv' := [(2, (1, v3)), (5, (1, v1)), (0, (2, x0)), (1, (0, x1)), (4, (0, x4))]) dX4_shares1_37 rfl (by decide) rfl ?_
      refine m_iinc hX 4 dX4_shares1_38 rfl (by decide) fun v4 => m_lv (lv' := [(4, (0, v4)), (2, (1, v3)), (5, (1, v1)), (0, (2, x0)), (1, (0, x1))]) rfl ?_
      refine m_goto hX 6 dX4_shares1_41 (by decide) ?_
      exact m_sub [3, 4, 1, 0] rfl (ih x0 x1 v3 v4 V2)
noncomputable def M_shares1 (x0 : Int) (x1 : Int) (V : VV) : Option (Int × VV) := M_shares1_6 FU x0 x1 0 11 V
theorem WM_shares1 (l : Launch) {d : Nat} (hdd : 1 ≤ d) (x0 : Int) (x1 : Int) (V : VV) (hV : okV V) (ho : oks [(2, x0), (0, x1)]) (fin : Int × VV) (hf : M_shares1 x0 x1 V = some fin) : mSpec l yX4_shares1 cX4_shares1 7 none d 2 [(2, x0), (0, x1)] V fin := by
  refine m_enter (lv := [(0, (2, x0)), (1, (0, x1))]) (by decide) rfl (Nat.le_of_ble_eq_true rfl) rfl (fun Z hZ hX => ?_) hV ho fin hf
  unfold M_shares1
  refine m_l0 hX dX4_shares1_0 ?_
  refine m_lstore_n hX (lv' := [(2, (1, 0)), (0, (2, x0)), (1, (0, x1))]) dX4_shares1_1 rfl (by decide) rfl ?_
  refine m_bp hX dX4_shares1_2 (by decide) (by decide) ?_
  refine m_istore hX (lv' := [(4, (0, 11)), (2, (1, 0)), (0, (2, x0)), (1, (0, x1))]) dX4_shares1_4 (by decide) rfl ?_
  exact m_sub [2, 3, 1, 0] rfl (WM_shares1_6 hX hdd FU x0 x1 0 11 V)
theorem cl_shares1 {Z : MZ} {cc : ByteArray} {nL : Nat} {ret : Option FieldType} {d rk : Nat} {pc : Nat} {lv : List (Nat × AV)} {st : List AV} {V : VV} {g : Int → VV → Option (Int × VV)} (hX : MX Z cc nL ret d rk) {a0 a1 : Int} (hdd : 2 ≤ d) (hcat : (st.map fun v => if v.1 = 1 then 2 else 1).sum ≤ 8) (hdg : decode cc pc = .ok (.invokestatic 478, 3)) (kk : ∀ r V1, MG Z (pc + 3) lv st V1 (g r V1)) : MG Z pc lv ((0, a1) :: (2, a0) :: st) V (mb (M_shares1 a0 a1 V) g) :=
  m_callSv hX [(2, a0), (0, a1)] 2 (fun hV ho fin hf => WM_shares1 (zL Z) (Nat.le_refl 1) a0 a1 V hV ho fin hf) (lw_S q2324 q2325 q131 q2326) (by decide +kernel) rfl (by omega) (by decide) rfl hcat hdg kk
noncomputable def M_order_17 (x0 : Int) (x1 : Int) (x2 : Int) (V : VV) : Option (Int × VV) := ca 4 x0 x2 <| ca 4 x1 x2 <| nm (α := Int) (if V x1.toNat x2 ≤ V x0.toNat x2 then 1 else (-1)) fun v1 => some (v1, V)
theorem WM_order_17 {Z : MZ} {d : Nat} (hX : MX Z cX4_order 3 (some .int) d 0) (hdd : 1 ≤ d) : ∀ x0 x1 x2 V, MG Z 17 [(0, (2, x0)), (1, (2, x1)), (2, (0, x2))] [] V (M_order_17 x0 x1 x2 V) := by
  intro x0 x1 x2 V
  unfold M_order_17
  refine m_aload_n2 hX 0 dX4_order_17 rfl rfl ?_
  refine m_iload_n hX 2 dX4_order_18 rfl rfl ?_
  refine m_laldp hX dX4_order_19 ?_
  refine m_aload_n2 hX 1 dX4_order_20 rfl rfl ?_
  refine m_iload_n hX 2 dX4_order_21 rfl rfl ?_
  refine m_laldp hX dX4_order_22 ?_
  refine m_join 32 (fun v1 => [(0, v1)]) (fun v1 => ?_) (fun hJ => ?_)
  · exact m_iret hX rfl dX4_order_32
  · refine m_lcmp_geF hX 31 dX4_order_23 dX4_order_24 (by decide) (fun _ => ?_) (fun _ => ?_)
    · refine m_ic hX dX4_order_31 (by decide) (by decide) ?_
      exact hJ _
    · refine m_ic hX dX4_order_27 (by decide) (by decide) ?_
      refine m_goto hX 32 dX4_order_28 (by decide) ?_
      exact hJ _
noncomputable def M_order_3 : Nat → Int → Int → Int → VV → Option (Int × VV)
  | 0, _, _, _, _ => none
  | n + 1, x0, x1, x2, V => if x2 < 0 then (some (0, V)) else (ca 4 x0 x2 <| ca 4 x1 x2 <| if V x0.toNat x2 = V x1.toNat x2 then (nm (w32 (x2 + (-1))) fun v1 => M_order_3 n x0 x1 v1 V) else (M_order_17 x0 x1 x2 V))
theorem WM_order_3 {Z : MZ} {d : Nat} (hX : MX Z cX4_order 3 (some .int) d 0) (hdd : 1 ≤ d) : ∀ n x0 x1 x2 V, MG Z 3 [(0, (2, x0)), (1, (2, x1)), (2, (0, x2))] [] V (M_order_3 n x0 x1 x2 V) := by
  intro n
  induction n with
  | zero => intro x0 x1 x2 V; exact m_none
  | succ n ih =>
    intro x0 x1 x2 V
    rw [M_order_3]
    refine m_iload_n hX 2 dX4_order_3 rfl rfl ?_
    refine m_if_lt hX 39 dX4_order_4 (by decide) (fun _ => ?_) (fun _ => ?_)
    · refine m_ic hX dX4_order_39 (by decide) (by decide) ?_
      exact m_iret hX rfl dX4_order_40
    · refine m_aload_n2 hX 0 dX4_order_7 rfl rfl ?_
      refine m_iload_n hX 2 dX4_order_8 rfl rfl ?_
      refine m_laldp hX dX4_order_9 ?_
      refine m_aload_n2 hX 1 dX4_order_10 rfl rfl ?_
      refine m_iload_n hX 2 dX4_order_11 rfl rfl ?_
      refine m_laldp hX dX4_order_12 ?_
      refine m_lcmp_eq hX 33 dX4_order_13 dX4_order_14 (by decide) (fun _ => ?_) (fun _ => ?_)
      · refine m_iinc hX 2 dX4_order_33 rfl (by decide) fun v1 => m_lv (lv' := [(2, (0, v1)), (0, (2, x0)), (1, (2, x1))]) rfl ?_
        refine m_goto hX 3 dX4_order_36 (by decide) ?_
        exact m_sub [1, 2, 0] rfl (ih x0 x1 v1 V)
      · exact m_sub [0, 1, 2] rfl (WM_order_17 hX hdd x0 x1 x2 V)
noncomputable def M_order (x0 : Int) (x1 : Int) (V : VV) : Option (Int × VV) := M_order_3 FU x0 x1 11 V
theorem WM_order (l : Launch) {d : Nat} (hdd : 1 ≤ d) (x0 : Int) (x1 : Int) (V : VV) (hV : okV V) (ho : oks [(2, x0), (2, x1)]) (fin : Int × VV) (hf : M_order x0 x1 V = some fin) : mSpec l yX4_order cX4_order 3 (some .int) d 0 [(2, x0), (2, x1)] V fin := by
  refine m_enter (lv := [(0, (2, x0)), (1, (2, x1))]) (by decide) rfl (Nat.le_of_ble_eq_true rfl) rfl (fun Z hZ hX => ?_) hV ho fin hf
  unfold M_order
  refine m_bp hX dX4_order_0 (by decide) (by decide) ?_
  refine m_istore_n hX (lv' := [(2, (0, 11)), (0, (2, x0)), (1, (2, x1))]) dX4_order_2 rfl (by decide) rfl ?_
  exact m_sub [1, 2, 0] rfl (WM_order_3 hX hdd FU x0 x1 11 V)
theorem cl_order {Z : MZ} {cc : ByteArray} {nL : Nat} {ret : Option FieldType} {d rk : Nat} {pc : Nat} {lv : List (Nat × AV)} {st : List AV} {V : VV} {g : Int → VV → Option (Int × VV)} (hX : MX Z cc nL ret d rk) {a0 a1 : Int} (hdd : 2 ≤ d) (hcat : (st.map fun v => if v.1 = 1 then 2 else 1).sum ≤ 8) (hdg : decode cc pc = .ok (.invokestatic 486, 3)) (kk : ∀ r V1, MG Z (pc + 3) lv ((0, r) :: st) V1 (g r V1)) : MG Z pc lv ((2, a1) :: (2, a0) :: st) V (mb (M_order a0 a1 V) g) :=
  m_callSi hX [(2, a0), (2, a1)] 2 (fun hV ho fin hf => WM_order (zL Z) (Nat.le_refl 1) a0 a1 V hV ho fin hf) (lw_S q2330 q2331 q131 q2332) (by decide +kernel) rfl (by omega) (by decide) rfl hcat hdg kk
noncomputable def M_seldomOf_95 (K37 : Int → Int → Int → Int → VV → Option (Int × VV)) (x1 : Int) (x2 : Int) (x3 : Int) (x4 : Int) (V : VV) : Option (Int × VV) := mb (M_term 0 V) fun r1 V2 => mb (M_makes 62 r1 x4 V2) fun r3 V4 => mb (M_term 0 V4) fun r5 V6 => mb (M_makes 62 (w32 (x2 - r5)) (w32 (x3 - x4)) V6) fun r7 V8 => mb (M_adds 60 62 V8) fun r9 V10 => nm (w32 (x4 + 1)) fun v11 => K37 x1 x2 x3 v11 V10
theorem WM_seldomOf_95 {Z : MZ} {d : Nat} (hX : MX Z cX4_seldomOf 8 (some .int) d 0) (hdd : 2 ≤ d) {K37 : Int → Int → Int → Int → VV → Option (Int × VV)} (hK37 : ∀ x1 x2 x3 x4 V, MG Z 37 [(0, (3, 0)), (1, (0, x1)), (2, (0, x2)), (3, (0, x3)), (4, (0, x4))] [] V (K37 x1 x2 x3 x4 V)) : ∀ x1 x2 x3 x4 V, MG Z 95 [(0, (3, 0)), (1, (0, x1)), (2, (0, x2)), (3, (0, x3)), (4, (0, x4))] [] V (M_seldomOf_95 K37 x1 x2 x3 x4 V) := by
  intro x1 x2 x3 x4 V
  unfold M_seldomOf_95
  refine m_aload_n hX 0 dX4_seldomOf_95 rfl rfl ?_
  refine fg_62 hX dX4_seldomOf_96 ?_
  refine m_aload_n hX 0 dX4_seldomOf_99 rfl rfl ?_
  refine m_ic hX dX4_seldomOf_100 (by decide) (by decide) ?_
  refine cl_term hX (by omega) (Nat.le_of_ble_eq_true rfl) dX4_seldomOf_101 fun r1 V2 => ?_
  refine m_iload hX 4 dX4_seldomOf_104 rfl ?_
  refine cl_makes hX (by omega) (Nat.le_of_ble_eq_true rfl) dX4_seldomOf_106 fun r3 V4 => ?_
  refine m_aload_n hX 0 dX4_seldomOf_109 rfl rfl ?_
  refine fg_62 hX dX4_seldomOf_110 ?_
  refine m_iload_n hX 2 dX4_seldomOf_113 rfl rfl ?_
  refine m_aload_n hX 0 dX4_seldomOf_114 rfl rfl ?_
  refine m_ic hX dX4_seldomOf_115 (by decide) (by decide) ?_
  refine cl_term hX (by omega) (Nat.le_of_ble_eq_true rfl) dX4_seldomOf_116 fun r5 V6 => ?_
  refine m_isub hX dX4_seldomOf_119 ?_
  refine m_iload_n hX 3 dX4_seldomOf_120 rfl rfl ?_
  refine m_iload hX 4 dX4_seldomOf_121 rfl ?_
  refine m_isub hX dX4_seldomOf_123 ?_
  refine cl_makes hX (by omega) (Nat.le_of_ble_eq_true rfl) dX4_seldomOf_124 fun r7 V8 => ?_
  refine m_aload_n hX 0 dX4_seldomOf_127 rfl rfl ?_
  refine fg_60 hX dX4_seldomOf_128 ?_
  refine m_aload_n hX 0 dX4_seldomOf_131 rfl rfl ?_
  refine fg_62 hX dX4_seldomOf_132 ?_
  refine cl_adds hX (by omega) (Nat.le_of_ble_eq_true rfl) dX4_seldomOf_135 fun r9 V10 => ?_
  refine m_iinc hX 4 dX4_seldomOf_138 rfl (by decide) fun v11 => m_lv (lv' := [(4, (0, v11)), (0, (3, 0)), (1, (0, x1)), (2, (0, x2)), (3, (0, x3))]) rfl ?_
  refine m_goto hX 37 dX4_seldomOf_141 (by decide) ?_
  exact m_sub [1, 2, 3, 4, 0] rfl (hK37 x1 x2 x3 v11 V10)
noncomputable def M_seldomOf_58 (K37 : Int → Int → Int → Int → VV → Option (Int × VV)) : Nat → Int → Int → Int → Int → Int → VV → Option (Int × VV)
  | 0, _, _, _, _, _, _ => none
  | n + 1, x1, x2, x3, x4, x5, V => if x4 < x5 then (M_seldomOf_95 K37 x1 x2 x3 x4 V) else (mb (M_makes 62 (w32 ((w32 (x3 - x4)) + x5)) 1 V) fun r1 V2 => mb (M_shares1 62 x5 V2) fun r3 V4 => nm (w32 (x5 + 1)) fun v5 => M_seldomOf_58 K37 n x1 x2 x3 x4 v5 V4)
theorem WM_seldomOf_58 {Z : MZ} {d : Nat} (hX : MX Z cX4_seldomOf 8 (some .int) d 0) (hdd : 2 ≤ d) {K37 : Int → Int → Int → Int → VV → Option (Int × VV)} (hK37 : ∀ x1 x2 x3 x4 V, MG Z 37 [(0, (3, 0)), (1, (0, x1)), (2, (0, x2)), (3, (0, x3)), (4, (0, x4))] [] V (K37 x1 x2 x3 x4 V)) : ∀ n x1 x2 x3 x4 x5 V, MG Z 58 [(0, (3, 0)), (1, (0, x1)), (2, (0, x2)), (3, (0, x3)), (4, (0, x4)), (5, (0, x5))] [] V (M_seldomOf_58 K37 n x1 x2 x3 x4 x5 V) := by
  intro n
  induction n with
  | zero => intro x1 x2 x3 x4 x5 V; exact m_none
  | succ n ih =>
    intro x1 x2 x3 x4 x5 V
    rw [M_seldomOf_58]
    refine m_iload hX 5 dX4_seldomOf_58 rfl ?_
    refine m_iload hX 4 dX4_seldomOf_60 rfl ?_
    refine m_icmp_gt hX 95 dX4_seldomOf_62 (by decide) (fun _ => ?_) (fun _ => ?_)
    · exact m_sub [0, 1, 2, 3, 4] rfl (WM_seldomOf_95 hX hdd hK37 x1 x2 x3 x4 V)
    · refine m_aload_n hX 0 dX4_seldomOf_65 rfl rfl ?_
      refine fg_62 hX dX4_seldomOf_66 ?_
      refine m_iload_n hX 3 dX4_seldomOf_69 rfl rfl ?_
      refine m_iload hX 4 dX4_seldomOf_70 rfl ?_
      refine m_isub hX dX4_seldomOf_72 ?_
      refine m_iload hX 5 dX4_seldomOf_73 rfl ?_
      refine m_iadd hX dX4_seldomOf_75 ?_
      refine m_ic hX dX4_seldomOf_76 (by decide) (by decide) ?_
      refine cl_makes hX (by omega) (Nat.le_of_ble_eq_true rfl) dX4_seldomOf_77 fun r1 V2 => ?_
      refine m_aload_n hX 0 dX4_seldomOf_80 rfl rfl ?_
      refine fg_62 hX dX4_seldomOf_81 ?_
      refine m_iload hX 5 dX4_seldomOf_84 rfl ?_
      refine cl_shares1 hX (by omega) (Nat.le_of_ble_eq_true rfl) dX4_seldomOf_86 fun r3 V4 => ?_
      refine m_iinc hX 5 dX4_seldomOf_89 rfl (by decide) fun v5 => m_lv (lv' := [(5, (0, v5)), (0, (3, 0)), (1, (0, x1)), (2, (0, x2)), (3, (0, x3)), (4, (0, x4))]) rfl ?_
      refine m_goto hX 58 dX4_seldomOf_92 (by decide) ?_
      exact m_sub [1, 2, 3, 4, 5, 0] rfl (ih x1 x2 x3 x4 v5 V4)
noncomputable def M_seldomOf_263 (K178 : Int → Int → VV → Option (Int × VV)) (x4 : Int) (x5 : Int) (V : VV) : Option (Int × VV) := K178 x4 x5 V
theorem WM_seldomOf_263 {Z : MZ} {d : Nat} (hX : MX Z cX4_seldomOf 8 (some .int) d 0) (hdd : 2 ≤ d) {K178 : Int → Int → VV → Option (Int × VV)} (hK178 : ∀ x4 x5 V, MG Z 178 [(0, (3, 0)), (4, (0, x4)), (5, (0, x5))] [] V (K178 x4 x5 V)) : ∀ x4 x5 V, MG Z 263 [(0, (3, 0)), (4, (0, x4)), (5, (0, x5))] [] V (M_seldomOf_263 K178 x4 x5 V) := by
  intro x4 x5 V
  unfold M_seldomOf_263
  refine m_goto hX 178 dX4_seldomOf_263 (by decide) ?_
  exact m_sub [0, 1, 2] rfl (hK178 x4 x5 V)
noncomputable def M_seldomOf_226 (K178 : Int → Int → VV → Option (Int × VV)) (x4 : Int) (x5 : Int) (x6 : Int) (V : VV) : Option (Int × VV) := mb (M_makes 62 x6 1 V) fun r1 V2 => mb (M_order 62 60 V2) fun r3 V4 => if 0 < r3 then (nm (α := Int) (w32 (x6 - 1)) fun v5 => M_seldomOf_263 K178 x4 v5 V4) else (M_seldomOf_263 K178 x6 x5 V4)
theorem WM_seldomOf_226 {Z : MZ} {d : Nat} (hX : MX Z cX4_seldomOf 8 (some .int) d 0) (hdd : 2 ≤ d) {K178 : Int → Int → VV → Option (Int × VV)} (hK178 : ∀ x4 x5 V, MG Z 178 [(0, (3, 0)), (4, (0, x4)), (5, (0, x5))] [] V (K178 x4 x5 V)) : ∀ x4 x5 x6 V, MG Z 226 [(0, (3, 0)), (4, (0, x4)), (5, (0, x5)), (6, (0, x6))] [] V (M_seldomOf_226 K178 x4 x5 x6 V) := by
  intro x4 x5 x6 V
  unfold M_seldomOf_226
  refine m_aload_n hX 0 dX4_seldomOf_226 rfl rfl ?_
  refine fg_62 hX dX4_seldomOf_227 ?_
  refine m_iload hX 3 dX4_seldomOf_230 rfl ?_
  refine m_ic hX dX4_seldomOf_232 (by decide) (by decide) ?_
  refine cl_makes hX (by omega) (Nat.le_of_ble_eq_true rfl) dX4_seldomOf_233 fun r1 V2 => ?_
  refine m_aload_n hX 0 dX4_seldomOf_236 rfl rfl ?_
  refine fg_62 hX dX4_seldomOf_237 ?_
  refine m_aload_n hX 0 dX4_seldomOf_240 rfl rfl ?_
  refine fg_60 hX dX4_seldomOf_241 ?_
  refine cl_order hX (by omega) (Nat.le_of_ble_eq_true rfl) dX4_seldomOf_244 fun r3 V4 => ?_
  refine m_if_gt hX 257 dX4_seldomOf_247 (by decide) (fun _ => ?_) (fun _ => ?_)
  · refine m_iload hX 3 dX4_seldomOf_257 rfl ?_
    refine m_ic hX dX4_seldomOf_259 (by decide) (by decide) ?_
    refine m_isub hX dX4_seldomOf_260 ?_
    refine m_nmT fun v5 => ?_
    refine m_istore hX (lv' := [(5, (0, v5)), (0, (3, 0)), (4, (0, x4)), (6, (0, x6))]) dX4_seldomOf_261 (by decide) rfl ?_
    exact m_sub [1, 2, 0] rfl (WM_seldomOf_263 hX hdd hK178 x4 v5 V4)
  · refine m_iload hX 3 dX4_seldomOf_250 rfl ?_
    refine m_istore hX (lv' := [(4, (0, x6)), (0, (3, 0)), (5, (0, x5)), (6, (0, x6))]) dX4_seldomOf_252 (by decide) rfl ?_
    refine m_goto hX 263 dX4_seldomOf_254 (by decide) ?_
    exact m_sub [1, 0, 2] rfl (WM_seldomOf_263 hX hdd hK178 x6 x5 V4)
noncomputable def M_seldomOf_199 (K178 : Int → Int → VV → Option (Int × VV)) : Nat → Int → Int → Int → Int → VV → Option (Int × VV)
  | 0, _, _, _, _, _ => none
  | n + 1, x4, x5, x6, x7, V => if 12 ≤ x7 then (M_seldomOf_226 K178 x4 x5 x6 V) else (ck x7 12 <| ck x7 12 <| nm (vup V 62 x7 (V 61 x7)) fun V1 => nm (w32 (x7 + 1)) fun v2 => M_seldomOf_199 K178 n x4 x5 x6 v2 V1)
theorem WM_seldomOf_199 {Z : MZ} {d : Nat} (hX : MX Z cX4_seldomOf 8 (some .int) d 0) (hdd : 2 ≤ d) {K178 : Int → Int → VV → Option (Int × VV)} (hK178 : ∀ x4 x5 V, MG Z 178 [(0, (3, 0)), (4, (0, x4)), (5, (0, x5))] [] V (K178 x4 x5 V)) : ∀ n x4 x5 x6 x7 V, MG Z 199 [(0, (3, 0)), (4, (0, x4)), (5, (0, x5)), (6, (0, x6)), (7, (0, x7))] [] V (M_seldomOf_199 K178 n x4 x5 x6 x7 V) := by
  intro n
  induction n with
  | zero => intro x4 x5 x6 x7 V; exact m_none
  | succ n ih =>
    intro x4 x5 x6 x7 V
    rw [M_seldomOf_199]
    refine m_iload hX 4 dX4_seldomOf_199 rfl ?_
    refine m_bp hX dX4_seldomOf_201 (by decide) (by decide) ?_
    refine m_icmp_ge hX 226 dX4_seldomOf_203 (by decide) (fun _ => ?_) (fun _ => ?_)
    · exact m_sub [0, 1, 2, 3] rfl (WM_seldomOf_226 hX hdd hK178 x4 x5 x6 V)
    · refine m_aload_n hX 0 dX4_seldomOf_206 rfl rfl ?_
      refine fg_62 hX dX4_seldomOf_207 ?_
      refine m_iload hX 4 dX4_seldomOf_210 rfl ?_
      refine m_aload_n hX 0 dX4_seldomOf_212 rfl rfl ?_
      refine fg_61 hX dX4_seldomOf_213 ?_
      refine m_iload hX 4 dX4_seldomOf_216 rfl ?_
      refine al_61 hX dX4_seldomOf_218 ?_
      refine as_62 hX dX4_seldomOf_219 fun V1 => ?_
      refine m_iinc hX 4 dX4_seldomOf_220 rfl (by decide) fun v2 => m_lv (lv' := [(7, (0, v2)), (0, (3, 0)), (4, (0, x4)), (5, (0, x5)), (6, (0, x6))]) rfl ?_
      refine m_goto hX 199 dX4_seldomOf_223 (by decide) ?_
      exact m_sub [1, 2, 3, 4, 0] rfl (ih x4 x5 x6 v2 V1)
noncomputable def M_seldomOf_178 : Nat → Int → Int → VV → Option (Int × VV)
  | 0, _, _, _ => none
  | n + 1, x4, x5, V => if x5 ≤ x4 then (some (x4, V)) else (nm (α := Int) (w32 ((w32 ((w32 (x4 + x5)) + 1)).tdiv 2)) fun v1 => M_seldomOf_199 (M_seldomOf_178 n) FU x4 x5 v1 0 V)
theorem WM_seldomOf_178 {Z : MZ} {d : Nat} (hX : MX Z cX4_seldomOf 8 (some .int) d 0) (hdd : 2 ≤ d) : ∀ n x4 x5 V, MG Z 178 [(0, (3, 0)), (4, (0, x4)), (5, (0, x5))] [] V (M_seldomOf_178 n x4 x5 V) := by
  intro n
  induction n with
  | zero => intro x4 x5 V; exact m_none
  | succ n ih =>
    intro x4 x5 V
    rw [M_seldomOf_178]
    refine m_iload hX 1 dX4_seldomOf_178 rfl ?_
    refine m_iload hX 2 dX4_seldomOf_180 rfl ?_
    refine m_icmp_ge hX 266 dX4_seldomOf_182 (by decide) (fun _ => ?_) (fun _ => ?_)
    · refine m_iload hX 1 dX4_seldomOf_266 rfl ?_
      exact m_iret hX rfl dX4_seldomOf_268
    · refine m_iload hX 1 dX4_seldomOf_185 rfl ?_
      refine m_iload hX 2 dX4_seldomOf_187 rfl ?_
      refine m_iadd hX dX4_seldomOf_189 ?_
      refine m_ic hX dX4_seldomOf_190 (by decide) (by decide) ?_
      refine m_iadd hX dX4_seldomOf_191 ?_
      refine m_ic hX dX4_seldomOf_192 (by decide) (by decide) ?_
      refine m_nz (b := 2) (by decide) (m_idiv hX dX4_seldomOf_193 ?_)
      refine m_nmT fun v1 => ?_
      refine m_istore hX (lv' := [(6, (0, v1)), (0, (3, 0)), (4, (0, x4)), (5, (0, x5))]) dX4_seldomOf_194 (by decide) rfl ?_
      refine m_ic hX dX4_seldomOf_196 (by decide) (by decide) ?_
      refine m_istore hX (lv' := [(7, (0, 0)), (6, (0, v1)), (0, (3, 0)), (4, (0, x4)), (5, (0, x5))]) dX4_seldomOf_197 (by decide) rfl ?_
      exact m_sub [2, 3, 4, 1, 0] rfl (WM_seldomOf_199 hX hdd ih FU x4 x5 v1 0 V)
noncomputable def M_seldomOf_144 (x2 : Int) (x3 : Int) (V : VV) : Option (Int × VV) := mb (M_be 61 1 V) fun r1 V2 => mb (M_makes 61 x2 x3 V2) fun r3 V4 => mb (M_makes 60 1000000 1 V4) fun r5 V6 => M_seldomOf_178 FU 0 1000000 V6
theorem WM_seldomOf_144 {Z : MZ} {d : Nat} (hX : MX Z cX4_seldomOf 8 (some .int) d 0) (hdd : 2 ≤ d) : ∀ x2 x3 V, MG Z 144 [(0, (3, 0)), (2, (0, x2)), (3, (0, x3))] [] V (M_seldomOf_144 x2 x3 V) := by
  intro x2 x3 V
  unfold M_seldomOf_144
  refine m_aload_n hX 0 dX4_seldomOf_144 rfl rfl ?_
  refine fg_61 hX dX4_seldomOf_145 ?_
  refine m_l1 hX dX4_seldomOf_148 ?_
  refine cl_be hX (by omega) (Nat.le_of_ble_eq_true rfl) dX4_seldomOf_149 fun r1 V2 => ?_
  refine m_aload_n hX 0 dX4_seldomOf_152 rfl rfl ?_
  refine fg_61 hX dX4_seldomOf_153 ?_
  refine m_iload_n hX 1 dX4_seldomOf_156 rfl rfl ?_
  refine m_iload_n hX 2 dX4_seldomOf_157 rfl rfl ?_
  refine cl_makes hX (by omega) (Nat.le_of_ble_eq_true rfl) dX4_seldomOf_158 fun r3 V4 => ?_
  refine m_aload_n hX 0 dX4_seldomOf_161 rfl rfl ?_
  refine fg_60 hX dX4_seldomOf_162 ?_
  refine m_ldc hX (n := 1000000) q1963 dX4_seldomOf_165 (by decide +kernel) ⟨by decide, by decide⟩ ?_
  refine m_ic hX dX4_seldomOf_167 (by decide) (by decide) ?_
  refine cl_makes hX (by omega) (Nat.le_of_ble_eq_true rfl) dX4_seldomOf_168 fun r5 V6 => ?_
  refine m_ic hX dX4_seldomOf_171 (by decide) (by decide) ?_
  refine m_istore hX (lv' := [(4, (0, 0)), (0, (3, 0)), (2, (0, x2)), (3, (0, x3))]) dX4_seldomOf_172 (by decide) rfl ?_
  refine m_ldc hX (n := 1000000) q1963 dX4_seldomOf_174 (by decide +kernel) ⟨by decide, by decide⟩ ?_
  refine m_istore hX (lv' := [(5, (0, 1000000)), (4, (0, 0)), (0, (3, 0)), (2, (0, x2)), (3, (0, x3))]) dX4_seldomOf_176 (by decide) rfl ?_
  exact m_sub [2, 1, 0] rfl (WM_seldomOf_178 hX hdd FU 0 1000000 V6)
noncomputable def M_seldomOf_37 : Nat → Int → Int → Int → Int → VV → Option (Int × VV)
  | 0, _, _, _, _, _ => none
  | n + 1, x1, x2, x3, x4, V => mb (M_drawnTimes x1 V) fun r1 V2 => if r1 < x4 then (M_seldomOf_144 x2 x3 V2) else (mb (M_be 62 1 V2) fun r3 V4 => M_seldomOf_58 (M_seldomOf_37 n) FU x1 x2 x3 x4 1 V4)
theorem WM_seldomOf_37 {Z : MZ} {d : Nat} (hX : MX Z cX4_seldomOf 8 (some .int) d 0) (hdd : 2 ≤ d) : ∀ n x1 x2 x3 x4 V, MG Z 37 [(0, (3, 0)), (1, (0, x1)), (2, (0, x2)), (3, (0, x3)), (4, (0, x4))] [] V (M_seldomOf_37 n x1 x2 x3 x4 V) := by
  intro n
  induction n with
  | zero => intro x1 x2 x3 x4 V; exact m_none
  | succ n ih =>
    intro x1 x2 x3 x4 V
    rw [M_seldomOf_37]
    refine m_iload hX 4 dX4_seldomOf_37 rfl ?_
    refine m_aload_n hX 0 dX4_seldomOf_39 rfl rfl ?_
    refine m_iload_n hX 1 dX4_seldomOf_40 rfl rfl ?_
    refine cl_drawnTimes hX (by omega) (Nat.le_of_ble_eq_true rfl) dX4_seldomOf_41 fun r1 V2 => ?_
    refine m_icmp_gt hX 144 dX4_seldomOf_44 (by decide) (fun _ => ?_) (fun _ => ?_)
    · exact m_sub [0, 2, 3] rfl (WM_seldomOf_144 hX hdd x2 x3 V2)
    · refine m_aload_n hX 0 dX4_seldomOf_47 rfl rfl ?_
      refine fg_62 hX dX4_seldomOf_48 ?_
      refine m_l1 hX dX4_seldomOf_51 ?_
      refine cl_be hX (by omega) (Nat.le_of_ble_eq_true rfl) dX4_seldomOf_52 fun r3 V4 => ?_
      refine m_ic hX dX4_seldomOf_55 (by decide) (by decide) ?_
      refine m_istore hX (lv' := [(5, (0, 1)), (0, (3, 0)), (1, (0, x1)), (2, (0, x2)), (3, (0, x3)), (4, (0, x4))]) dX4_seldomOf_56 (by decide) rfl ?_
      exact m_sub [1, 2, 3, 4, 5, 0] rfl (WM_seldomOf_58 hX hdd ih FU x1 x2 x3 x4 1 V4)
noncomputable def M_seldomOf (x1 : Int) (V : VV) : Option (Int × VV) := mb (M_questions V) fun r1 V2 => nm (α := Int) (V2 3 392) fun v3 => mb (M_term 0 V2) fun r4 V5 => if r4 < r1 then (mb (M_be 60 0 V5) fun r6 V7 => M_seldomOf_37 FU x1 r1 v3 0 V7) else (some (1000000, V5))
theorem WM_seldomOf (l : Launch) {d : Nat} (hdd : 2 ≤ d) (x1 : Int) (V : VV) (hV : okV V) (ho : oks [(0, x1)]) (fin : Int × VV) (hf : M_seldomOf x1 V = some fin) : mSpec l yX4_seldomOf cX4_seldomOf 8 (some .int) d 0 [(3, 0), (0, x1)] V fin := by
  refine m_enter (lv := [(0, (3, 0)), (1, (0, x1))]) (by decide) rfl (Nat.le_of_ble_eq_true rfl) rfl (fun Z hZ hX => ?_) hV (ho.c (okA.t 0)) fin hf
  unfold M_seldomOf
  refine m_aload_n hX 0 dX4_seldomOf_0 rfl rfl ?_
  refine cl_questions hX (by omega) (Nat.le_of_ble_eq_true rfl) dX4_seldomOf_1 fun r1 V2 => ?_
  refine m_istore_n hX (lv' := [(2, (0, r1)), (0, (3, 0)), (1, (0, x1))]) dX4_seldomOf_4 rfl (by decide) rfl ?_
  refine m_aload_n hX 1 dX4_seldomOf_5 rfl rfl ?_
  refine fg_3 hX dX4_seldomOf_6 ?_
  refine m_sp hX dX4_seldomOf_9 (by decide) (by decide) ?_
  refine m_in (by decide) (by decide) (al_3 hX dX4_seldomOf_12 ?_)
  refine m_nmT fun v3 => ?_
  refine m_istore_n hX (lv' := [(3, (0, v3)), (2, (0, r1)), (0, (3, 0)), (1, (0, x1))]) dX4_seldomOf_13 rfl (by decide) rfl ?_
  refine m_aload_n hX 2 dX4_seldomOf_14 rfl rfl ?_
  refine m_ic hX dX4_seldomOf_15 (by decide) (by decide) ?_
  refine cl_term hX (by omega) (Nat.le_of_ble_eq_true rfl) dX4_seldomOf_16 fun r4 V5 => ?_
  refine m_iload_n hX 1 dX4_seldomOf_19 rfl rfl ?_
  refine m_icmp_lt hX 26 dX4_seldomOf_20 (by decide) (fun _ => ?_) (fun _ => ?_)
  · refine m_aload_n hX 2 dX4_seldomOf_26 rfl rfl ?_
    refine fg_60 hX dX4_seldomOf_27 ?_
    refine m_l0 hX dX4_seldomOf_30 ?_
    refine cl_be hX (by omega) (Nat.le_of_ble_eq_true rfl) dX4_seldomOf_31 fun r6 V7 => ?_
    refine m_ic hX dX4_seldomOf_34 (by decide) (by decide) ?_
    refine m_istore hX (lv' := [(4, (0, 0)), (3, (0, v3)), (2, (0, r1)), (0, (3, 0)), (1, (0, x1))]) dX4_seldomOf_35 (by decide) rfl ?_
    exact m_sub [3, 4, 2, 1, 0] rfl (WM_seldomOf_37 hX hdd FU x1 r1 v3 0 V7)
  · refine m_ldc hX (n := 1000000) q1963 dX4_seldomOf_23 (by decide +kernel) ⟨by decide, by decide⟩ ?_
    exact m_iret hX rfl dX4_seldomOf_25
theorem cl_seldomOf {Z : MZ} {cc : ByteArray} {nL : Nat} {ret : Option FieldType} {d rk : Nat} {pc : Nat} {lv : List (Nat × AV)} {st : List AV} {V : VV} {g : Int → VV → Option (Int × VV)} (hX : MX Z cc nL ret d rk) {a0 : Int} (hdd : 3 ≤ d) (hcat : (st.map fun v => if v.1 = 1 then 2 else 1).sum ≤ 8) (hdg : decode cc pc = .ok (.invokevirtual 490, 3)) (kk : ∀ r V1, MG Z (pc + 3) lv ((0, r) :: st) V1 (g r V1)) : MG Z pc lv ((0, a0) :: (3, 0) :: st) V (mb (M_seldomOf a0 V) g) :=
  m_callVi hX [(0, a0)] 1 (fun hV ho fin hf => WM_seldomOf (zL Z) (Nat.le_refl 2) a0 V hV ho fin hf) (lw_V q2313 q2315 qs120 q131 q2316) (by decide +kernel) rfl (by omega) (by decide) rfl hcat hdg kk
