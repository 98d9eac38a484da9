/-! printed by tools/genm.py: the model's methods as pure functions, and their walks -/
set_option maxRecDepth 100000
set_option maxHeartbeats 4000000
theorem cr_readTest {Z : MZ} {cc : ByteArray} {nL : Nat} {ret : Option FieldType} {d rk : Nat} {pc : Nat} {lv : List (Nat × AV)} {st : List AV} {V : VV} {g : Int → VV → Option (Int × VV)} (hX : MX Z cc nL ret d rk) {a0 : Int} {dr : Nat} {R_readTest : Int → VV → Option (Int × VV)} (hR : ∀ (a0 : Int) (V : VV), okV V → oks [(0, a0)] → ∀ fin, R_readTest a0 V = some fin → mSpec (zL Z) yX4_readTest cX4_readTest 2 none dr 2 [(3, 0), (0, a0)] V fin) (hdd : dr + 1 ≤ d) (hcat : (st.map fun v => if v.1 = 1 then 2 else 1).sum ≤ 8) (hdg : decode cc pc = .ok (.invokevirtual 212, 3)) (kk : ∀ r V1, MG Z (pc + 3) lv st V1 (g r V1)) : MG Z pc lv ((0, a0) :: (3, 0) :: st) V (mb (R_readTest a0 V) g) :=
  m_callVv hX [(0, a0)] 1 (fun hV ho fin hf => hR a0 V hV ho fin hf) (lw_V q2003 q2005 qs77 q131 q2006) (by decide +kernel) rfl hdd (by decide) rfl hcat hdg kk
theorem cr_readBoth {Z : MZ} {cc : ByteArray} {nL : Nat} {ret : Option FieldType} {d rk : Nat} {pc : Nat} {lv : List (Nat × AV)} {st : List AV} {V : VV} {g : Int → VV → Option (Int × VV)} (hX : MX Z cc nL ret d rk) {a0 : Int} {dr : Nat} {R_readBoth : Int → VV → Option (Int × VV)} (hR : ∀ (a0 : Int) (V : VV), okV V → oks [(0, a0)] → ∀ fin, R_readBoth a0 V = some fin → mSpec (zL Z) yX4_readBoth cX4_readBoth 2 none dr 2 [(3, 0), (0, a0)] V fin) (hdd : dr + 1 ≤ d) (hcat : (st.map fun v => if v.1 = 1 then 2 else 1).sum ≤ 8) (hdg : decode cc pc = .ok (.invokevirtual 215, 3)) (kk : ∀ r V1, MG Z (pc + 3) lv st V1 (g r V1)) : MG Z pc lv ((0, a0) :: (3, 0) :: st) V (mb (R_readBoth a0 V) g) :=
  m_callVv hX [(0, a0)] 1 (fun hV ho fin hf => hR a0 V hV ho fin hf) (lw_V q2007 q2009 qs78 q131 q2010) (by decide +kernel) rfl hdd (by decide) rfl hcat hdg kk
theorem cr_readPlain {Z : MZ} {cc : ByteArray} {nL : Nat} {ret : Option FieldType} {d rk : Nat} {pc : Nat} {lv : List (Nat × AV)} {st : List AV} {V : VV} {g : Int → VV → Option (Int × VV)} (hX : MX Z cc nL ret d rk) {a0 : Int} {dr : Nat} {R_readPlain : Int → VV → Option (Int × VV)} (hR : ∀ (a0 : Int) (V : VV), okV V → oks [(0, a0)] → ∀ fin, R_readPlain a0 V = some fin → mSpec (zL Z) yX4_readPlain cX4_readPlain 4 none dr 2 [(3, 0), (0, a0)] V fin) (hdd : dr + 1 ≤ d) (hcat : (st.map fun v => if v.1 = 1 then 2 else 1).sum ≤ 8) (hdg : decode cc pc = .ok (.invokevirtual 218, 3)) (kk : ∀ r V1, MG Z (pc + 3) lv st V1 (g r V1)) : MG Z pc lv ((0, a0) :: (3, 0) :: st) V (mb (R_readPlain a0 V) g) :=
  m_callVv hX [(0, a0)] 1 (fun hV ho fin hf => hR a0 V hV ho fin hf) (lw_V q2011 q2013 qs79 q131 q2014) (by decide +kernel) rfl hdd (by decide) rfl hcat hdg kk
noncomputable def M_readTest_5 (R_readTest : Int → VV → Option (Int × VV)) (R_readBoth : Int → VV → Option (Int × VV)) (R_readPlain : Int → VV → Option (Int × VV)) : Nat → Int → VV → Option (Int × VV)
  | 0, _, _ => none
  | n + 1, x1, V => mb (M_takes0 5 V) fun r1 V2 => if r1 = 0 then (some (0, V2)) else (mb (R_readBoth x1 V2) fun r3 V4 => M_readTest_5 R_readTest R_readBoth R_readPlain n x1 V4)
theorem WM_readTest_5 {Z : MZ} {d : Nat} {dr : Nat} (hX : MX Z cX4_readTest 2 none d 2) (hdd : dr + 1 ≤ d ∧ 65 ≤ d) {R_readTest : Int → VV → Option (Int × VV)} {R_readBoth : Int → VV → Option (Int × VV)} {R_readPlain : Int → VV → Option (Int × VV)} (hR_readTest : ∀ (a0 : Int) (V : VV), okV V → oks [(0, a0)] → ∀ fin, R_readTest a0 V = some fin → mSpec (zL Z) yX4_readTest cX4_readTest 2 none dr 2 [(3, 0), (0, a0)] V fin) (hR_readBoth : ∀ (a0 : Int) (V : VV), okV V → oks [(0, a0)] → ∀ fin, R_readBoth a0 V = some fin → mSpec (zL Z) yX4_readBoth cX4_readBoth 2 none dr 2 [(3, 0), (0, a0)] V fin) (hR_readPlain : ∀ (a0 : Int) (V : VV), okV V → oks [(0, a0)] → ∀ fin, R_readPlain a0 V = some fin → mSpec (zL Z) yX4_readPlain cX4_readPlain 4 none dr 2 [(3, 0), (0, a0)] V fin) : ∀ n x1 V, MG Z 5 [(0, (3, 0)), (1, (0, x1))] [] V (M_readTest_5 R_readTest R_readBoth R_readPlain n x1 V) := by
  intro n
  induction n with
  | zero => intro x1 V; exact m_none
  | succ n ih =>
    intro x1 V
    rw [M_readTest_5]
    refine m_aload_n hX 0 dX4_readTest_5 rfl rfl ?_
    refine m_ic hX dX4_readTest_6 (by decide) (by decide) ?_
    refine cl_takes0 hX (by omega) (Nat.le_of_ble_eq_true rfl) dX4_readTest_7 fun r1 V2 => ?_
    refine m_if_eq hX 21 dX4_readTest_10 (by decide) (fun _ => ?_) (fun _ => ?_)
    · exact m_vret hX rfl dX4_readTest_21
    · refine m_aload_n hX 0 dX4_readTest_13 rfl rfl ?_
      refine m_iload_n hX 1 dX4_readTest_14 rfl rfl ?_
      refine cr_readBoth hX hR_readBoth hdd.1 (Nat.le_of_ble_eq_true rfl) dX4_readTest_15 fun r3 V4 => ?_
      refine m_goto hX 5 dX4_readTest_18 (by decide) ?_
      exact m_sub [0, 1] rfl (ih x1 V4)
noncomputable def M_readTest_b (R_readTest : Int → VV → Option (Int × VV)) (R_readBoth : Int → VV → Option (Int × VV)) (R_readPlain : Int → VV → Option (Int × VV)) (x1 : Int) (V : VV) : Option (Int × VV) := mb (R_readBoth x1 V) fun r1 V2 => M_readTest_5 R_readTest R_readBoth R_readPlain FU x1 V2
theorem WM_readTest_b (l : Launch) {d dr : Nat} (hdd : dr + 1 ≤ d ∧ 65 ≤ d) {R_readTest : Int → VV → Option (Int × VV)} {R_readBoth : Int → VV → Option (Int × VV)} {R_readPlain : Int → VV → Option (Int × VV)} (hR_readTest : ∀ (a0 : Int) (V : VV), okV V → oks [(0, a0)] → ∀ fin, R_readTest a0 V = some fin → mSpec (l) yX4_readTest cX4_readTest 2 none dr 2 [(3, 0), (0, a0)] V fin) (hR_readBoth : ∀ (a0 : Int) (V : VV), okV V → oks [(0, a0)] → ∀ fin, R_readBoth a0 V = some fin → mSpec (l) yX4_readBoth cX4_readBoth 2 none dr 2 [(3, 0), (0, a0)] V fin) (hR_readPlain : ∀ (a0 : Int) (V : VV), okV V → oks [(0, a0)] → ∀ fin, R_readPlain a0 V = some fin → mSpec (l) yX4_readPlain cX4_readPlain 4 none dr 2 [(3, 0), (0, a0)] V fin) (x1 : Int) (V : VV) (hV : okV V) (ho : oks [(0, x1)]) (fin : Int × VV) (hf : M_readTest_b R_readTest R_readBoth R_readPlain x1 V = some fin) : mSpec l yX4_readTest cX4_readTest 2 none d 2 [(3, 0), (0, x1)] V fin := by
  refine m_enter (lv := [(0, (3, 0)), (1, (0, x1))]) (by decide) rfl (Nat.le_of_ble_eq_true rfl) rfl (fun Z hZ hX => ?_) hV (ho.c (okA.t 0)) fin hf
  subst hZ
  unfold M_readTest_b
  refine m_aload_n hX 0 dX4_readTest_0 rfl rfl ?_
  refine m_iload_n hX 1 dX4_readTest_1 rfl rfl ?_
  refine cr_readBoth hX hR_readBoth hdd.1 (Nat.le_of_ble_eq_true rfl) dX4_readTest_2 fun r1 V2 => ?_
  exact m_sub [0, 1] rfl (WM_readTest_5 hX hdd hR_readTest hR_readBoth hR_readPlain FU x1 V2)
noncomputable def M_readBoth_5 (R_readTest : Int → VV → Option (Int × VV)) (R_readBoth : Int → VV → Option (Int × VV)) (R_readPlain : Int → VV → Option (Int × VV)) : Nat → Int → VV → Option (Int × VV)
  | 0, _, _ => none
  | n + 1, x1, V => mb (M_takes0 6 V) fun r1 V2 => if r1 = 0 then (some (0, V2)) else (mb (R_readPlain x1 V2) fun r3 V4 => M_readBoth_5 R_readTest R_readBoth R_readPlain n x1 V4)
theorem WM_readBoth_5 {Z : MZ} {d : Nat} {dr : Nat} (hX : MX Z cX4_readBoth 2 none d 2) (hdd : dr + 1 ≤ d ∧ 65 ≤ d) {R_readTest : Int → VV → Option (Int × VV)} {R_readBoth : Int → VV → Option (Int × VV)} {R_readPlain : Int → VV → Option (Int × VV)} (hR_readTest : ∀ (a0 : Int) (V : VV), okV V → oks [(0, a0)] → ∀ fin, R_readTest a0 V = some fin → mSpec (zL Z) yX4_readTest cX4_readTest 2 none dr 2 [(3, 0), (0, a0)] V fin) (hR_readBoth : ∀ (a0 : Int) (V : VV), okV V → oks [(0, a0)] → ∀ fin, R_readBoth a0 V = some fin → mSpec (zL Z) yX4_readBoth cX4_readBoth 2 none dr 2 [(3, 0), (0, a0)] V fin) (hR_readPlain : ∀ (a0 : Int) (V : VV), okV V → oks [(0, a0)] → ∀ fin, R_readPlain a0 V = some fin → mSpec (zL Z) yX4_readPlain cX4_readPlain 4 none dr 2 [(3, 0), (0, a0)] V fin) : ∀ n x1 V, MG Z 5 [(0, (3, 0)), (1, (0, x1))] [] V (M_readBoth_5 R_readTest R_readBoth R_readPlain n x1 V) := by
  intro n
  induction n with
  | zero => intro x1 V; exact m_none
  | succ n ih =>
    intro x1 V
    rw [M_readBoth_5]
    refine m_aload_n hX 0 dX4_readBoth_5 rfl rfl ?_
    refine m_bp hX dX4_readBoth_6 (by decide) (by decide) ?_
    refine cl_takes0 hX (by omega) (Nat.le_of_ble_eq_true rfl) dX4_readBoth_8 fun r1 V2 => ?_
    refine m_if_eq hX 22 dX4_readBoth_11 (by decide) (fun _ => ?_) (fun _ => ?_)
    · exact m_vret hX rfl dX4_readBoth_22
    · refine m_aload_n hX 0 dX4_readBoth_14 rfl rfl ?_
      refine m_iload_n hX 1 dX4_readBoth_15 rfl rfl ?_
      refine cr_readPlain hX hR_readPlain hdd.1 (Nat.le_of_ble_eq_true rfl) dX4_readBoth_16 fun r3 V4 => ?_
      refine m_goto hX 5 dX4_readBoth_19 (by decide) ?_
      exact m_sub [0, 1] rfl (ih x1 V4)
noncomputable def M_readBoth_b (R_readTest : Int → VV → Option (Int × VV)) (R_readBoth : Int → VV → Option (Int × VV)) (R_readPlain : Int → VV → Option (Int × VV)) (x1 : Int) (V : VV) : Option (Int × VV) := mb (R_readPlain x1 V) fun r1 V2 => M_readBoth_5 R_readTest R_readBoth R_readPlain FU x1 V2
theorem WM_readBoth_b (l : Launch) {d dr : Nat} (hdd : dr + 1 ≤ d ∧ 65 ≤ d) {R_readTest : Int → VV → Option (Int × VV)} {R_readBoth : Int → VV → Option (Int × VV)} {R_readPlain : Int → VV → Option (Int × VV)} (hR_readTest : ∀ (a0 : Int) (V : VV), okV V → oks [(0, a0)] → ∀ fin, R_readTest a0 V = some fin → mSpec (l) yX4_readTest cX4_readTest 2 none dr 2 [(3, 0), (0, a0)] V fin) (hR_readBoth : ∀ (a0 : Int) (V : VV), okV V → oks [(0, a0)] → ∀ fin, R_readBoth a0 V = some fin → mSpec (l) yX4_readBoth cX4_readBoth 2 none dr 2 [(3, 0), (0, a0)] V fin) (hR_readPlain : ∀ (a0 : Int) (V : VV), okV V → oks [(0, a0)] → ∀ fin, R_readPlain a0 V = some fin → mSpec (l) yX4_readPlain cX4_readPlain 4 none dr 2 [(3, 0), (0, a0)] V fin) (x1 : Int) (V : VV) (hV : okV V) (ho : oks [(0, x1)]) (fin : Int × VV) (hf : M_readBoth_b R_readTest R_readBoth R_readPlain x1 V = some fin) : mSpec l yX4_readBoth cX4_readBoth 2 none d 2 [(3, 0), (0, x1)] V fin := by
  refine m_enter (lv := [(0, (3, 0)), (1, (0, x1))]) (by decide) rfl (Nat.le_of_ble_eq_true rfl) rfl (fun Z hZ hX => ?_) hV (ho.c (okA.t 0)) fin hf
  subst hZ
  unfold M_readBoth_b
  refine m_aload_n hX 0 dX4_readBoth_0 rfl rfl ?_
  refine m_iload_n hX 1 dX4_readBoth_1 rfl rfl ?_
  refine cr_readPlain hX hR_readPlain hdd.1 (Nat.le_of_ble_eq_true rfl) dX4_readBoth_2 fun r1 V2 => ?_
  exact m_sub [0, 1] rfl (WM_readBoth_5 hX hdd hR_readTest hR_readBoth hR_readPlain FU x1 V2)
noncomputable def M_readPlain_53 (R_readTest : Int → VV → Option (Int × VV)) (R_readBoth : Int → VV → Option (Int × VV)) (R_readPlain : Int → VV → Option (Int × VV)) (x1 : Int) (V : VV) : Option (Int × VV) := mb (M_fine V) fun r1 V2 => if r1 = 0 then (some (0, V2)) else (nm (vup V2 15 0 (w32 ((V2 15 0) + 1))) fun V3 => mb (R_readTest (w32 (x1 + 1)) V3) fun r4 V5 => mb (M_sign 41 V5) fun r6 V7 => mb (M_must r6 V7) fun r8 V9 => some (0, V9))
theorem WM_readPlain_53 {Z : MZ} {d : Nat} {dr : Nat} (hX : MX Z cX4_readPlain 4 none d 2) (hdd : dr + 1 ≤ d ∧ 65 ≤ d) {R_readTest : Int → VV → Option (Int × VV)} {R_readBoth : Int → VV → Option (Int × VV)} {R_readPlain : Int → VV → Option (Int × VV)} (hR_readTest : ∀ (a0 : Int) (V : VV), okV V → oks [(0, a0)] → ∀ fin, R_readTest a0 V = some fin → mSpec (zL Z) yX4_readTest cX4_readTest 2 none dr 2 [(3, 0), (0, a0)] V fin) (hR_readBoth : ∀ (a0 : Int) (V : VV), okV V → oks [(0, a0)] → ∀ fin, R_readBoth a0 V = some fin → mSpec (zL Z) yX4_readBoth cX4_readBoth 2 none dr 2 [(3, 0), (0, a0)] V fin) (hR_readPlain : ∀ (a0 : Int) (V : VV), okV V → oks [(0, a0)] → ∀ fin, R_readPlain a0 V = some fin → mSpec (zL Z) yX4_readPlain cX4_readPlain 4 none dr 2 [(3, 0), (0, a0)] V fin) : ∀ x1 V, MG Z 53 [(0, (3, 0)), (1, (0, x1))] [] V (M_readPlain_53 R_readTest R_readBoth R_readPlain x1 V) := by
  intro x1 V
  unfold M_readPlain_53
  refine m_aload_n hX 0 dX4_readPlain_53 rfl rfl ?_
  refine cl_fine hX (by omega) (Nat.le_of_ble_eq_true rfl) dX4_readPlain_54 fun r1 V2 => ?_
  refine m_if_ne hX 61 dX4_readPlain_57 (by decide) (fun _ => ?_) (fun _ => ?_)
  · refine m_aload_n hX 0 dX4_readPlain_61 rfl rfl ?_
    refine m_dup hX dX4_readPlain_62 rfl ?_
    refine fg_15 hX dX4_readPlain_63 ?_
    refine m_ic hX dX4_readPlain_66 (by decide) (by decide) ?_
    refine m_iadd hX dX4_readPlain_67 ?_
    refine fp_15 hX dX4_readPlain_68 fun V3 => ?_
    refine m_aload_n hX 0 dX4_readPlain_71 rfl rfl ?_
    refine m_iload_n hX 1 dX4_readPlain_72 rfl rfl ?_
    refine m_ic hX dX4_readPlain_73 (by decide) (by decide) ?_
    refine m_iadd hX dX4_readPlain_74 ?_
    refine cr_readTest hX hR_readTest hdd.1 (Nat.le_of_ble_eq_true rfl) dX4_readPlain_75 fun r4 V5 => ?_
    refine m_aload_n hX 0 dX4_readPlain_78 rfl rfl ?_
    refine m_bp hX dX4_readPlain_79 (by decide) (by decide) ?_
    refine cl_sign hX (by omega) (Nat.le_of_ble_eq_true rfl) dX4_readPlain_81 fun r6 V7 => ?_
    refine cl_must hX (by omega) (Nat.le_of_ble_eq_true rfl) dX4_readPlain_84 fun r8 V9 => ?_
    refine m_goto hX 133 dX4_readPlain_87 (by decide) ?_
    exact m_vret hX rfl dX4_readPlain_133
  · exact m_vret hX rfl dX4_readPlain_60
noncomputable def M_readPlain_128 (R_readTest : Int → VV → Option (Int × VV)) (R_readBoth : Int → VV → Option (Int × VV)) (R_readPlain : Int → VV → Option (Int × VV)) (x1 : Int) (V : VV) : Option (Int × VV) := mb (M_readSum RF x1 V) fun r1 V2 => some (0, V2)
theorem WM_readPlain_128 {Z : MZ} {d : Nat} {dr : Nat} (hX : MX Z cX4_readPlain 4 none d 2) (hdd : dr + 1 ≤ d ∧ 65 ≤ d) {R_readTest : Int → VV → Option (Int × VV)} {R_readBoth : Int → VV → Option (Int × VV)} {R_readPlain : Int → VV → Option (Int × VV)} (hR_readTest : ∀ (a0 : Int) (V : VV), okV V → oks [(0, a0)] → ∀ fin, R_readTest a0 V = some fin → mSpec (zL Z) yX4_readTest cX4_readTest 2 none dr 2 [(3, 0), (0, a0)] V fin) (hR_readBoth : ∀ (a0 : Int) (V : VV), okV V → oks [(0, a0)] → ∀ fin, R_readBoth a0 V = some fin → mSpec (zL Z) yX4_readBoth cX4_readBoth 2 none dr 2 [(3, 0), (0, a0)] V fin) (hR_readPlain : ∀ (a0 : Int) (V : VV), okV V → oks [(0, a0)] → ∀ fin, R_readPlain a0 V = some fin → mSpec (zL Z) yX4_readPlain cX4_readPlain 4 none dr 2 [(3, 0), (0, a0)] V fin) : ∀ x1 V, MG Z 128 [(0, (3, 0)), (1, (0, x1))] [] V (M_readPlain_128 R_readTest R_readBoth R_readPlain x1 V) := by
  intro x1 V
  unfold M_readPlain_128
  refine m_aload_n hX 0 dX4_readPlain_128 rfl rfl ?_
  refine m_iload_n hX 1 dX4_readPlain_129 rfl rfl ?_
  refine cl_readSum hX (by omega) (Nat.le_of_ble_eq_true rfl) dX4_readPlain_130 fun r1 V2 => ?_
  exact m_vret hX rfl dX4_readPlain_133
noncomputable def M_readPlain_16 (R_readTest : Int → VV → Option (Int × VV)) (R_readBoth : Int → VV → Option (Int × VV)) (R_readPlain : Int → VV → Option (Int × VV)) (x1 : Int) (V : VV) : Option (Int × VV) := mb (M_fine V) fun r1 V2 => if r1 = 0 then (some (0, V2)) else (ck (V2 15 0) 401 <| nm (α := Int) (V2 11 (V2 15 0)) fun v3 => mb (M_sign 40 V2) fun r4 V5 => if v3 = r4 then (if x1 = 8 then (mb (M_faults V5) fun r20 V21 => M_readPlain_53 R_readTest R_readBoth R_readPlain x1 V21) else (M_readPlain_53 R_readTest R_readBoth R_readPlain x1 V5)) else (mb (M_readSum RF x1 V5) fun r6 V7 => mb (M_sign 60 V7) fun r8 V9 => mb (M_takes0 r8 V9) fun r10 V11 => if r10 = 0 then (mb (M_sign 62 V11) fun r12 V13 => mb (M_takes0 r12 V13) fun r14 V15 => if r14 = 0 then (mb (M_sign 61 V15) fun r16 V17 => mb (M_must r16 V17) fun r18 V19 => M_readPlain_128 R_readTest R_readBoth R_readPlain x1 V19) else (M_readPlain_128 R_readTest R_readBoth R_readPlain x1 V15)) else (M_readPlain_128 R_readTest R_readBoth R_readPlain x1 V11)))
theorem WM_readPlain_16 {Z : MZ} {d : Nat} {dr : Nat} (hX : MX Z cX4_readPlain 4 none d 2) (hdd : dr + 1 ≤ d ∧ 65 ≤ d) {R_readTest : Int → VV → Option (Int × VV)} {R_readBoth : Int → VV → Option (Int × VV)} {R_readPlain : Int → VV → Option (Int × VV)} (hR_readTest : ∀ (a0 : Int) (V : VV), okV V → oks [(0, a0)] → ∀ fin, R_readTest a0 V = some fin → mSpec (zL Z) yX4_readTest cX4_readTest 2 none dr 2 [(3, 0), (0, a0)] V fin) (hR_readBoth : ∀ (a0 : Int) (V : VV), okV V → oks [(0, a0)] → ∀ fin, R_readBoth a0 V = some fin → mSpec (zL Z) yX4_readBoth cX4_readBoth 2 none dr 2 [(3, 0), (0, a0)] V fin) (hR_readPlain : ∀ (a0 : Int) (V : VV), okV V → oks [(0, a0)] → ∀ fin, R_readPlain a0 V = some fin → mSpec (zL Z) yX4_readPlain cX4_readPlain 4 none dr 2 [(3, 0), (0, a0)] V fin) : ∀ x1 V, MG Z 16 [(0, (3, 0)), (1, (0, x1))] [] V (M_readPlain_16 R_readTest R_readBoth R_readPlain x1 V) := by
  intro x1 V
  unfold M_readPlain_16
  refine m_aload_n hX 0 dX4_readPlain_16 rfl rfl ?_
  refine cl_fine hX (by omega) (Nat.le_of_ble_eq_true rfl) dX4_readPlain_17 fun r1 V2 => ?_
  refine m_if_ne hX 24 dX4_readPlain_20 (by decide) (fun _ => ?_) (fun _ => ?_)
  · refine m_aload_n hX 0 dX4_readPlain_24 rfl rfl ?_
    refine fg_11 hX dX4_readPlain_25 ?_
    refine m_aload_n hX 0 dX4_readPlain_28 rfl rfl ?_
    refine fg_15 hX dX4_readPlain_29 ?_
    refine al_11 hX dX4_readPlain_32 ?_
    refine m_nmT fun v3 => ?_
    refine m_istore_n hX (lv' := [(3, (0, v3)), (0, (3, 0)), (1, (0, x1))]) dX4_readPlain_33 rfl (by decide) rfl ?_
    refine m_iload_n hX 0 dX4_readPlain_34 rfl rfl ?_
    refine m_bp hX dX4_readPlain_35 (by decide) (by decide) ?_
    refine cl_sign hX (by omega) (Nat.le_of_ble_eq_true rfl) dX4_readPlain_37 fun r4 V5 => ?_
    refine m_icmp_ne hX 90 dX4_readPlain_40 (by decide) (fun _ => ?_) (fun _ => ?_)
    · refine m_aload_n hX 1 dX4_readPlain_90 rfl rfl ?_
      refine m_iload_n hX 2 dX4_readPlain_91 rfl rfl ?_
      refine cl_readSum hX (by omega) (Nat.le_of_ble_eq_true rfl) dX4_readPlain_92 fun r6 V7 => ?_
      refine m_aload_n hX 1 dX4_readPlain_95 rfl rfl ?_
      refine m_bp hX dX4_readPlain_96 (by decide) (by decide) ?_
      refine cl_sign hX (by omega) (Nat.le_of_ble_eq_true rfl) dX4_readPlain_98 fun r8 V9 => ?_
      refine cl_takes0 hX (by omega) (Nat.le_of_ble_eq_true rfl) dX4_readPlain_101 fun r10 V11 => ?_
      refine m_if_ne hX 128 dX4_readPlain_104 (by decide) (fun _ => ?_) (fun _ => ?_)
      · exact m_sub [1, 2] rfl (WM_readPlain_128 hX hdd hR_readTest hR_readBoth hR_readPlain x1 V11)
      · refine m_aload_n hX 1 dX4_readPlain_107 rfl rfl ?_
        refine m_bp hX dX4_readPlain_108 (by decide) (by decide) ?_
        refine cl_sign hX (by omega) (Nat.le_of_ble_eq_true rfl) dX4_readPlain_110 fun r12 V13 => ?_
        refine cl_takes0 hX (by omega) (Nat.le_of_ble_eq_true rfl) dX4_readPlain_113 fun r14 V15 => ?_
        refine m_if_ne hX 128 dX4_readPlain_116 (by decide) (fun _ => ?_) (fun _ => ?_)
        · exact m_sub [1, 2] rfl (WM_readPlain_128 hX hdd hR_readTest hR_readBoth hR_readPlain x1 V15)
        · refine m_aload_n hX 1 dX4_readPlain_119 rfl rfl ?_
          refine m_bp hX dX4_readPlain_120 (by decide) (by decide) ?_
          refine cl_sign hX (by omega) (Nat.le_of_ble_eq_true rfl) dX4_readPlain_122 fun r16 V17 => ?_
          refine cl_must hX (by omega) (Nat.le_of_ble_eq_true rfl) dX4_readPlain_125 fun r18 V19 => ?_
          exact m_sub [1, 2] rfl (WM_readPlain_128 hX hdd hR_readTest hR_readBoth hR_readPlain x1 V19)
    · refine m_iload_n hX 2 dX4_readPlain_43 rfl rfl ?_
      refine m_bp hX dX4_readPlain_44 (by decide) (by decide) ?_
      refine m_icmp_ne hX 53 dX4_readPlain_46 (by decide) (fun _ => ?_) (fun _ => ?_)
      · exact m_sub [1, 2] rfl (WM_readPlain_53 hX hdd hR_readTest hR_readBoth hR_readPlain x1 V5)
      · refine m_aload_n hX 1 dX4_readPlain_49 rfl rfl ?_
        refine cl_faults hX (by omega) (Nat.le_of_ble_eq_true rfl) dX4_readPlain_50 fun r20 V21 => ?_
        exact m_sub [1, 2] rfl (WM_readPlain_53 hX hdd hR_readTest hR_readBoth hR_readPlain x1 V21)
  · exact m_vret hX rfl dX4_readPlain_23
noncomputable def M_readPlain_2 (R_readTest : Int → VV → Option (Int × VV)) (R_readBoth : Int → VV → Option (Int × VV)) (R_readPlain : Int → VV → Option (Int × VV)) : Nat → Int → Int → VV → Option (Int × VV)
  | 0, _, _, _ => none
  | n + 1, x1, x2, V => if x2 = 0 then (M_readPlain_16 R_readTest R_readBoth R_readPlain x1 V) else (mb (M_takes0 7 V) fun r1 V2 => M_readPlain_2 R_readTest R_readBoth R_readPlain n x1 r1 V2)
theorem WM_readPlain_2 {Z : MZ} {d : Nat} {dr : Nat} (hX : MX Z cX4_readPlain 4 none d 2) (hdd : dr + 1 ≤ d ∧ 65 ≤ d) {R_readTest : Int → VV → Option (Int × VV)} {R_readBoth : Int → VV → Option (Int × VV)} {R_readPlain : Int → VV → Option (Int × VV)} (hR_readTest : ∀ (a0 : Int) (V : VV), okV V → oks [(0, a0)] → ∀ fin, R_readTest a0 V = some fin → mSpec (zL Z) yX4_readTest cX4_readTest 2 none dr 2 [(3, 0), (0, a0)] V fin) (hR_readBoth : ∀ (a0 : Int) (V : VV), okV V → oks [(0, a0)] → ∀ fin, R_readBoth a0 V = some fin → mSpec (zL Z) yX4_readBoth cX4_readBoth 2 none dr 2 [(3, 0), (0, a0)] V fin) (hR_readPlain : ∀ (a0 : Int) (V : VV), okV V → oks [(0, a0)] → ∀ fin, R_readPlain a0 V = some fin → mSpec (zL Z) yX4_readPlain cX4_readPlain 4 none dr 2 [(3, 0), (0, a0)] V fin) : ∀ n x1 x2 V, MG Z 2 [(0, (3, 0)), (1, (0, x1)), (2, (0, x2))] [] V (M_readPlain_2 R_readTest R_readBoth R_readPlain n x1 x2 V) := by
  intro n
  induction n with
  | zero => intro x1 x2 V; exact m_none
  | succ n ih =>
    intro x1 x2 V
    rw [M_readPlain_2]
    refine m_iload_n hX 2 dX4_readPlain_2 rfl rfl ?_
    refine m_if_eq hX 16 dX4_readPlain_3 (by decide) (fun _ => ?_) (fun _ => ?_)
    · exact m_sub [0, 1] rfl (WM_readPlain_16 hX hdd hR_readTest hR_readBoth hR_readPlain x1 V)
    · refine m_aload_n hX 0 dX4_readPlain_6 rfl rfl ?_
      refine m_bp hX dX4_readPlain_7 (by decide) (by decide) ?_
      refine cl_takes0 hX (by omega) (Nat.le_of_ble_eq_true rfl) dX4_readPlain_9 fun r1 V2 => ?_
      refine m_istore_n hX (lv' := [(2, (0, r1)), (0, (3, 0)), (1, (0, x1))]) dX4_readPlain_12 rfl (by decide) rfl ?_
      refine m_goto hX 2 dX4_readPlain_13 (by decide) ?_
      exact m_sub [1, 2, 0] rfl (ih x1 r1 V2)
noncomputable def M_readPlain_b (R_readTest : Int → VV → Option (Int × VV)) (R_readBoth : Int → VV → Option (Int × VV)) (R_readPlain : Int → VV → Option (Int × VV)) (x1 : Int) (V : VV) : Option (Int × VV) := M_readPlain_2 R_readTest R_readBoth R_readPlain FU x1 1 V
theorem WM_readPlain_b (l : Launch) {d dr : Nat} (hdd : dr + 1 ≤ d ∧ 65 ≤ d) {R_readTest : Int → VV → Option (Int × VV)} {R_readBoth : Int → VV → Option (Int × VV)} {R_readPlain : Int → VV → Option (Int × VV)} (hR_readTest : ∀ (a0 : Int) (V : VV), okV V → oks [(0, a0)] → ∀ fin, R_readTest a0 V = some fin → mSpec (l) yX4_readTest cX4_readTest 2 none dr 2 [(3, 0), (0, a0)] V fin) (hR_readBoth : ∀ (a0 : Int) (V : VV), okV V → oks [(0, a0)] → ∀ fin, R_readBoth a0 V = some fin → mSpec (l) yX4_readBoth cX4_readBoth 2 none dr 2 [(3, 0), (0, a0)] V fin) (hR_readPlain : ∀ (a0 : Int) (V : VV), okV V → oks [(0, a0)] → ∀ fin, R_readPlain a0 V = some fin → mSpec (l) yX4_readPlain cX4_readPlain 4 none dr 2 [(3, 0), (0, a0)] V fin) (x1 : Int) (V : VV) (hV : okV V) (ho : oks [(0, x1)]) (fin : Int × VV) (hf : M_readPlain_b R_readTest R_readBoth R_readPlain x1 V = some fin) : mSpec l yX4_readPlain cX4_readPlain 4 none d 2 [(3, 0), (0, x1)] V fin := by
  refine m_enter (lv := [(0, (3, 0)), (1, (0, x1))]) (by decide) rfl (Nat.le_of_ble_eq_true rfl) rfl (fun Z hZ hX => ?_) hV (ho.c (okA.t 0)) fin hf
  subst hZ
  unfold M_readPlain_b
  refine m_ic hX dX4_readPlain_0 (by decide) (by decide) ?_
  refine m_istore_n hX (lv' := [(2, (0, 1)), (0, (3, 0)), (1, (0, x1))]) dX4_readPlain_1 rfl (by decide) rfl ?_
  exact m_sub [1, 2, 0] rfl (WM_readPlain_2 hX hdd hR_readTest hR_readBoth hR_readPlain FU x1 1 V)
noncomputable def MR_readTest : Nat → (Int → VV → Option (Int × VV)) × (Int → VV → Option (Int × VV)) × (Int → VV → Option (Int × VV))
  | 0 => (fun _ _ => none, fun _ _ => none, fun _ _ => none)
  | n + 1 => (M_readTest_b (MR_readTest n).1 (MR_readTest n).2.1 (MR_readTest n).2.2, M_readBoth_b (MR_readTest n).1 (MR_readTest n).2.1 (MR_readTest n).2.2, M_readPlain_b (MR_readTest n).1 (MR_readTest n).2.1 (MR_readTest n).2.2)
noncomputable def M_readTest (n : Nat) (a0 : Int) (V : VV) : Option (Int × VV) := (MR_readTest n).1 a0 V
noncomputable def M_readBoth (n : Nat) (a0 : Int) (V : VV) : Option (Int × VV) := (MR_readTest n).2.1 a0 V
noncomputable def M_readPlain (n : Nat) (a0 : Int) (V : VV) : Option (Int × VV) := (MR_readTest n).2.2 a0 V
theorem WMR_readTest (l : Launch) : ∀ (n dr : Nat), 64 + n ≤ dr → (∀ (a0 : Int) (V : VV), okV V → oks [(0, a0)] → ∀ fin, (MR_readTest n).1 a0 V = some fin → mSpec (l) yX4_readTest cX4_readTest 2 none dr 2 [(3, 0), (0, a0)] V fin) ∧ (∀ (a0 : Int) (V : VV), okV V → oks [(0, a0)] → ∀ fin, (MR_readTest n).2.1 a0 V = some fin → mSpec (l) yX4_readBoth cX4_readBoth 2 none dr 2 [(3, 0), (0, a0)] V fin) ∧ (∀ (a0 : Int) (V : VV), okV V → oks [(0, a0)] → ∀ fin, (MR_readTest n).2.2 a0 V = some fin → mSpec (l) yX4_readPlain cX4_readPlain 4 none dr 2 [(3, 0), (0, a0)] V fin) := by
  intro n
  induction n with
  | zero => intro dr _; exact ⟨(fun a0 V _ _ fin h => by cases h), (fun a0 V _ _ fin h => by cases h), (fun a0 V _ _ fin h => by cases h)⟩
  | succ n ih =>
    intro dr h
    obtain ⟨hR_readTest, hR_readBoth, hR_readPlain⟩ := ih (dr - 1) (by omega)
    exact ⟨(fun a0 V hV ho fin hf => WM_readTest_b l (dr := dr - 1) (by omega) hR_readTest hR_readBoth hR_readPlain a0 V hV ho fin hf), (fun a0 V hV ho fin hf => WM_readBoth_b l (dr := dr - 1) (by omega) hR_readTest hR_readBoth hR_readPlain a0 V hV ho fin hf), (fun a0 V hV ho fin hf => WM_readPlain_b l (dr := dr - 1) (by omega) hR_readTest hR_readBoth hR_readPlain a0 V hV ho fin hf)⟩
theorem WM_readTest (l : Launch) {d : Nat} (hdd : 125 ≤ d) (a0 : Int) (V : VV) (hV : okV V) (ho : oks [(0, a0)]) (fin : Int × VV) (hf : M_readTest RF a0 V = some fin) : mSpec l yX4_readTest cX4_readTest 2 none d 2 [(3, 0), (0, a0)] V fin := (WMR_readTest l RF d (by rw [RF_eq]; omega)).1 a0 V hV ho fin hf
theorem cl_readTest {Z : MZ} {cc : ByteArray} {nL : Nat} {ret : Option FieldType} {d rk : Nat} {pc : Nat} {lv : List (Nat × AV)} {st : List AV} {V : VV} {g : Int → VV → Option (Int × VV)} (hX : MX Z cc nL ret d rk) {a0 : Int} (hdd : 126 ≤ d) (hcat : (st.map fun v => if v.1 = 1 then 2 else 1).sum ≤ 8) (hdg : decode cc pc = .ok (.invokevirtual 212, 3)) (kk : ∀ r V1, MG Z (pc + 3) lv st V1 (g r V1)) : MG Z pc lv ((0, a0) :: (3, 0) :: st) V (mb (M_readTest RF a0 V) g) :=
  m_callVv hX [(0, a0)] 1 (fun hV ho fin hf => WM_readTest (zL Z) (Nat.le_refl 125) a0 V hV ho fin hf) (lw_V q2003 q2005 qs77 q131 q2006) (by decide +kernel) rfl (by omega) (by decide) rfl hcat hdg kk
theorem WM_readBoth (l : Launch) {d : Nat} (hdd : 125 ≤ d) (a0 : Int) (V : VV) (hV : okV V) (ho : oks [(0, a0)]) (fin : Int × VV) (hf : M_readBoth RF a0 V = some fin) : mSpec l yX4_readBoth cX4_readBoth 2 none d 2 [(3, 0), (0, a0)] V fin := (WMR_readTest l RF d (by rw [RF_eq]; omega)).2.1 a0 V hV ho fin hf
theorem cl_readBoth {Z : MZ} {cc : ByteArray} {nL : Nat} {ret : Option FieldType} {d rk : Nat} {pc : Nat} {lv : List (Nat × AV)} {st : List AV} {V : VV} {g : Int → VV → Option (Int × VV)} (hX : MX Z cc nL ret d rk) {a0 : Int} (hdd : 126 ≤ d) (hcat : (st.map fun v => if v.1 = 1 then 2 else 1).sum ≤ 8) (hdg : decode cc pc = .ok (.invokevirtual 215, 3)) (kk : ∀ r V1, MG Z (pc + 3) lv st V1 (g r V1)) : MG Z pc lv ((0, a0) :: (3, 0) :: st) V (mb (M_readBoth RF a0 V) g) :=
  m_callVv hX [(0, a0)] 1 (fun hV ho fin hf => WM_readBoth (zL Z) (Nat.le_refl 125) a0 V hV ho fin hf) (lw_V q2007 q2009 qs78 q131 q2010) (by decide +kernel) rfl (by omega) (by decide) rfl hcat hdg kk
theorem WM_readPlain (l : Launch) {d : Nat} (hdd : 125 ≤ d) (a0 : Int) (V : VV) (hV : okV V) (ho : oks [(0, a0)]) (fin : Int × VV) (hf : M_readPlain RF a0 V = some fin) : mSpec l yX4_readPlain cX4_readPlain 4 none d 2 [(3, 0), (0, a0)] V fin := (WMR_readTest l RF d (by rw [RF_eq]; omega)).2.2 a0 V hV ho fin hf
theorem cl_readPlain {Z : MZ} {cc : ByteArray} {nL : Nat} {ret : Option FieldType} {d rk : Nat} {pc : Nat} {lv : List (Nat × AV)} {st : List AV} {V : VV} {g : Int → VV → Option (Int × VV)} (hX : MX Z cc nL ret d rk) {a0 : Int} (hdd : 126 ≤ d) (hcat : (st.map fun v => if v.1 = 1 then 2 else 1).sum ≤ 8) (hdg : decode cc pc = .ok (.invokevirtual 218, 3)) (kk : ∀ r V1, MG Z (pc + 3) lv st V1 (g r V1)) : MG Z pc lv ((0, a0) :: (3, 0) :: st) V (mb (M_readPlain RF a0 V) g) :=
  m_callVv hX [(0, a0)] 1 (fun hV ho fin hf => WM_readPlain (zL Z) (Nat.le_refl 125) a0 V hV ho fin hf) (lw_V q2011 q2013 qs79 q131 q2014) (by decide +kernel) rfl (by omega) (by decide) rfl hcat hdg kk
noncomputable def M_readClause_21 (V : VV) : Option (Int × VV) := mb (M_readSum RF 0 V) fun r1 V2 => mb (M_takes0 4 V2) fun r3 V4 => if r3 = 0 then (some (0, V4)) else (mb (M_readTest RF 0 V4) fun r5 V6 => some (0, V6))
theorem WM_readClause_21 {Z : MZ} {d : Nat} (hX : MX Z cX4_readClause 1 none d 2) (hdd : 126 ≤ d) : ∀ V, MG Z 21 [(0, (3, 0))] [] V (M_readClause_21 V) := by
  intro V
  unfold M_readClause_21
  refine m_aload_n hX 0 dX4_readClause_21 rfl rfl ?_
  refine m_ic hX dX4_readClause_22 (by decide) (by decide) ?_
  refine cl_readSum hX (by omega) (Nat.le_of_ble_eq_true rfl) dX4_readClause_23 fun r1 V2 => ?_
  refine m_aload_n hX 0 dX4_readClause_26 rfl rfl ?_
  refine m_ic hX dX4_readClause_27 (by decide) (by decide) ?_
  refine cl_takes0 hX (by omega) (Nat.le_of_ble_eq_true rfl) dX4_readClause_28 fun r3 V4 => ?_
  refine m_if_eq hX 39 dX4_readClause_31 (by decide) (fun _ => ?_) (fun _ => ?_)
  · exact m_vret hX rfl dX4_readClause_39
  · refine m_aload_n hX 0 dX4_readClause_34 rfl rfl ?_
    refine m_ic hX dX4_readClause_35 (by decide) (by decide) ?_
    refine cl_readTest hX (by omega) (Nat.le_of_ble_eq_true rfl) dX4_readClause_36 fun r5 V6 => ?_
    exact m_vret hX rfl dX4_readClause_39
noncomputable def M_readClause (V : VV) : Option (Int × VV) := mb (M_takes0 1 V) fun r1 V2 => if r1 = 0 then (mb (M_takes0 2 V2) fun r3 V4 => if r3 = 0 then (mb (M_must 3 V4) fun r5 V6 => M_readClause_21 V6) else (M_readClause_21 V4)) else (M_readClause_21 V2)
theorem WM_readClause (l : Launch) {d : Nat} (hdd : 126 ≤ d) (V : VV) (hV : okV V) (ho : oks []) (fin : Int × VV) (hf : M_readClause V = some fin) : mSpec l yX4_readClause cX4_readClause 1 none d 2 [(3, 0)] V fin := by
  refine m_enter (lv := [(0, (3, 0))]) (by decide) rfl (Nat.le_of_ble_eq_true rfl) rfl (fun Z hZ hX => ?_) hV (ho.c (okA.t 0)) fin hf
  unfold M_readClause
  refine m_aload_n hX 0 dX4_readClause_0 rfl rfl ?_
  refine m_ic hX dX4_readClause_1 (by decide) (by decide) ?_
  refine cl_takes0 hX (by omega) (Nat.le_of_ble_eq_true rfl) dX4_readClause_2 fun r1 V2 => ?_
  refine m_if_ne hX 21 dX4_readClause_5 (by decide) (fun _ => ?_) (fun _ => ?_)
  · exact m_sub [0] rfl (WM_readClause_21 hX hdd V2)
  · refine m_aload_n hX 0 dX4_readClause_8 rfl rfl ?_
    refine m_ic hX dX4_readClause_9 (by decide) (by decide) ?_
    refine cl_takes0 hX (by omega) (Nat.le_of_ble_eq_true rfl) dX4_readClause_10 fun r3 V4 => ?_
    refine m_if_ne hX 21 dX4_readClause_13 (by decide) (fun _ => ?_) (fun _ => ?_)
    · exact m_sub [0] rfl (WM_readClause_21 hX hdd V4)
    · refine m_aload_n hX 0 dX4_readClause_16 rfl rfl ?_
      refine m_ic hX dX4_readClause_17 (by decide) (by decide) ?_
      refine cl_must hX (by omega) (Nat.le_of_ble_eq_true rfl) dX4_readClause_18 fun r5 V6 => ?_
      exact m_sub [0] rfl (WM_readClause_21 hX hdd V6)
theorem cl_readClause {Z : MZ} {cc : ByteArray} {nL : Nat} {ret : Option FieldType} {d rk : Nat} {pc : Nat} {lv : List (Nat × AV)} {st : List AV} {V : VV} {g : Int → VV → Option (Int × VV)} (hX : MX Z cc nL ret d rk) (hdd : 127 ≤ d) (hcat : (st.map fun v => if v.1 = 1 then 2 else 1).sum ≤ 8) (hdg : decode cc pc = .ok (.invokevirtual 237, 3)) (kk : ∀ r V1, MG Z (pc + 3) lv st V1 (g r V1)) : MG Z pc lv ((3, 0) :: st) V (mb (M_readClause V) g) :=
  m_callVv hX [] 0 (fun hV ho fin hf => WM_readClause (zL Z) (Nat.le_refl 126) V hV ho fin hf) (lw_V q1964 q1966 qs68 q131 q1967) (by decide +kernel) rfl (by omega) (by decide) rfl hcat hdg kk
noncomputable def M_reads_67 (K34 : Int → VV → Option (Int × VV)) (x1 : Int) (V : VV) : Option (Int × VV) := nm (w32 (x1 + 1)) fun v1 => K34 v1 V
theorem WM_reads_67 {Z : MZ} {d : Nat} (hX : MX Z cX4_reads 2 (some .boolean) d 0) (hdd : 127 ≤ d) {K34 : Int → VV → Option (Int × VV)} (hK34 : ∀ x1 V, MG Z 34 [(0, (3, 0)), (1, (0, x1))] [] V (K34 x1 V)) : ∀ x1 V, MG Z 67 [(0, (3, 0)), (1, (0, x1))] [] V (M_reads_67 K34 x1 V) := by
  intro x1 V
  unfold M_reads_67
  refine m_iinc hX 1 dX4_reads_67 rfl (by decide) fun v1 => m_lv (lv' := [(1, (0, v1)), (0, (3, 0))]) rfl ?_
  refine m_goto hX 34 dX4_reads_70 (by decide) ?_
  exact m_sub [1, 0] rfl (hK34 v1 V)
noncomputable def M_reads_56 (K34 : Int → VV → Option (Int × VV)) (x1 : Int) (V : VV) : Option (Int × VV) := mb (M_fine V) fun r1 V2 => if r1 = 0 then (M_reads_67 K34 x1 V2) else (mb (M_readClause V2) fun r3 V4 => M_reads_67 K34 x1 V4)
theorem WM_reads_56 {Z : MZ} {d : Nat} (hX : MX Z cX4_reads 2 (some .boolean) d 0) (hdd : 127 ≤ d) {K34 : Int → VV → Option (Int × VV)} (hK34 : ∀ x1 V, MG Z 34 [(0, (3, 0)), (1, (0, x1))] [] V (K34 x1 V)) : ∀ x1 V, MG Z 56 [(0, (3, 0)), (1, (0, x1))] [] V (M_reads_56 K34 x1 V) := by
  intro x1 V
  unfold M_reads_56
  refine m_aload_n hX 0 dX4_reads_56 rfl rfl ?_
  refine cl_fine hX (by omega) (Nat.le_of_ble_eq_true rfl) dX4_reads_57 fun r1 V2 => ?_
  refine m_if_eq hX 67 dX4_reads_60 (by decide) (fun _ => ?_) (fun _ => ?_)
  · exact m_sub [0, 1] rfl (WM_reads_67 hX hdd hK34 x1 V2)
  · refine m_aload_n hX 0 dX4_reads_63 rfl rfl ?_
    refine cl_readClause hX (by omega) (Nat.le_of_ble_eq_true rfl) dX4_reads_64 fun r3 V4 => ?_
    exact m_sub [0, 1] rfl (WM_reads_67 hX hdd hK34 x1 V4)
noncomputable def M_reads_95 (V : VV) : Option (Int × VV) := nm (vup V 10 0 (V 17 0)) fun V1 => mb (M_fine V1) fun r2 V3 => cb r2 (some (r2, V3))
theorem WM_reads_95 {Z : MZ} {d : Nat} (hX : MX Z cX4_reads 2 (some .boolean) d 0) (hdd : 127 ≤ d) : ∀ V, MG Z 95 [(0, (3, 0))] [] V (M_reads_95 V) := by
  intro V
  unfold M_reads_95
  refine m_aload_n hX 0 dX4_reads_95 rfl rfl ?_
  refine m_aload_n hX 0 dX4_reads_96 rfl rfl ?_
  refine fg_17 hX dX4_reads_97 ?_
  refine fp_10 hX dX4_reads_100 fun V1 => ?_
  refine m_aload_n hX 0 dX4_reads_103 rfl rfl ?_
  refine cl_fine hX (by omega) (Nat.le_of_ble_eq_true rfl) dX4_reads_104 fun r2 V3 => ?_
  exact m_zret hX rfl dX4_reads_107
noncomputable def M_reads_73 (V : VV) : Option (Int × VV) := mb (M_fine V) fun r1 V2 => if r1 = 0 then (M_reads_95 V2) else (if V2 14 0 ≤ V2 15 0 then (M_reads_95 V2) else (mb (M_faults V2) fun r3 V4 => M_reads_95 V4))
theorem WM_reads_73 {Z : MZ} {d : Nat} (hX : MX Z cX4_reads 2 (some .boolean) d 0) (hdd : 127 ≤ d) : ∀ V, MG Z 73 [(0, (3, 0))] [] V (M_reads_73 V) := by
  intro V
  unfold M_reads_73
  refine m_aload_n hX 0 dX4_reads_73 rfl rfl ?_
  refine cl_fine hX (by omega) (Nat.le_of_ble_eq_true rfl) dX4_reads_74 fun r1 V2 => ?_
  refine m_if_eq hX 95 dX4_reads_77 (by decide) (fun _ => ?_) (fun _ => ?_)
  · exact m_sub [0] rfl (WM_reads_95 hX hdd V2)
  · refine m_aload_n hX 0 dX4_reads_80 rfl rfl ?_
    refine fg_15 hX dX4_reads_81 ?_
    refine m_aload_n hX 0 dX4_reads_84 rfl rfl ?_
    refine fg_14 hX dX4_reads_85 ?_
    refine m_icmp_ge hX 95 dX4_reads_88 (by decide) (fun _ => ?_) (fun _ => ?_)
    · exact m_sub [0] rfl (WM_reads_95 hX hdd V2)
    · refine m_aload_n hX 0 dX4_reads_91 rfl rfl ?_
      refine cl_faults hX (by omega) (Nat.le_of_ble_eq_true rfl) dX4_reads_92 fun r3 V4 => ?_
      exact m_sub [0] rfl (WM_reads_95 hX hdd V4)
noncomputable def M_reads_34 : Nat → Int → VV → Option (Int × VV)
  | 0, _, _ => none
  | n + 1, x1, V => mb (M_sign 59 V) fun r1 V2 => mb (M_takes0 r1 V2) fun r3 V4 => if r3 = 0 then (M_reads_73 V4) else (if x1 = 12 then (mb (M_faults V4) fun r5 V6 => M_reads_56 (M_reads_34 n) x1 V6) else (M_reads_56 (M_reads_34 n) x1 V4))
theorem WM_reads_34 {Z : MZ} {d : Nat} (hX : MX Z cX4_reads 2 (some .boolean) d 0) (hdd : 127 ≤ d) : ∀ n x1 V, MG Z 34 [(0, (3, 0)), (1, (0, x1))] [] V (M_reads_34 n x1 V) := by
  intro n
  induction n with
  | zero => intro x1 V; exact m_none
  | succ n ih =>
    intro x1 V
    rw [M_reads_34]
    refine m_aload_n hX 0 dX4_reads_34 rfl rfl ?_
    refine m_bp hX dX4_reads_35 (by decide) (by decide) ?_
    refine cl_sign hX (by omega) (Nat.le_of_ble_eq_true rfl) dX4_reads_37 fun r1 V2 => ?_
    refine cl_takes0 hX (by omega) (Nat.le_of_ble_eq_true rfl) dX4_reads_40 fun r3 V4 => ?_
    refine m_if_eq hX 73 dX4_reads_43 (by decide) (fun _ => ?_) (fun _ => ?_)
    · exact m_sub [0] rfl (WM_reads_73 hX hdd V4)
    · refine m_iload_n hX 1 dX4_reads_46 rfl rfl ?_
      refine m_bp hX dX4_reads_47 (by decide) (by decide) ?_
      refine m_icmp_ne hX 56 dX4_reads_49 (by decide) (fun _ => ?_) (fun _ => ?_)
      · exact m_sub [0, 1] rfl (WM_reads_56 hX hdd ih x1 V4)
      · refine m_aload_n hX 0 dX4_reads_52 rfl rfl ?_
        refine cl_faults hX (by omega) (Nat.le_of_ble_eq_true rfl) dX4_reads_53 fun r5 V6 => ?_
        exact m_sub [0, 1] rfl (WM_reads_56 hX hdd ih x1 V6)
noncomputable def M_reads (V : VV) : Option (Int × VV) := mb (M_splits (V 9 0) V) fun r1 V2 => nm (vup V2 9 0 0) fun V3 => nm (vup V3 15 0 0) fun V4 => nm (vup V4 16 0 0) fun V5 => nm (vup V5 17 0 (-1)) fun V6 => mb (M_readClause V6) fun r7 V8 => M_reads_34 FU 1 V8
theorem WM_reads (l : Launch) {d : Nat} (hdd : 127 ≤ d) (V : VV) (hV : okV V) (ho : oks []) (fin : Int × VV) (hf : M_reads V = some fin) : mSpec l yX4_reads cX4_reads 2 (some .boolean) d 0 [(3, 0)] V fin := by
  refine m_enter (lv := [(0, (3, 0))]) (by decide) rfl (Nat.le_of_ble_eq_true rfl) rfl (fun Z hZ hX => ?_) hV (ho.c (okA.t 0)) fin hf
  unfold M_reads
  refine m_aload_n hX 0 dX4_reads_0 rfl rfl ?_
  refine m_aload_n hX 0 dX4_reads_1 rfl rfl ?_
  refine fg_9 hX dX4_reads_2 ?_
  refine cl_splits hX (by omega) (Nat.le_of_ble_eq_true rfl) dX4_reads_5 fun r1 V2 => ?_
  refine m_aload_n hX 0 dX4_reads_8 rfl rfl ?_
  refine m_ic hX dX4_reads_9 (by decide) (by decide) ?_
  refine fp_9 hX dX4_reads_10 fun V3 => ?_
  refine m_aload_n hX 0 dX4_reads_13 rfl rfl ?_
  refine m_ic hX dX4_reads_14 (by decide) (by decide) ?_
  refine fp_15 hX dX4_reads_15 fun V4 => ?_
  refine m_aload_n hX 0 dX4_reads_18 rfl rfl ?_
  refine m_ic hX dX4_reads_19 (by decide) (by decide) ?_
  refine fp_16 hX dX4_reads_20 fun V5 => ?_
  refine m_aload_n hX 0 dX4_reads_23 rfl rfl ?_
  refine m_ic hX dX4_reads_24 (by decide) (by decide) ?_
  refine fp_17 hX dX4_reads_25 fun V6 => ?_
  refine m_aload_n hX 0 dX4_reads_28 rfl rfl ?_
  refine cl_readClause hX (by omega) (Nat.le_of_ble_eq_true rfl) dX4_reads_29 fun r7 V8 => ?_
  refine m_ic hX dX4_reads_32 (by decide) (by decide) ?_
  refine m_istore_n hX (lv' := [(1, (0, 1)), (0, (3, 0))]) dX4_reads_33 rfl (by decide) rfl ?_
  exact m_sub [1, 0] rfl (WM_reads_34 hX hdd FU 1 V8)
theorem cl_reads {Z : MZ} {cc : ByteArray} {nL : Nat} {ret : Option FieldType} {d rk : Nat} {pc : Nat} {lv : List (Nat × AV)} {st : List AV} {V : VV} {g : Int → VV → Option (Int × VV)} (hX : MX Z cc nL ret d rk) (hdd : 128 ≤ d) (hcat : (st.map fun v => if v.1 = 1 then 2 else 1).sum ≤ 8) (hdg : decode cc pc = .ok (.invokevirtual 240, 3)) (kk : ∀ r V1, MG Z (pc + 3) lv ((0, r) :: st) V1 (g r V1)) : MG Z pc lv ((3, 0) :: st) V (mb (M_reads V) g) :=
  m_callVi hX [] 0 (fun hV ho fin hf => WM_reads (zL Z) (Nat.le_refl 127) V hV ho fin hf) (lw_V q1945 q1947 qs65 q131 q1948) (by decide +kernel) rfl (by omega) (by decide) rfl hcat hdg kk
noncomputable def M_paper_122 (x1 : Int) (V : VV) : Option (Int × VV) := nm (vup V 3 393 (w32 ((V 3 393) + 1))) fun V1 => mb (M_good x1 V1) fun r2 V3 => some (r2, V3)
theorem WM_paper_122 {Z : MZ} {d : Nat} (hX : MX Z cX4_paper 3 (some .int) d 0) (hdd : 128 ≤ d) : ∀ x1 V, MG Z 122 [(0, (3, 0)), (1, (0, x1))] [] V (M_paper_122 x1 V) := by
  intro x1 V
  unfold M_paper_122
  refine m_aload_n hX 0 dX4_paper_122 rfl rfl ?_
  refine fg_3 hX dX4_paper_123 ?_
  refine m_sp hX dX4_paper_126 (by decide) (by decide) ?_
  refine m_dup2 hX dX4_paper_129 rfl rfl ?_
  refine m_in (by decide) (by decide) (al_3 hX dX4_paper_130 ?_)
  refine m_ic hX dX4_paper_131 (by decide) (by decide) ?_
  refine m_iadd hX dX4_paper_132 ?_
  refine m_in (by decide) (by decide) (as_3 hX dX4_paper_133 fun V1 => ?_)
  refine m_aload_n hX 0 dX4_paper_134 rfl rfl ?_
  refine m_iload_n hX 1 dX4_paper_135 rfl rfl ?_
  refine cl_good hX (by omega) (Nat.le_of_ble_eq_true rfl) dX4_paper_136 fun r2 V3 => ?_
  exact m_iret hX rfl dX4_paper_139
noncomputable def M_paper_64 : Nat → Int → Int → VV → Option (Int × VV)
  | 0, _, _, _ => none
  | n + 1, x1, x2, V => if V 14 0 ≤ x2 then (M_paper_122 x1 V) else (ck x2 401 <| ck (w32 ((w32 (401 + (w32 (400 * x1)))) + x2)) 5201 <| nm (vup V 3 (w32 ((w32 (401 + (w32 (400 * x1)))) + x2)) (V 11 x2)) fun V1 => ck x2 401 <| ck (w32 ((w32 (2801 + (w32 (400 * x1)))) + x2)) 5201 <| nm (vup V1 3 (w32 ((w32 (2801 + (w32 (400 * x1)))) + x2)) (V1 12 x2)) fun V2 => nm (w32 (x2 + 1)) fun v3 => M_paper_64 n x1 v3 V2)
theorem WM_paper_64 {Z : MZ} {d : Nat} (hX : MX Z cX4_paper 3 (some .int) d 0) (hdd : 128 ≤ d) : ∀ n x1 x2 V, MG Z 64 [(0, (3, 0)), (1, (0, x1)), (2, (0, x2))] [] V (M_paper_64 n x1 x2 V) := by
  intro n
  induction n with
  | zero => intro x1 x2 V; exact m_none
  | succ n ih =>
    intro x1 x2 V
    rw [M_paper_64]
    refine m_iload_n hX 2 dX4_paper_64 rfl rfl ?_
    refine m_aload_n hX 0 dX4_paper_65 rfl rfl ?_
    refine fg_14 hX dX4_paper_66 ?_
    refine m_icmp_ge hX 122 dX4_paper_69 (by decide) (fun _ => ?_) (fun _ => ?_)
    · exact m_sub [0, 1] rfl (WM_paper_122 hX hdd x1 V)
    · refine m_aload_n hX 0 dX4_paper_72 rfl rfl ?_
      refine fg_3 hX dX4_paper_73 ?_
      refine m_sp hX dX4_paper_76 (by decide) (by decide) ?_
      refine m_sp hX dX4_paper_79 (by decide) (by decide) ?_
      refine m_iload_n hX 1 dX4_paper_82 rfl rfl ?_
      refine m_imul hX dX4_paper_83 ?_
      refine m_iadd hX dX4_paper_84 ?_
      refine m_iload_n hX 2 dX4_paper_85 rfl rfl ?_
      refine m_iadd hX dX4_paper_86 ?_
      refine m_aload_n hX 0 dX4_paper_87 rfl rfl ?_
      refine fg_11 hX dX4_paper_88 ?_
      refine m_iload_n hX 2 dX4_paper_91 rfl rfl ?_
      refine al_11 hX dX4_paper_92 ?_
      refine as_3 hX dX4_paper_93 fun V1 => ?_
      refine m_aload_n hX 0 dX4_paper_94 rfl rfl ?_
      refine fg_3 hX dX4_paper_95 ?_
      refine m_sp hX dX4_paper_98 (by decide) (by decide) ?_
      refine m_sp hX dX4_paper_101 (by decide) (by decide) ?_
      refine m_iload_n hX 1 dX4_paper_104 rfl rfl ?_
      refine m_imul hX dX4_paper_105 ?_
      refine m_iadd hX dX4_paper_106 ?_
      refine m_iload_n hX 2 dX4_paper_107 rfl rfl ?_
      refine m_iadd hX dX4_paper_108 ?_
      refine m_aload_n hX 0 dX4_paper_109 rfl rfl ?_
      refine fg_12 hX dX4_paper_110 ?_
      refine m_iload_n hX 2 dX4_paper_113 rfl rfl ?_
      refine al_12 hX dX4_paper_114 ?_
      refine as_3 hX dX4_paper_115 fun V2 => ?_
      refine m_iinc hX 2 dX4_paper_116 rfl (by decide) fun v3 => m_lv (lv' := [(2, (0, v3)), (0, (3, 0)), (1, (0, x1))]) rfl ?_
      refine m_goto hX 64 dX4_paper_119 (by decide) ?_
      exact m_sub [1, 2, 0] rfl (ih x1 v3 V2)
noncomputable def M_paper (V : VV) : Option (Int × VV) := if V 3 393 = 6 then (nm (vup V 9 0 0) fun V7 => mb (M_refuses (-5) V7) fun r8 V9 => some (r8, V9)) else (mb (M_reads V) fun r1 V2 => if r1 = 0 then (mb (M_refuses (-6) V2) fun r5 V6 => some (r5, V6)) else (nm (α := Int) (V2 3 393) fun v3 => ck (w32 (395 + v3)) 5201 <| nm (vup V2 3 (w32 (395 + v3)) (V2 14 0)) fun V4 => M_paper_64 FU v3 0 V4))
theorem WM_paper (l : Launch) {d : Nat} (hdd : 128 ≤ d) (V : VV) (hV : okV V) (ho : oks []) (fin : Int × VV) (hf : M_paper V = some fin) : mSpec l yX4_paper cX4_paper 3 (some .int) d 0 [(3, 0)] V fin := by
  refine m_enter (lv := [(0, (3, 0))]) (by decide) rfl (Nat.le_of_ble_eq_true rfl) rfl (fun Z hZ hX => ?_) hV (ho.c (okA.t 0)) fin hf
  unfold M_paper
  refine m_aload_n hX 0 dX4_paper_0 rfl rfl ?_
  refine fg_3 hX dX4_paper_1 ?_
  refine m_sp hX dX4_paper_4 (by decide) (by decide) ?_
  refine m_in (by decide) (by decide) (al_3 hX dX4_paper_7 ?_)
  refine m_bp hX dX4_paper_8 (by decide) (by decide) ?_
  refine m_icmp_ne hX 25 dX4_paper_10 (by decide) (fun _ => ?_) (fun _ => ?_)
  · refine m_aload_n hX 0 dX4_paper_25 rfl rfl ?_
    refine cl_reads hX (by omega) (Nat.le_of_ble_eq_true rfl) dX4_paper_26 fun r1 V2 => ?_
    refine m_if_ne hX 39 dX4_paper_29 (by decide) (fun _ => ?_) (fun _ => ?_)
    · refine m_aload_n hX 0 dX4_paper_39 rfl rfl ?_
      refine fg_3 hX dX4_paper_40 ?_
      refine m_sp hX dX4_paper_43 (by decide) (by decide) ?_
      refine m_in (by decide) (by decide) (al_3 hX dX4_paper_46 ?_)
      refine m_nmT fun v3 => ?_
      refine m_istore_n hX (lv' := [(1, (0, v3)), (0, (3, 0))]) dX4_paper_47 rfl (by decide) rfl ?_
      refine m_aload_n hX 1 dX4_paper_48 rfl rfl ?_
      refine fg_3 hX dX4_paper_49 ?_
      refine m_sp hX dX4_paper_52 (by decide) (by decide) ?_
      refine m_iload_n hX 0 dX4_paper_55 rfl rfl ?_
      refine m_iadd hX dX4_paper_56 ?_
      refine m_aload_n hX 1 dX4_paper_57 rfl rfl ?_
      refine fg_14 hX dX4_paper_58 ?_
      refine as_3 hX dX4_paper_61 fun V4 => ?_
      refine m_ic hX dX4_paper_62 (by decide) (by decide) ?_
      refine m_istore_n hX (lv' := [(2, (0, 0)), (1, (0, v3)), (0, (3, 0))]) dX4_paper_63 rfl (by decide) rfl ?_
      exact m_sub [2, 1, 0] rfl (WM_paper_64 hX hdd FU v3 0 V4)
    · refine m_aload_n hX 0 dX4_paper_32 rfl rfl ?_
      refine m_bp hX dX4_paper_33 (by decide) (by decide) ?_
      refine cl_refuses hX (by omega) (Nat.le_of_ble_eq_true rfl) dX4_paper_35 fun r5 V6 => ?_
      exact m_iret hX rfl dX4_paper_38
  · refine m_aload_n hX 0 dX4_paper_13 rfl rfl ?_
    refine m_ic hX dX4_paper_14 (by decide) (by decide) ?_
    refine fp_9 hX dX4_paper_15 fun V7 => ?_
    refine m_aload_n hX 0 dX4_paper_18 rfl rfl ?_
    refine m_bp hX dX4_paper_19 (by decide) (by decide) ?_
    refine cl_refuses hX (by omega) (Nat.le_of_ble_eq_true rfl) dX4_paper_21 fun r8 V9 => ?_
    exact m_iret hX rfl dX4_paper_24
-- paper: not called inside
noncomputable def M_fault (V : VV) : Option (Int × VV) := some (V 10 0, V)
theorem WM_fault (l : Launch) {d : Nat} (hdd : 1 ≤ d) (V : VV) (hV : okV V) (ho : oks []) (fin : Int × VV) (hf : M_fault V = some fin) : mSpec l yX4_fault cX4_fault 1 (some .int) d 0 [(3, 0)] V fin := by
  refine m_enter (lv := [(0, (3, 0))]) (by decide) rfl (Nat.le_of_ble_eq_true rfl) rfl (fun Z hZ hX => ?_) hV (ho.c (okA.t 0)) fin hf
  unfold M_fault
  refine m_aload_n hX 0 dX4_fault_0 rfl rfl ?_
  refine fg_10 hX dX4_fault_1 ?_
  exact m_iret hX rfl dX4_fault_4
-- fault: not called inside
noncomputable def M_use_30 (x1 : Int) (V : VV) : Option (Int × VV) := mb (M_replaces 394 x1 V) fun r1 V2 => some (r1, V2)
theorem WM_use_30 {Z : MZ} {d : Nat} (hX : MX Z cX4_use 2 (some .int) d 0) (hdd : 3 ≤ d) : ∀ x1 V, MG Z 30 [(0, (3, 0)), (1, (0, x1))] [] V (M_use_30 x1 V) := by
  intro x1 V
  unfold M_use_30
  refine m_aload_n hX 0 dX4_use_30 rfl rfl ?_
  refine m_sp hX dX4_use_31 (by decide) (by decide) ?_
  refine m_iload_n hX 1 dX4_use_34 rfl rfl ?_
  refine cl_replaces hX (by omega) (Nat.le_of_ble_eq_true rfl) dX4_use_35 fun r1 V2 => ?_
  exact m_iret hX rfl dX4_use_38
noncomputable def M_use (x1 : Int) (V : VV) : Option (Int × VV) := if x1 = (-1) then (M_use_30 x1 V) else (mb (M_lies x1 0 (w32 ((V 3 393) - 1)) V) fun r1 V2 => if r1 = 0 then (mb (M_refuses (-2) V2) fun r3 V4 => some (r3, V4)) else (M_use_30 x1 V2))
theorem WM_use (l : Launch) {d : Nat} (hdd : 3 ≤ d) (x1 : Int) (V : VV) (hV : okV V) (ho : oks [(0, x1)]) (fin : Int × VV) (hf : M_use x1 V = some fin) : mSpec l yX4_use cX4_use 2 (some .int) d 0 [(3, 0), (0, x1)] V fin := by
  refine m_enter (lv := [(0, (3, 0)), (1, (0, x1))]) (by decide) rfl (Nat.le_of_ble_eq_true rfl) rfl (fun Z hZ hX => ?_) hV (ho.c (okA.t 0)) fin hf
  unfold M_use
  refine m_iload_n hX 1 dX4_use_0 rfl rfl ?_
  refine m_ic hX dX4_use_1 (by decide) (by decide) ?_
  refine m_icmp_eq hX 30 dX4_use_2 (by decide) (fun _ => ?_) (fun _ => ?_)
  · exact m_sub [0, 1] rfl (WM_use_30 hX hdd x1 V)
  · refine m_iload_n hX 1 dX4_use_5 rfl rfl ?_
    refine m_ic hX dX4_use_6 (by decide) (by decide) ?_
    refine m_aload_n hX 0 dX4_use_7 rfl rfl ?_
    refine fg_3 hX dX4_use_8 ?_
    refine m_sp hX dX4_use_11 (by decide) (by decide) ?_
    refine m_in (by decide) (by decide) (al_3 hX dX4_use_14 ?_)
    refine m_ic hX dX4_use_15 (by decide) (by decide) ?_
    refine m_isub hX dX4_use_16 ?_
    refine cl_lies hX (by omega) (Nat.le_of_ble_eq_true rfl) dX4_use_17 fun r1 V2 => ?_
    refine m_if_ne hX 30 dX4_use_20 (by decide) (fun _ => ?_) (fun _ => ?_)
    · exact m_sub [0, 1] rfl (WM_use_30 hX hdd x1 V2)
    · refine m_aload_n hX 0 dX4_use_23 rfl rfl ?_
      refine m_bp hX dX4_use_24 (by decide) (by decide) ?_
      refine cl_refuses hX (by omega) (Nat.le_of_ble_eq_true rfl) dX4_use_26 fun r3 V4 => ?_
      exact m_iret hX rfl dX4_use_29
-- use: not called inside
noncomputable def M_codeAt (x1 : Int) (V : VV) : Option (Int × VV) := if V 19 0 ≤ x1 then (some (0, V)) else (ck (w32 (401 + x1)) 5201 <| some (V 3 (w32 (401 + x1)), V))
theorem WM_codeAt (l : Launch) {d : Nat} (hdd : 1 ≤ d) (x1 : Int) (V : VV) (hV : okV V) (ho : oks [(0, x1)]) (fin : Int × VV) (hf : M_codeAt x1 V = some fin) : mSpec l yX4_codeAt cX4_codeAt 2 (some .int) d 0 [(3, 0), (0, x1)] V fin := by
  refine m_enter (lv := [(0, (3, 0)), (1, (0, x1))]) (by decide) rfl (Nat.le_of_ble_eq_true rfl) rfl (fun Z hZ hX => ?_) hV (ho.c (okA.t 0)) fin hf
  unfold M_codeAt
  refine m_iload_n hX 1 dX4_codeAt_0 rfl rfl ?_
  refine m_aload_n hX 0 dX4_codeAt_1 rfl rfl ?_
  refine fg_19 hX dX4_codeAt_2 ?_
  refine m_icmp_ge hX 21 dX4_codeAt_5 (by decide) (fun _ => ?_) (fun _ => ?_)
  · refine m_ic hX dX4_codeAt_21 (by decide) (by decide) ?_
    exact m_iret hX rfl dX4_codeAt_22
  · refine m_aload_n hX 0 dX4_codeAt_8 rfl rfl ?_
    refine fg_3 hX dX4_codeAt_9 ?_
    refine m_sp hX dX4_codeAt_12 (by decide) (by decide) ?_
    refine m_iload_n hX 1 dX4_codeAt_15 rfl rfl ?_
    refine m_iadd hX dX4_codeAt_16 ?_
    refine al_3 hX dX4_codeAt_17 ?_
    refine m_goto hX 22 dX4_codeAt_18 (by decide) ?_
    exact m_iret hX rfl dX4_codeAt_22
theorem cl_codeAt {Z : MZ} {cc : ByteArray} {nL : Nat} {ret : Option FieldType} {d rk : Nat} {pc : Nat} {lv : List (Nat × AV)} {st : List AV} {V : VV} {g : Int → VV → Option (Int × VV)} (hX : MX Z cc nL ret d rk) {a0 : Int} (hdd : 2 ≤ d) (hcat : (st.map fun v => if v.1 = 1 then 2 else 1).sum ≤ 8) (hdg : decode cc pc = .ok (.invokevirtual 249, 3)) (kk : ∀ r V1, MG Z (pc + 3) lv ((0, r) :: st) V1 (g r V1)) : MG Z pc lv ((0, a0) :: (3, 0) :: st) V (mb (M_codeAt a0 V) g) :=
  m_callVi hX [(0, a0)] 1 (fun hV ho fin hf => WM_codeAt (zL Z) (Nat.le_refl 1) a0 V hV ho fin hf) (lw_V q2039 q2041 qs83 q131 q2042) (by decide +kernel) rfl (by omega) (by decide) rfl hcat hdg kk
noncomputable def M_passes0 (x1 : Int) (V : VV) : Option (Int × VV) := mb (M_codeAt (V 18 0) V) fun r1 V2 => nm (α := Int) (if r1 = x1 then 1 else 0) fun v3 => if v3 = 0 then (cb v3 (some (v3, V2))) else (nm (vup V2 18 0 (w32 ((V2 18 0) + 1))) fun V4 => cb v3 (some (v3, V4)))
theorem WM_passes0 (l : Launch) {d : Nat} (hdd : 2 ≤ d) (x1 : Int) (V : VV) (hV : okV V) (ho : oks [(0, x1)]) (fin : Int × VV) (hf : M_passes0 x1 V = some fin) : mSpec l yX4_passes0 cX4_passes0 3 (some .boolean) d 0 [(3, 0), (0, x1)] V fin := by
  refine m_enter (lv := [(0, (3, 0)), (1, (0, x1))]) (by decide) rfl (Nat.le_of_ble_eq_true rfl) rfl (fun Z hZ hX => ?_) hV (ho.c (okA.t 0)) fin hf
  unfold M_passes0
  refine m_aload_n hX 0 dX4_passes0_0 rfl rfl ?_
  refine m_aload_n hX 0 dX4_passes0_1 rfl rfl ?_
  refine fg_18 hX dX4_passes0_2 ?_
  refine cl_codeAt hX (by omega) (Nat.le_of_ble_eq_true rfl) dX4_passes0_5 fun r1 V2 => ?_
  refine m_iload_n hX 1 dX4_passes0_8 rfl rfl ?_
  refine m_join 17 (fun v3 => [(0, v3)]) (fun v3 => ?_) (fun hJ => ?_)
  · refine m_istore_n hX (lv' := [(2, (0, v3)), (0, (3, 0)), (1, (0, x1))]) dX4_passes0_17 rfl (by decide) rfl ?_
    refine m_iload_n hX 0 dX4_passes0_18 rfl rfl ?_
    refine m_if_eq hX 32 dX4_passes0_19 (by decide) (fun _ => ?_) (fun _ => ?_)
    · refine m_iload_n hX 0 dX4_passes0_32 rfl rfl ?_
      exact m_zret hX rfl dX4_passes0_33
    · refine m_aload_n hX 1 dX4_passes0_22 rfl rfl ?_
      refine m_dup hX dX4_passes0_23 rfl ?_
      refine fg_18 hX dX4_passes0_24 ?_
      refine m_ic hX dX4_passes0_27 (by decide) (by decide) ?_
      refine m_iadd hX dX4_passes0_28 ?_
      refine fp_18 hX dX4_passes0_29 fun V4 => ?_
      refine m_iload_n hX 0 dX4_passes0_32 rfl rfl ?_
      exact m_zret hX rfl dX4_passes0_33
  · refine m_icmp_neF hX 16 dX4_passes0_9 (by decide) (fun _ => ?_) (fun _ => ?_)
    · refine m_ic hX dX4_passes0_16 (by decide) (by decide) ?_
      exact hJ _
    · refine m_ic hX dX4_passes0_12 (by decide) (by decide) ?_
      refine m_goto hX 17 dX4_passes0_13 (by decide) ?_
      exact hJ _
theorem cl_passes0 {Z : MZ} {cc : ByteArray} {nL : Nat} {ret : Option FieldType} {d rk : Nat} {pc : Nat} {lv : List (Nat × AV)} {st : List AV} {V : VV} {g : Int → VV → Option (Int × VV)} (hX : MX Z cc nL ret d rk) {a0 : Int} (hdd : 3 ≤ d) (hcat : (st.map fun v => if v.1 = 1 then 2 else 1).sum ≤ 8) (hdg : decode cc pc = .ok (.invokevirtual 271, 3)) (kk : ∀ r V1, MG Z (pc + 3) lv ((0, r) :: st) V1 (g r V1)) : MG Z pc lv ((0, a0) :: (3, 0) :: st) V (mb (M_passes0 a0 V) g) :=
  m_callVi hX [(0, a0)] 1 (fun hV ho fin hf => WM_passes0 (zL Z) (Nat.le_refl 2) a0 V hV ho fin hf) (lw_V q2055 q2057 qs87 q131 q2058) (by decide +kernel) rfl (by omega) (by decide) rfl hcat hdg kk
noncomputable def M_bounded_25 (x1 : Int) (V : VV) : Option (Int × VV) := nm (α := Int) (if V 20 0 = 0 then x1 else 0) fun v1 => some (v1, V)
theorem WM_bounded_25 {Z : MZ} {d : Nat} (hX : MX Z cX4_bounded 4 (some .long) d 1) (hdd : 1 ≤ d) : ∀ x1 V, MG Z 25 [(0, (3, 0)), (1, (1, x1))] [] V (M_bounded_25 x1 V) := by
  intro x1 V
  unfold M_bounded_25
  refine m_aload_n hX 0 dX4_bounded_25 rfl rfl ?_
  refine fg_20 hX dX4_bounded_26 ?_
  refine m_join 37 (fun v1 => [(1, v1)]) (fun v1 => ?_) (fun hJ => ?_)
  · exact m_lret hX rfl dX4_bounded_37
  · refine m_if_eqF hX 36 dX4_bounded_29 (by decide) (fun _ => ?_) (fun _ => ?_)
    · refine m_lload_n hX 1 dX4_bounded_36 rfl rfl ?_
      exact hJ _
    · refine m_l0 hX dX4_bounded_32 ?_
      refine m_goto hX 37 dX4_bounded_33 (by decide) ?_
      exact hJ _
noncomputable def M_bounded_20 (x1 : Int) (V : VV) : Option (Int × VV) := nm (vup V 20 0 1) fun V1 => M_bounded_25 x1 V1
theorem WM_bounded_20 {Z : MZ} {d : Nat} (hX : MX Z cX4_bounded 4 (some .long) d 1) (hdd : 1 ≤ d) : ∀ x1 V, MG Z 20 [(0, (3, 0)), (1, (1, x1))] [] V (M_bounded_20 x1 V) := by
  intro x1 V
  unfold M_bounded_20
  refine m_aload_n hX 0 dX4_bounded_20 rfl rfl ?_
  refine m_ic hX dX4_bounded_21 (by decide) (by decide) ?_
  refine m_cb (b := 1) (by decide) ?_
  refine fp_20 hX dX4_bounded_22 fun V1 => ?_
  exact m_sub [0, 1] rfl (WM_bounded_25 hX hdd x1 V1)
noncomputable def M_bounded (x1 : Int) (x3 : Int) (V : VV) : Option (Int × VV) := if x3 = 0 then (M_bounded_25 x1 V) else (if 1000000000 < x1 then (M_bounded_20 x1 V) else (if (-1000000000) ≤ x1 then (M_bounded_25 x1 V) else (M_bounded_20 x1 V)))
theorem WM_bounded (l : Launch) {d : Nat} (hdd : 1 ≤ d) (x1 : Int) (x3 : Int) (V : VV) (hV : okV V) (ho : oks [(1, x1), (0, x3)]) (fin : Int × VV) (hf : M_bounded x1 x3 V = some fin) : mSpec l yX4_bounded cX4_bounded 4 (some .long) d 1 [(3, 0), (1, x1), (0, x3)] V fin := by
  refine m_enter (lv := [(0, (3, 0)), (1, (1, x1)), (3, (0, x3))]) (by decide) rfl (Nat.le_of_ble_eq_true rfl) rfl (fun Z hZ hX => ?_) hV (ho.c (okA.t 0)) fin hf
  unfold M_bounded
  refine m_iload_n hX 2 dX4_bounded_0 rfl rfl ?_
  refine m_if_eq hX 25 dX4_bounded_1 (by decide) (fun _ => ?_) (fun _ => ?_)
  · exact m_sub [0, 1] rfl (WM_bounded_25 hX hdd x1 V)
  · refine m_lload_n hX 1 dX4_bounded_4 rfl rfl ?_
    refine m_ldc2 hX (n := 1000000000) q2063 dX4_bounded_5 (by decide +kernel) ⟨by decide, by decide⟩ ?_
    refine m_lcmp_gt hX 20 dX4_bounded_8 dX4_bounded_9 (by decide) (fun _ => ?_) (fun _ => ?_)
    · exact m_sub [0, 1] rfl (WM_bounded_20 hX hdd x1 V)
    · refine m_lload_n hX 1 dX4_bounded_12 rfl rfl ?_
      refine m_ldc2 hX (n := -1000000000) q2064 dX4_bounded_13 (by decide +kernel) ⟨by decide, by decide⟩ ?_
      refine m_lcmp_ge hX 25 dX4_bounded_16 dX4_bounded_17 (by decide) (fun _ => ?_) (fun _ => ?_)
      · exact m_sub [0, 1] rfl (WM_bounded_25 hX hdd x1 V)
      · exact m_sub [0, 1] rfl (WM_bounded_20 hX hdd x1 V)
theorem cl_bounded {Z : MZ} {cc : ByteArray} {nL : Nat} {ret : Option FieldType} {d rk : Nat} {pc : Nat} {lv : List (Nat × AV)} {st : List AV} {V : VV} {g : Int → VV → Option (Int × VV)} (hX : MX Z cc nL ret d rk) {a0 a1 : Int} (hdd : 2 ≤ d) (hcat : (st.map fun v => if v.1 = 1 then 2 else 1).sum ≤ 8) (hdg : decode cc pc = .ok (.invokevirtual 264, 3)) (kk : ∀ r V1, MG Z (pc + 3) lv ((1, r) :: st) V1 (g r V1)) : MG Z pc lv ((0, a1) :: (1, a0) :: (3, 0) :: st) V (mb (M_bounded a0 a1 V) g) :=
  m_callVl hX [(1, a0), (0, a1)] 2 (fun hV ho fin hf => WM_bounded (zL Z) (Nat.le_refl 1) a0 a1 V hV ho fin hf) (lw_V q2059 q2061 qs88 q131 q2062) (by decide +kernel) rfl (by omega) (by decide) rfl hcat hdg kk
theorem cr_sumOf {Z : MZ} {cc : ByteArray} {nL : Nat} {ret : Option FieldType} {d rk : Nat} {pc : Nat} {lv : List (Nat × AV)} {st : List AV} {V : VV} {g : Int → VV → Option (Int × VV)} (hX : MX Z cc nL ret d rk) {a0 : Int} {dr : Nat} {R_sumOf : Int → VV → Option (Int × VV)} (hR : ∀ (a0 : Int) (V : VV), okV V → oks [(0, a0)] → ∀ fin, R_sumOf a0 V = some fin → mSpec (zL Z) yX4_sumOf cX4_sumOf 7 (some .long) dr 1 [(3, 0), (0, a0)] V fin) (hdd : dr + 1 ≤ d) (hcat : (st.map fun v => if v.1 = 1 then 2 else 1).sum ≤ 8) (hdg : decode cc pc = .ok (.invokevirtual 274, 3)) (kk : ∀ r V1, MG Z (pc + 3) lv ((1, r) :: st) V1 (g r V1)) : MG Z pc lv ((0, a0) :: (3, 0) :: st) V (mb (R_sumOf a0 V) g) :=
  m_callVl hX [(0, a0)] 1 (fun hV ho fin hf => hR a0 V hV ho fin hf) (lw_V q2043 q2045 qs84 q131 q2046) (by decide +kernel) rfl hdd (by decide) rfl hcat hdg kk
theorem cr_termOf {Z : MZ} {cc : ByteArray} {nL : Nat} {ret : Option FieldType} {d rk : Nat} {pc : Nat} {lv : List (Nat × AV)} {st : List AV} {V : VV} {g : Int → VV → Option (Int × VV)} (hX : MX Z cc nL ret d rk) {a0 : Int} {dr : Nat} {R_termOf : Int → VV → Option (Int × VV)} (hR : ∀ (a0 : Int) (V : VV), okV V → oks [(0, a0)] → ∀ fin, R_termOf a0 V = some fin → mSpec (zL Z) yX4_termOf cX4_termOf 7 (some .long) dr 1 [(3, 0), (0, a0)] V fin) (hdd : dr + 1 ≤ d) (hcat : (st.map fun v => if v.1 = 1 then 2 else 1).sum ≤ 8) (hdg : decode cc pc = .ok (.invokevirtual 260, 3)) (kk : ∀ r V1, MG Z (pc + 3) lv ((1, r) :: st) V1 (g r V1)) : MG Z pc lv ((0, a0) :: (3, 0) :: st) V (mb (R_termOf a0 V) g) :=
  m_callVl hX [(0, a0)] 1 (fun hV ho fin hf => hR a0 V hV ho fin hf) (lw_V q2047 q2049 qs85 q131 q2050) (by decide +kernel) rfl hdd (by decide) rfl hcat hdg kk
theorem cr_partOf {Z : MZ} {cc : ByteArray} {nL : Nat} {ret : Option FieldType} {d rk : Nat} {pc : Nat} {lv : List (Nat × AV)} {st : List AV} {V : VV} {g : Int → VV → Option (Int × VV)} (hX : MX Z cc nL ret d rk) {a0 : Int} {dr : Nat} {R_partOf : Int → VV → Option (Int × VV)} (hR : ∀ (a0 : Int) (V : VV), okV V → oks [(0, a0)] → ∀ fin, R_partOf a0 V = some fin → mSpec (zL Z) yX4_partOf cX4_partOf 4 (some .long) dr 1 [(3, 0), (0, a0)] V fin) (hdd : dr + 1 ≤ d) (hcat : (st.map fun v => if v.1 = 1 then 2 else 1).sum ≤ 8) (hdg : decode cc pc = .ok (.invokevirtual 268, 3)) (kk : ∀ r V1, MG Z (pc + 3) lv ((1, r) :: st) V1 (g r V1)) : MG Z pc lv ((0, a0) :: (3, 0) :: st) V (mb (R_partOf a0 V) g) :=
  m_callVl hX [(0, a0)] 1 (fun hV ho fin hf => hR a0 V hV ho fin hf) (lw_V q2051 q2053 qs86 q131 q2054) (by decide +kernel) rfl hdd (by decide) rfl hcat hdg kk
noncomputable def M_sumOf_38 (R_sumOf : Int → VV → Option (Int × VV)) (R_termOf : Int → VV → Option (Int × VV)) (R_partOf : Int → VV → Option (Int × VV)) (K6 : Int → Int → VV → Option (Int × VV)) (x1 : Int) (x2 : Int) (V : VV) : Option (Int × VV) := mb (M_codeAt (V 18 0) V) fun r1 V2 => mb (M_sign 43 V2) fun r3 V4 => nm (α := Int) (if r1 = r3 then 1 else 0) fun v5 => nm (vup V4 18 0 (w32 ((V4 18 0) + 1))) fun V6 => mb (R_termOf x1 V6) fun r7 V8 => nm (α := Int) (if v5 = 0 then w64 (x2 - r7) else w64 (x2 + r7)) fun v9 => mb (M_bounded v9 x1 V8) fun r10 V11 => K6 x1 r10 V11
theorem WM_sumOf_38 {Z : MZ} {d : Nat} {dr : Nat} (hX : MX Z cX4_sumOf 7 (some .long) d 1) (hdd : dr + 1 ≤ d ∧ 3 ≤ d) {R_sumOf : Int → VV → Option (Int × VV)} {R_termOf : Int → VV → Option (Int × VV)} {R_partOf : Int → VV → Option (Int × VV)} (hR_sumOf : ∀ (a0 : Int) (V : VV), okV V → oks [(0, a0)] → ∀ fin, R_sumOf a0 V = some fin → mSpec (zL Z) yX4_sumOf cX4_sumOf 7 (some .long) dr 1 [(3, 0), (0, a0)] V fin) (hR_termOf : ∀ (a0 : Int) (V : VV), okV V → oks [(0, a0)] → ∀ fin, R_termOf a0 V = some fin → mSpec (zL Z) yX4_termOf cX4_termOf 7 (some .long) dr 1 [(3, 0), (0, a0)] V fin) (hR_partOf : ∀ (a0 : Int) (V : VV), okV V → oks [(0, a0)] → ∀ fin, R_partOf a0 V = some fin → mSpec (zL Z) yX4_partOf cX4_partOf 4 (some .long) dr 1 [(3, 0), (0, a0)] V fin) {K6 : Int → Int → VV → Option (Int × VV)} (hK6 : ∀ x1 x2 V, MG Z 6 [(0, (3, 0)), (1, (0, x1)), (2, (1, x2))] [] V (K6 x1 x2 V)) : ∀ x1 x2 V, MG Z 38 [(0, (3, 0)), (1, (0, x1)), (2, (1, x2))] [] V (M_sumOf_38 R_sumOf R_termOf R_partOf K6 x1 x2 V) := by
  intro x1 x2 V
  unfold M_sumOf_38
  refine m_aload_n hX 0 dX4_sumOf_38 rfl rfl ?_
  refine m_aload_n hX 0 dX4_sumOf_39 rfl rfl ?_
  refine fg_18 hX dX4_sumOf_40 ?_
  refine cl_codeAt hX (by omega) (Nat.le_of_ble_eq_true rfl) dX4_sumOf_43 fun r1 V2 => ?_
  refine m_bp hX dX4_sumOf_46 (by decide) (by decide) ?_
  refine cl_sign hX (by omega) (Nat.le_of_ble_eq_true rfl) dX4_sumOf_48 fun r3 V4 => ?_
  refine m_join 59 (fun v5 => [(0, v5)]) (fun v5 => ?_) (fun hJ => ?_)
  · refine m_istore hX (lv' := [(4, (0, v5)), (0, (3, 0)), (1, (0, x1)), (2, (1, x2))]) dX4_sumOf_59 (by decide) rfl ?_
    refine m_aload_n hX 1 dX4_sumOf_61 rfl rfl ?_
    refine m_dup hX dX4_sumOf_62 rfl ?_
    refine fg_18 hX dX4_sumOf_63 ?_
    refine m_ic hX dX4_sumOf_66 (by decide) (by decide) ?_
    refine m_iadd hX dX4_sumOf_67 ?_
    refine fp_18 hX dX4_sumOf_68 fun V6 => ?_
    refine m_aload_n hX 1 dX4_sumOf_71 rfl rfl ?_
    refine m_iload_n hX 2 dX4_sumOf_72 rfl rfl ?_
    refine cr_termOf hX hR_termOf hdd.1 (Nat.le_of_ble_eq_true rfl) dX4_sumOf_73 fun r7 V8 => ?_
    refine m_lstore hX (lv' := [(5, (1, r7)), (4, (0, v5)), (0, (3, 0)), (1, (0, x1)), (2, (1, x2))]) dX4_sumOf_76 (by decide) rfl ?_
    refine m_aload_n hX 2 dX4_sumOf_78 rfl rfl ?_
    refine m_iload hX 1 dX4_sumOf_79 rfl ?_
    refine m_join 95 (fun v9 => [(1, v9), (3, 0)]) (fun v9 => ?_) (fun hJ => ?_)
    · refine m_iload_n hX 3 dX4_sumOf_95 rfl rfl ?_
      refine cl_bounded hX (by omega) (Nat.le_of_ble_eq_true rfl) dX4_sumOf_96 fun r10 V11 => ?_
      refine m_lstore_n hX (lv' := [(2, (1, r10)), (5, (1, r7)), (4, (0, v5)), (0, (3, 0)), (1, (0, x1))]) dX4_sumOf_99 rfl (by decide) rfl ?_
      refine m_goto hX 6 dX4_sumOf_100 (by decide) ?_
      exact m_sub [3, 4, 0] rfl (hK6 x1 r10 V11)
    · refine m_if_eqF hX 91 dX4_sumOf_81 (by decide) (fun _ => ?_) (fun _ => ?_)
      · refine m_lload_n hX 4 dX4_sumOf_91 rfl rfl ?_
        refine m_lload hX 0 dX4_sumOf_92 rfl ?_
        refine m_lsub hX dX4_sumOf_94 ?_
        exact hJ _
      · refine m_lload_n hX 4 dX4_sumOf_84 rfl rfl ?_
        refine m_lload hX 0 dX4_sumOf_85 rfl ?_
        refine m_ladd hX dX4_sumOf_87 ?_
        refine m_goto hX 95 dX4_sumOf_88 (by decide) ?_
        exact hJ _
  · refine m_icmp_neF hX 58 dX4_sumOf_51 (by decide) (fun _ => ?_) (fun _ => ?_)
    · refine m_ic hX dX4_sumOf_58 (by decide) (by decide) ?_
      exact hJ _
    · refine m_ic hX dX4_sumOf_54 (by decide) (by decide) ?_
      refine m_goto hX 59 dX4_sumOf_55 (by decide) ?_
      exact hJ _
noncomputable def M_sumOf_6 (R_sumOf : Int → VV → Option (Int × VV)) (R_termOf : Int → VV → Option (Int × VV)) (R_partOf : Int → VV → Option (Int × VV)) : Nat → Int → Int → VV → Option (Int × VV)
  | 0, _, _, _ => none
  | n + 1, x1, x2, V => mb (M_codeAt (V 18 0) V) fun r1 V2 => mb (M_sign 43 V2) fun r3 V4 => if r1 = r3 then (M_sumOf_38 R_sumOf R_termOf R_partOf (M_sumOf_6 R_sumOf R_termOf R_partOf n) x1 x2 V4) else (mb (M_codeAt (V4 18 0) V4) fun r5 V6 => mb (M_sign 45 V6) fun r7 V8 => if r5 = r7 then (M_sumOf_38 R_sumOf R_termOf R_partOf (M_sumOf_6 R_sumOf R_termOf R_partOf n) x1 x2 V8) else (some (x2, V8)))
theorem WM_sumOf_6 {Z : MZ} {d : Nat} {dr : Nat} (hX : MX Z cX4_sumOf 7 (some .long) d 1) (hdd : dr + 1 ≤ d ∧ 3 ≤ d) {R_sumOf : Int → VV → Option (Int × VV)} {R_termOf : Int → VV → Option (Int × VV)} {R_partOf : Int → VV → Option (Int × VV)} (hR_sumOf : ∀ (a0 : Int) (V : VV), okV V → oks [(0, a0)] → ∀ fin, R_sumOf a0 V = some fin → mSpec (zL Z) yX4_sumOf cX4_sumOf 7 (some .long) dr 1 [(3, 0), (0, a0)] V fin) (hR_termOf : ∀ (a0 : Int) (V : VV), okV V → oks [(0, a0)] → ∀ fin, R_termOf a0 V = some fin → mSpec (zL Z) yX4_termOf cX4_termOf 7 (some .long) dr 1 [(3, 0), (0, a0)] V fin) (hR_partOf : ∀ (a0 : Int) (V : VV), okV V → oks [(0, a0)] → ∀ fin, R_partOf a0 V = some fin → mSpec (zL Z) yX4_partOf cX4_partOf 4 (some .long) dr 1 [(3, 0), (0, a0)] V fin) : ∀ n x1 x2 V, MG Z 6 [(0, (3, 0)), (1, (0, x1)), (2, (1, x2))] [] V (M_sumOf_6 R_sumOf R_termOf R_partOf n x1 x2 V) := by
  intro n
  induction n with
  | zero => intro x1 x2 V; exact m_none
  | succ n ih =>
    intro x1 x2 V
    rw [M_sumOf_6]
    refine m_aload_n hX 0 dX4_sumOf_6 rfl rfl ?_
    refine m_aload_n hX 0 dX4_sumOf_7 rfl rfl ?_
    refine fg_18 hX dX4_sumOf_8 ?_
    refine cl_codeAt hX (by omega) (Nat.le_of_ble_eq_true rfl) dX4_sumOf_11 fun r1 V2 => ?_
    refine m_bp hX dX4_sumOf_14 (by decide) (by decide) ?_
    refine cl_sign hX (by omega) (Nat.le_of_ble_eq_true rfl) dX4_sumOf_16 fun r3 V4 => ?_
    refine m_icmp_eq hX 38 dX4_sumOf_19 (by decide) (fun _ => ?_) (fun _ => ?_)
    · exact m_sub [0, 1, 2] rfl (WM_sumOf_38 hX hdd hR_sumOf hR_termOf hR_partOf ih x1 x2 V4)
    · refine m_aload_n hX 0 dX4_sumOf_22 rfl rfl ?_
      refine m_aload_n hX 0 dX4_sumOf_23 rfl rfl ?_
      refine fg_18 hX dX4_sumOf_24 ?_
      refine cl_codeAt hX (by omega) (Nat.le_of_ble_eq_true rfl) dX4_sumOf_27 fun r5 V6 => ?_
      refine m_bp hX dX4_sumOf_30 (by decide) (by decide) ?_
      refine cl_sign hX (by omega) (Nat.le_of_ble_eq_true rfl) dX4_sumOf_32 fun r7 V8 => ?_
      refine m_icmp_ne hX 103 dX4_sumOf_35 (by decide) (fun _ => ?_) (fun _ => ?_)
      · refine m_lload_n hX 2 dX4_sumOf_103 rfl rfl ?_
        exact m_lret hX rfl dX4_sumOf_104
      · exact m_sub [0, 1, 2] rfl (WM_sumOf_38 hX hdd hR_sumOf hR_termOf hR_partOf ih x1 x2 V8)
noncomputable def M_sumOf_b (R_sumOf : Int → VV → Option (Int × VV)) (R_termOf : Int → VV → Option (Int × VV)) (R_partOf : Int → VV → Option (Int × VV)) (x1 : Int) (V : VV) : Option (Int × VV) := mb (R_termOf x1 V) fun r1 V2 => M_sumOf_6 R_sumOf R_termOf R_partOf FU x1 r1 V2
theorem WM_sumOf_b (l : Launch) {d dr : Nat} (hdd : dr + 1 ≤ d ∧ 3 ≤ d) {R_sumOf : Int → VV → Option (Int × VV)} {R_termOf : Int → VV → Option (Int × VV)} {R_partOf : Int → VV → Option (Int × VV)} (hR_sumOf : ∀ (a0 : Int) (V : VV), okV V → oks [(0, a0)] → ∀ fin, R_sumOf a0 V = some fin → mSpec (l) yX4_sumOf cX4_sumOf 7 (some .long) dr 1 [(3, 0), (0, a0)] V fin) (hR_termOf : ∀ (a0 : Int) (V : VV), okV V → oks [(0, a0)] → ∀ fin, R_termOf a0 V = some fin → mSpec (l) yX4_termOf cX4_termOf 7 (some .long) dr 1 [(3, 0), (0, a0)] V fin) (hR_partOf : ∀ (a0 : Int) (V : VV), okV V → oks [(0, a0)] → ∀ fin, R_partOf a0 V = some fin → mSpec (l) yX4_partOf cX4_partOf 4 (some .long) dr 1 [(3, 0), (0, a0)] V fin) (x1 : Int) (V : VV) (hV : okV V) (ho : oks [(0, x1)]) (fin : Int × VV) (hf : M_sumOf_b R_sumOf R_termOf R_partOf x1 V = some fin) : mSpec l yX4_sumOf cX4_sumOf 7 (some .long) d 1 [(3, 0), (0, x1)] V fin := by
  refine m_enter (lv := [(0, (3, 0)), (1, (0, x1))]) (by decide) rfl (Nat.le_of_ble_eq_true rfl) rfl (fun Z hZ hX => ?_) hV (ho.c (okA.t 0)) fin hf
  subst hZ
  unfold M_sumOf_b
  refine m_aload_n hX 0 dX4_sumOf_0 rfl rfl ?_
  refine m_iload_n hX 1 dX4_sumOf_1 rfl rfl ?_
  refine cr_termOf hX hR_termOf hdd.1 (Nat.le_of_ble_eq_true rfl) dX4_sumOf_2 fun r1 V2 => ?_
  refine m_lstore_n hX (lv' := [(2, (1, r1)), (0, (3, 0)), (1, (0, x1))]) dX4_sumOf_5 rfl (by decide) rfl ?_
  exact m_sub [1, 2, 0] rfl (WM_sumOf_6 hX hdd hR_sumOf hR_termOf hR_partOf FU x1 r1 V2)
noncomputable def M_termOf_130 (R_sumOf : Int → VV → Option (Int × VV)) (R_termOf : Int → VV → Option (Int × VV)) (R_partOf : Int → VV → Option (Int × VV)) (K6 : Int → Int → VV → Option (Int × VV)) (s1 : Int) (x1 : Int) (V : VV) : Option (Int × VV) := mb (M_bounded s1 x1 V) fun r1 V2 => K6 x1 r1 V2
theorem WM_termOf_130 {Z : MZ} {d : Nat} {dr : Nat} (hX : MX Z cX4_termOf 7 (some .long) d 1) (hdd : dr + 1 ≤ d ∧ 3 ≤ d) {R_sumOf : Int → VV → Option (Int × VV)} {R_termOf : Int → VV → Option (Int × VV)} {R_partOf : Int → VV → Option (Int × VV)} (hR_sumOf : ∀ (a0 : Int) (V : VV), okV V → oks [(0, a0)] → ∀ fin, R_sumOf a0 V = some fin → mSpec (zL Z) yX4_sumOf cX4_sumOf 7 (some .long) dr 1 [(3, 0), (0, a0)] V fin) (hR_termOf : ∀ (a0 : Int) (V : VV), okV V → oks [(0, a0)] → ∀ fin, R_termOf a0 V = some fin → mSpec (zL Z) yX4_termOf cX4_termOf 7 (some .long) dr 1 [(3, 0), (0, a0)] V fin) (hR_partOf : ∀ (a0 : Int) (V : VV), okV V → oks [(0, a0)] → ∀ fin, R_partOf a0 V = some fin → mSpec (zL Z) yX4_partOf cX4_partOf 4 (some .long) dr 1 [(3, 0), (0, a0)] V fin) {K6 : Int → Int → VV → Option (Int × VV)} (hK6 : ∀ x1 x2 V, MG Z 6 [(0, (3, 0)), (1, (0, x1)), (2, (1, x2))] [] V (K6 x1 x2 V)) : ∀ s1 x1 V, MG Z 130 [(0, (3, 0)), (1, (0, x1))] [(1, s1), (3, 0)] V (M_termOf_130 R_sumOf R_termOf R_partOf K6 s1 x1 V) := by
  intro s1 x1 V
  unfold M_termOf_130
  refine m_iload_n hX 1 dX4_termOf_130 rfl rfl ?_
  refine cl_bounded hX (by omega) (Nat.le_of_ble_eq_true rfl) dX4_termOf_131 fun r1 V2 => ?_
  refine m_lstore_n hX (lv' := [(2, (1, r1)), (0, (3, 0)), (1, (0, x1))]) dX4_termOf_134 rfl (by decide) rfl ?_
  refine m_goto hX 6 dX4_termOf_135 (by decide) ?_
  exact m_sub [1, 2, 0] rfl (hK6 x1 r1 V2)
noncomputable def M_termOf_113 (R_sumOf : Int → VV → Option (Int × VV)) (R_termOf : Int → VV → Option (Int × VV)) (R_partOf : Int → VV → Option (Int × VV)) (K6 : Int → Int → VV → Option (Int × VV)) (x1 : Int) (x2 : Int) (x4 : Int) (x5 : Int) (V : VV) : Option (Int × VV) := if x4 = 0 then (cz x5 <| M_termOf_130 R_sumOf R_termOf R_partOf K6 (w64 (x2.tdiv x5)) x1 V) else (M_termOf_130 R_sumOf R_termOf R_partOf K6 (w64 (x2 * x5)) x1 V)
theorem WM_termOf_113 {Z : MZ} {d : Nat} {dr : Nat} (hX : MX Z cX4_termOf 7 (some .long) d 1) (hdd : dr + 1 ≤ d ∧ 3 ≤ d) {R_sumOf : Int → VV → Option (Int × VV)} {R_termOf : Int → VV → Option (Int × VV)} {R_partOf : Int → VV → Option (Int × VV)} (hR_sumOf : ∀ (a0 : Int) (V : VV), okV V → oks [(0, a0)] → ∀ fin, R_sumOf a0 V = some fin → mSpec (zL Z) yX4_sumOf cX4_sumOf 7 (some .long) dr 1 [(3, 0), (0, a0)] V fin) (hR_termOf : ∀ (a0 : Int) (V : VV), okV V → oks [(0, a0)] → ∀ fin, R_termOf a0 V = some fin → mSpec (zL Z) yX4_termOf cX4_termOf 7 (some .long) dr 1 [(3, 0), (0, a0)] V fin) (hR_partOf : ∀ (a0 : Int) (V : VV), okV V → oks [(0, a0)] → ∀ fin, R_partOf a0 V = some fin → mSpec (zL Z) yX4_partOf cX4_partOf 4 (some .long) dr 1 [(3, 0), (0, a0)] V fin) {K6 : Int → Int → VV → Option (Int × VV)} (hK6 : ∀ x1 x2 V, MG Z 6 [(0, (3, 0)), (1, (0, x1)), (2, (1, x2))] [] V (K6 x1 x2 V)) : ∀ x1 x2 x4 x5 V, MG Z 113 [(0, (3, 0)), (1, (0, x1)), (2, (1, x2)), (4, (0, x4)), (5, (1, x5))] [] V (M_termOf_113 R_sumOf R_termOf R_partOf K6 x1 x2 x4 x5 V) := by
  intro x1 x2 x4 x5 V
  unfold M_termOf_113
  refine m_aload_n hX 0 dX4_termOf_113 rfl rfl ?_
  refine m_iload hX 3 dX4_termOf_114 rfl ?_
  refine m_if_eq hX 126 dX4_termOf_116 (by decide) (fun _ => ?_) (fun _ => ?_)
  · refine m_lload_n hX 2 dX4_termOf_126 rfl rfl ?_
    refine m_lload hX 4 dX4_termOf_127 rfl ?_
    refine m_ldiv hX dX4_termOf_129 ?_
    exact m_sub [0, 1] rfl (WM_termOf_130 hX hdd hR_sumOf hR_termOf hR_partOf hK6 (w64 (x2.tdiv x5)) x1 V)
  · refine m_lload_n hX 2 dX4_termOf_119 rfl rfl ?_
    refine m_lload hX 4 dX4_termOf_120 rfl ?_
    refine m_lmul hX dX4_termOf_122 ?_
    refine m_goto hX 130 dX4_termOf_123 (by decide) ?_
    exact m_sub [0, 1] rfl (WM_termOf_130 hX hdd hR_sumOf hR_termOf hR_partOf hK6 (w64 (x2 * x5)) x1 V)
noncomputable def M_termOf_38 (R_sumOf : Int → VV → Option (Int × VV)) (R_termOf : Int → VV → Option (Int × VV)) (R_partOf : Int → VV → Option (Int × VV)) (K6 : Int → Int → VV → Option (Int × VV)) (x1 : Int) (x2 : Int) (V : VV) : Option (Int × VV) := mb (M_codeAt (V 18 0) V) fun r1 V2 => mb (M_sign 42 V2) fun r3 V4 => nm (α := Int) (if r1 = r3 then 1 else 0) fun v5 => nm (vup V4 18 0 (w32 ((V4 18 0) + 1))) fun V6 => mb (R_partOf x1 V6) fun r7 V8 => if v5 = 0 then (if r7 = 0 then (nm (α := Int) (if V8 20 0 = 0 then (if x1 = 0 then 0 else 1) else 1) fun v9 => cb v9 <| nm (vup V8 20 0 v9) fun V10 => M_termOf_113 R_sumOf R_termOf R_partOf K6 x1 x2 v5 1 V10) else (M_termOf_113 R_sumOf R_termOf R_partOf K6 x1 x2 v5 r7 V8)) else (M_termOf_113 R_sumOf R_termOf R_partOf K6 x1 x2 v5 r7 V8)
theorem WM_termOf_38 {Z : MZ} {d : Nat} {dr : Nat} (hX : MX Z cX4_termOf 7 (some .long) d 1) (hdd : dr + 1 ≤ d ∧ 3 ≤ d) {R_sumOf : Int → VV → Option (Int × VV)} {R_termOf : Int → VV → Option (Int × VV)} {R_partOf : Int → VV → Option (Int × VV)} (hR_sumOf : ∀ (a0 : Int) (V : VV), okV V → oks [(0, a0)] → ∀ fin, R_sumOf a0 V = some fin → mSpec (zL Z) yX4_sumOf cX4_sumOf 7 (some .long) dr 1 [(3, 0), (0, a0)] V fin) (hR_termOf : ∀ (a0 : Int) (V : VV), okV V → oks [(0, a0)] → ∀ fin, R_termOf a0 V = some fin → mSpec (zL Z) yX4_termOf cX4_termOf 7 (some .long) dr 1 [(3, 0), (0, a0)] V fin) (hR_partOf : ∀ (a0 : Int) (V : VV), okV V → oks [(0, a0)] → ∀ fin, R_partOf a0 V = some fin → mSpec (zL Z) yX4_partOf cX4_partOf 4 (some .long) dr 1 [(3, 0), (0, a0)] V fin) {K6 : Int → Int → VV → Option (Int × VV)} (hK6 : ∀ x1 x2 V, MG Z 6 [(0, (3, 0)), (1, (0, x1)), (2, (1, x2))] [] V (K6 x1 x2 V)) : ∀ x1 x2 V, MG Z 38 [(0, (3, 0)), (1, (0, x1)), (2, (1, x2))] [] V (M_termOf_38 R_sumOf R_termOf R_partOf K6 x1 x2 V) := by
  intro x1 x2 V
  unfold M_termOf_38
  refine m_aload_n hX 0 dX4_termOf_38 rfl rfl ?_
  refine m_aload_n hX 0 dX4_termOf_39 rfl rfl ?_
  refine fg_18 hX dX4_termOf_40 ?_
  refine cl_codeAt hX (by omega) (Nat.le_of_ble_eq_true rfl) dX4_termOf_43 fun r1 V2 => ?_
  refine m_bp hX dX4_termOf_46 (by decide) (by decide) ?_
  refine cl_sign hX (by omega) (Nat.le_of_ble_eq_true rfl) dX4_termOf_48 fun r3 V4 => ?_
  refine m_join 59 (fun v5 => [(0, v5)]) (fun v5 => ?_) (fun hJ => ?_)
  · refine m_istore hX (lv' := [(4, (0, v5)), (0, (3, 0)), (1, (0, x1)), (2, (1, x2))]) dX4_termOf_59 (by decide) rfl ?_
    refine m_aload_n hX 1 dX4_termOf_61 rfl rfl ?_
    refine m_dup hX dX4_termOf_62 rfl ?_
    refine fg_18 hX dX4_termOf_63 ?_
    refine m_ic hX dX4_termOf_66 (by decide) (by decide) ?_
    refine m_iadd hX dX4_termOf_67 ?_
    refine fp_18 hX dX4_termOf_68 fun V6 => ?_
    refine m_aload_n hX 1 dX4_termOf_71 rfl rfl ?_
    refine m_iload_n hX 2 dX4_termOf_72 rfl rfl ?_
    refine cr_partOf hX hR_partOf hdd.1 (Nat.le_of_ble_eq_true rfl) dX4_termOf_73 fun r7 V8 => ?_
    refine m_lstore hX (lv' := [(5, (1, r7)), (4, (0, v5)), (0, (3, 0)), (1, (0, x1)), (2, (1, x2))]) dX4_termOf_76 (by decide) rfl ?_
    refine m_iload hX 1 dX4_termOf_78 rfl ?_
    refine m_if_ne hX 113 dX4_termOf_80 (by decide) (fun _ => ?_) (fun _ => ?_)
    · exact m_sub [2, 3, 4, 1, 0] rfl (WM_termOf_113 hX hdd hR_sumOf hR_termOf hR_partOf hK6 x1 x2 v5 r7 V8)
    · refine m_lload hX 0 dX4_termOf_83 rfl ?_
      refine m_l0 hX dX4_termOf_85 ?_
      refine m_lcmp_ne hX 113 dX4_termOf_86 dX4_termOf_87 (by decide) (fun _ => ?_) (fun _ => ?_)
      · exact m_sub [2, 3, 4, 1, 0] rfl (WM_termOf_113 hX hdd hR_sumOf hR_termOf hR_partOf hK6 x1 x2 v5 r7 V8)
      · refine m_aload_n hX 2 dX4_termOf_90 rfl rfl ?_
        refine m_aload_n hX 2 dX4_termOf_91 rfl rfl ?_
        refine fg_20 hX dX4_termOf_92 ?_
        refine m_join 107 (fun v9 => [(0, v9), (3, 0)]) (fun v9 => ?_) (fun hJ => ?_)
        · refine fp_20 hX dX4_termOf_107 fun V10 => ?_
          refine m_l1 hX dX4_termOf_110 ?_
          refine m_lstore hX (lv' := [(5, (1, 1)), (4, (0, v5)), (0, (3, 0)), (1, (0, x1)), (2, (1, x2))]) dX4_termOf_111 (by decide) rfl ?_
          exact m_sub [2, 3, 4, 1, 0] rfl (WM_termOf_113 hX hdd hR_sumOf hR_termOf hR_partOf hK6 x1 x2 v5 1 V10)
        · refine m_if_neF hX 102 dX4_termOf_95 (by decide) (fun _ => ?_) (fun _ => ?_)
          · refine m_ic hX dX4_termOf_102 (by decide) (by decide) ?_
            refine m_goto hX 107 dX4_termOf_103 (by decide) ?_
            exact hJ _
          · refine m_iload_n hX 3 dX4_termOf_98 rfl rfl ?_
            refine m_if_eqF hX 106 dX4_termOf_99 (by decide) (fun _ => ?_) (fun _ => ?_)
            · refine m_ic hX dX4_termOf_106 (by decide) (by decide) ?_
              exact hJ _
            · refine m_ic hX dX4_termOf_102 (by decide) (by decide) ?_
              refine m_goto hX 107 dX4_termOf_103 (by decide) ?_
              exact hJ _
  · refine m_icmp_neF hX 58 dX4_termOf_51 (by decide) (fun _ => ?_) (fun _ => ?_)
    · refine m_ic hX dX4_termOf_58 (by decide) (by decide) ?_
      exact hJ _
    · refine m_ic hX dX4_termOf_54 (by decide) (by decide) ?_
      refine m_goto hX 59 dX4_termOf_55 (by decide) ?_
      exact hJ _
noncomputable def M_termOf_6 (R_sumOf : Int → VV → Option (Int × VV)) (R_termOf : Int → VV → Option (Int × VV)) (R_partOf : Int → VV → Option (Int × VV)) : Nat → Int → Int → VV → Option (Int × VV)
  | 0, _, _, _ => none
  | n + 1, x1, x2, V => mb (M_codeAt (V 18 0) V) fun r1 V2 => mb (M_sign 42 V2) fun r3 V4 => if r1 = r3 then (M_termOf_38 R_sumOf R_termOf R_partOf (M_termOf_6 R_sumOf R_termOf R_partOf n) x1 x2 V4) else (mb (M_codeAt (V4 18 0) V4) fun r5 V6 => mb (M_sign 47 V6) fun r7 V8 => if r5 = r7 then (M_termOf_38 R_sumOf R_termOf R_partOf (M_termOf_6 R_sumOf R_termOf R_partOf n) x1 x2 V8) else (some (x2, V8)))
theorem WM_termOf_6 {Z : MZ} {d : Nat} {dr : Nat} (hX : MX Z cX4_termOf 7 (some .long) d 1) (hdd : dr + 1 ≤ d ∧ 3 ≤ d) {R_sumOf : Int → VV → Option (Int × VV)} {R_termOf : Int → VV → Option (Int × VV)} {R_partOf : Int → VV → Option (Int × VV)} (hR_sumOf : ∀ (a0 : Int) (V : VV), okV V → oks [(0, a0)] → ∀ fin, R_sumOf a0 V = some fin → mSpec (zL Z) yX4_sumOf cX4_sumOf 7 (some .long) dr 1 [(3, 0), (0, a0)] V fin) (hR_termOf : ∀ (a0 : Int) (V : VV), okV V → oks [(0, a0)] → ∀ fin, R_termOf a0 V = some fin → mSpec (zL Z) yX4_termOf cX4_termOf 7 (some .long) dr 1 [(3, 0), (0, a0)] V fin) (hR_partOf : ∀ (a0 : Int) (V : VV), okV V → oks [(0, a0)] → ∀ fin, R_partOf a0 V = some fin → mSpec (zL Z) yX4_partOf cX4_partOf 4 (some .long) dr 1 [(3, 0), (0, a0)] V fin) : ∀ n x1 x2 V, MG Z 6 [(0, (3, 0)), (1, (0, x1)), (2, (1, x2))] [] V (M_termOf_6 R_sumOf R_termOf R_partOf n x1 x2 V) := by
  intro n
  induction n with
  | zero => intro x1 x2 V; exact m_none
  | succ n ih =>
    intro x1 x2 V
    rw [M_termOf_6]
    refine m_aload_n hX 0 dX4_termOf_6 rfl rfl ?_
    refine m_aload_n hX 0 dX4_termOf_7 rfl rfl ?_
    refine fg_18 hX dX4_termOf_8 ?_
    refine cl_codeAt hX (by omega) (Nat.le_of_ble_eq_true rfl) dX4_termOf_11 fun r1 V2 => ?_
    refine m_bp hX dX4_termOf_14 (by decide) (by decide) ?_
    refine cl_sign hX (by omega) (Nat.le_of_ble_eq_true rfl) dX4_termOf_16 fun r3 V4 => ?_
    refine m_icmp_eq hX 38 dX4_termOf_19 (by decide) (fun _ => ?_) (fun _ => ?_)
    · exact m_sub [0, 1, 2] rfl (WM_termOf_38 hX hdd hR_sumOf hR_termOf hR_partOf ih x1 x2 V4)
    · refine m_aload_n hX 0 dX4_termOf_22 rfl rfl ?_
      refine m_aload_n hX 0 dX4_termOf_23 rfl rfl ?_
      refine fg_18 hX dX4_termOf_24 ?_
      refine cl_codeAt hX (by omega) (Nat.le_of_ble_eq_true rfl) dX4_termOf_27 fun r5 V6 => ?_
      refine m_bp hX dX4_termOf_30 (by decide) (by decide) ?_
      refine cl_sign hX (by omega) (Nat.le_of_ble_eq_true rfl) dX4_termOf_32 fun r7 V8 => ?_
      refine m_icmp_ne hX 138 dX4_termOf_35 (by decide) (fun _ => ?_) (fun _ => ?_)
      · refine m_lload_n hX 2 dX4_termOf_138 rfl rfl ?_
        exact m_lret hX rfl dX4_termOf_139
      · exact m_sub [0, 1, 2] rfl (WM_termOf_38 hX hdd hR_sumOf hR_termOf hR_partOf ih x1 x2 V8)
noncomputable def M_termOf_b (R_sumOf : Int → VV → Option (Int × VV)) (R_termOf : Int → VV → Option (Int × VV)) (R_partOf : Int → VV → Option (Int × VV)) (x1 : Int) (V : VV) : Option (Int × VV) := mb (R_partOf x1 V) fun r1 V2 => M_termOf_6 R_sumOf R_termOf R_partOf FU x1 r1 V2
theorem WM_termOf_b (l : Launch) {d dr : Nat} (hdd : dr + 1 ≤ d ∧ 3 ≤ d) {R_sumOf : Int → VV → Option (Int × VV)} {R_termOf : Int → VV → Option (Int × VV)} {R_partOf : Int → VV → Option (Int × VV)} (hR_sumOf : ∀ (a0 : Int) (V : VV), okV V → oks [(0, a0)] → ∀ fin, R_sumOf a0 V = some fin → mSpec (l) yX4_sumOf cX4_sumOf 7 (some .long) dr 1 [(3, 0), (0, a0)] V fin) (hR_termOf : ∀ (a0 : Int) (V : VV), okV V → oks [(0, a0)] → ∀ fin, R_termOf a0 V = some fin → mSpec (l) yX4_termOf cX4_termOf 7 (some .long) dr 1 [(3, 0), (0, a0)] V fin) (hR_partOf : ∀ (a0 : Int) (V : VV), okV V → oks [(0, a0)] → ∀ fin, R_partOf a0 V = some fin → mSpec (l) yX4_partOf cX4_partOf 4 (some .long) dr 1 [(3, 0), (0, a0)] V fin) (x1 : Int) (V : VV) (hV : okV V) (ho : oks [(0, x1)]) (fin : Int × VV) (hf : M_termOf_b R_sumOf R_termOf R_partOf x1 V = some fin) : mSpec l yX4_termOf cX4_termOf 7 (some .long) d 1 [(3, 0), (0, x1)] V fin := by
  refine m_enter (lv := [(0, (3, 0)), (1, (0, x1))]) (by decide) rfl (Nat.le_of_ble_eq_true rfl) rfl (fun Z hZ hX => ?_) hV (ho.c (okA.t 0)) fin hf
  subst hZ
  unfold M_termOf_b
  refine m_aload_n hX 0 dX4_termOf_0 rfl rfl ?_
  refine m_iload_n hX 1 dX4_termOf_1 rfl rfl ?_
  refine cr_partOf hX hR_partOf hdd.1 (Nat.le_of_ble_eq_true rfl) dX4_termOf_2 fun r1 V2 => ?_
  refine m_lstore_n hX (lv' := [(2, (1, r1)), (0, (3, 0)), (1, (0, x1))]) dX4_termOf_5 rfl (by decide) rfl ?_
  exact m_sub [1, 2, 0] rfl (WM_termOf_6 hX hdd hR_sumOf hR_termOf hR_partOf FU x1 r1 V2)
noncomputable def M_partOf_b (R_sumOf : Int → VV → Option (Int × VV)) (R_termOf : Int → VV → Option (Int × VV)) (R_partOf : Int → VV → Option (Int × VV)) (x1 : Int) (V : VV) : Option (Int × VV) := mb (M_sign 91 V) fun r1 V2 => mb (M_passes0 r1 V2) fun r3 V4 => if r3 = 0 then (mb (M_codeAt (V4 18 0) V4) fun r5 V6 => nm (vup V6 18 0 (w32 ((V6 18 0) + 1))) fun V7 => if x1 = 0 then (some (0, V7)) else (if V7 20 0 = 0 then (if r5 = 50 then (ck (w32 ((w32 (2801 + (V7 18 0))) - 1)) 5201 <| some (V7 3 (w32 ((w32 (2801 + (V7 18 0))) - 1)), V7)) else (ck (w32 (r5 - 8)) 7 <| some (V7 21 (w32 (r5 - 8)), V7))) else (some (0, V7)))) else (mb (R_sumOf x1 V4) fun r8 V9 => nm (vup V9 18 0 (w32 ((V9 18 0) + 1))) fun V10 => some (r8, V10))
theorem WM_partOf_b (l : Launch) {d dr : Nat} (hdd : dr + 1 ≤ d ∧ 3 ≤ d) {R_sumOf : Int → VV → Option (Int × VV)} {R_termOf : Int → VV → Option (Int × VV)} {R_partOf : Int → VV → Option (Int × VV)} (hR_sumOf : ∀ (a0 : Int) (V : VV), okV V → oks [(0, a0)] → ∀ fin, R_sumOf a0 V = some fin → mSpec (l) yX4_sumOf cX4_sumOf 7 (some .long) dr 1 [(3, 0), (0, a0)] V fin) (hR_termOf : ∀ (a0 : Int) (V : VV), okV V → oks [(0, a0)] → ∀ fin, R_termOf a0 V = some fin → mSpec (l) yX4_termOf cX4_termOf 7 (some .long) dr 1 [(3, 0), (0, a0)] V fin) (hR_partOf : ∀ (a0 : Int) (V : VV), okV V → oks [(0, a0)] → ∀ fin, R_partOf a0 V = some fin → mSpec (l) yX4_partOf cX4_partOf 4 (some .long) dr 1 [(3, 0), (0, a0)] V fin) (x1 : Int) (V : VV) (hV : okV V) (ho : oks [(0, x1)]) (fin : Int × VV) (hf : M_partOf_b R_sumOf R_termOf R_partOf x1 V = some fin) : mSpec l yX4_partOf cX4_partOf 4 (some .long) d 1 [(3, 0), (0, x1)] V fin := by
  refine m_enter (lv := [(0, (3, 0)), (1, (0, x1))]) (by decide) rfl (Nat.le_of_ble_eq_true rfl) rfl (fun Z hZ hX => ?_) hV (ho.c (okA.t 0)) fin hf
  subst hZ
  unfold M_partOf_b
  refine m_aload_n hX 0 dX4_partOf_0 rfl rfl ?_
  refine m_bp hX dX4_partOf_1 (by decide) (by decide) ?_
  refine cl_sign hX (by omega) (Nat.le_of_ble_eq_true rfl) dX4_partOf_3 fun r1 V2 => ?_
  refine cl_passes0 hX (by omega) (Nat.le_of_ble_eq_true rfl) dX4_partOf_6 fun r3 V4 => ?_
  refine m_if_eq hX 30 dX4_partOf_9 (by decide) (fun _ => ?_) (fun _ => ?_)
  · refine m_aload_n hX 0 dX4_partOf_30 rfl rfl ?_
    refine m_aload_n hX 0 dX4_partOf_31 rfl rfl ?_
    refine fg_18 hX dX4_partOf_32 ?_
    refine cl_codeAt hX (by omega) (Nat.le_of_ble_eq_true rfl) dX4_partOf_35 fun r5 V6 => ?_
    refine m_istore_n hX (lv' := [(2, (0, r5)), (0, (3, 0)), (1, (0, x1))]) dX4_partOf_38 rfl (by decide) rfl ?_
    refine m_aload_n hX 1 dX4_partOf_39 rfl rfl ?_
    refine m_dup hX dX4_partOf_40 rfl ?_
    refine fg_18 hX dX4_partOf_41 ?_
    refine m_ic hX dX4_partOf_44 (by decide) (by decide) ?_
    refine m_iadd hX dX4_partOf_45 ?_
    refine fp_18 hX dX4_partOf_46 fun V7 => ?_
    refine m_iload_n hX 2 dX4_partOf_49 rfl rfl ?_
    refine m_if_eq hX 60 dX4_partOf_50 (by decide) (fun _ => ?_) (fun _ => ?_)
    · refine m_l0 hX dX4_partOf_60 ?_
      exact m_lret hX rfl dX4_partOf_61
    · refine m_aload_n hX 1 dX4_partOf_53 rfl rfl ?_
      refine fg_20 hX dX4_partOf_54 ?_
      refine m_if_eq hX 62 dX4_partOf_57 (by decide) (fun _ => ?_) (fun _ => ?_)
      · refine m_iload_n hX 0 dX4_partOf_62 rfl rfl ?_
        refine m_bp hX dX4_partOf_63 (by decide) (by decide) ?_
        refine m_icmp_ne hX 87 dX4_partOf_65 (by decide) (fun _ => ?_) (fun _ => ?_)
        · refine m_aload_n hX 1 dX4_partOf_87 rfl rfl ?_
          refine fg_21 hX dX4_partOf_88 ?_
          refine m_iload_n hX 0 dX4_partOf_91 rfl rfl ?_
          refine m_bp hX dX4_partOf_92 (by decide) (by decide) ?_
          refine m_isub hX dX4_partOf_94 ?_
          refine al_21 hX dX4_partOf_95 ?_
          refine m_i2l hX dX4_partOf_96 ?_
          exact m_lret hX rfl dX4_partOf_97
        · refine m_aload_n hX 1 dX4_partOf_68 rfl rfl ?_
          refine fg_3 hX dX4_partOf_69 ?_
          refine m_sp hX dX4_partOf_72 (by decide) (by decide) ?_
          refine m_aload_n hX 1 dX4_partOf_75 rfl rfl ?_
          refine fg_18 hX dX4_partOf_76 ?_
          refine m_iadd hX dX4_partOf_79 ?_
          refine m_ic hX dX4_partOf_80 (by decide) (by decide) ?_
          refine m_isub hX dX4_partOf_81 ?_
          refine al_3 hX dX4_partOf_82 ?_
          refine m_i2l hX dX4_partOf_83 ?_
          refine m_goto hX 97 dX4_partOf_84 (by decide) ?_
          exact m_lret hX rfl dX4_partOf_97
      · refine m_l0 hX dX4_partOf_60 ?_
        exact m_lret hX rfl dX4_partOf_61
  · refine m_aload_n hX 0 dX4_partOf_12 rfl rfl ?_
    refine m_iload_n hX 1 dX4_partOf_13 rfl rfl ?_
    refine cr_sumOf hX hR_sumOf hdd.1 (Nat.le_of_ble_eq_true rfl) dX4_partOf_14 fun r8 V9 => ?_
    refine m_lstore_n hX (lv' := [(2, (1, r8)), (0, (3, 0)), (1, (0, x1))]) dX4_partOf_17 rfl (by decide) rfl ?_
    refine m_aload_n hX 1 dX4_partOf_18 rfl rfl ?_
    refine m_dup hX dX4_partOf_19 rfl ?_
    refine fg_18 hX dX4_partOf_20 ?_
    refine m_ic hX dX4_partOf_23 (by decide) (by decide) ?_
    refine m_iadd hX dX4_partOf_24 ?_
    refine fp_18 hX dX4_partOf_25 fun V10 => ?_
    refine m_lload_n hX 0 dX4_partOf_28 rfl rfl ?_
    exact m_lret hX rfl dX4_partOf_29
noncomputable def MR_sumOf : Nat → (Int → VV → Option (Int × VV)) × (Int → VV → Option (Int × VV)) × (Int → VV → Option (Int × VV))
  | 0 => (fun _ _ => none, fun _ _ => none, fun _ _ => none)
  | n + 1 => (M_sumOf_b (MR_sumOf n).1 (MR_sumOf n).2.1 (MR_sumOf n).2.2, M_termOf_b (MR_sumOf n).1 (MR_sumOf n).2.1 (MR_sumOf n).2.2, M_partOf_b (MR_sumOf n).1 (MR_sumOf n).2.1 (MR_sumOf n).2.2)
noncomputable def M_sumOf (n : Nat) (a0 : Int) (V : VV) : Option (Int × VV) := (MR_sumOf n).1 a0 V
noncomputable def M_termOf (n : Nat) (a0 : Int) (V : VV) : Option (Int × VV) := (MR_sumOf n).2.1 a0 V
noncomputable def M_partOf (n : Nat) (a0 : Int) (V : VV) : Option (Int × VV) := (MR_sumOf n).2.2 a0 V
theorem WMR_sumOf (l : Launch) : ∀ (n dr : Nat), 2 + n ≤ dr → (∀ (a0 : Int) (V : VV), okV V → oks [(0, a0)] → ∀ fin, (MR_sumOf n).1 a0 V = some fin → mSpec (l) yX4_sumOf cX4_sumOf 7 (some .long) dr 1 [(3, 0), (0, a0)] V fin) ∧ (∀ (a0 : Int) (V : VV), okV V → oks [(0, a0)] → ∀ fin, (MR_sumOf n).2.1 a0 V = some fin → mSpec (l) yX4_termOf cX4_termOf 7 (some .long) dr 1 [(3, 0), (0, a0)] V fin) ∧ (∀ (a0 : Int) (V : VV), okV V → oks [(0, a0)] → ∀ fin, (MR_sumOf n).2.2 a0 V = some fin → mSpec (l) yX4_partOf cX4_partOf 4 (some .long) dr 1 [(3, 0), (0, a0)] V fin) := by
  intro n
  induction n with
  | zero => intro dr _; exact ⟨(fun a0 V _ _ fin h => by cases h), (fun a0 V _ _ fin h => by cases h), (fun a0 V _ _ fin h => by cases h)⟩
  | succ n ih =>
    intro dr h
    obtain ⟨hR_sumOf, hR_termOf, hR_partOf⟩ := ih (dr - 1) (by omega)
    exact ⟨(fun a0 V hV ho fin hf => WM_sumOf_b l (dr := dr - 1) (by omega) hR_sumOf hR_termOf hR_partOf a0 V hV ho fin hf), (fun a0 V hV ho fin hf => WM_termOf_b l (dr := dr - 1) (by omega) hR_sumOf hR_termOf hR_partOf a0 V hV ho fin hf), (fun a0 V hV ho fin hf => WM_partOf_b l (dr := dr - 1) (by omega) hR_sumOf hR_termOf hR_partOf a0 V hV ho fin hf)⟩
theorem WM_sumOf (l : Launch) {d : Nat} (hdd : 63 ≤ d) (a0 : Int) (V : VV) (hV : okV V) (ho : oks [(0, a0)]) (fin : Int × VV) (hf : M_sumOf RF a0 V = some fin) : mSpec l yX4_sumOf cX4_sumOf 7 (some .long) d 1 [(3, 0), (0, a0)] V fin := (WMR_sumOf l RF d (by rw [RF_eq]; omega)).1 a0 V hV ho fin hf
theorem cl_sumOf {Z : MZ} {cc : ByteArray} {nL : Nat} {ret : Option FieldType} {d rk : Nat} {pc : Nat} {lv : List (Nat × AV)} {st : List AV} {V : VV} {g : Int → VV → Option (Int × VV)} (hX : MX Z cc nL ret d rk) {a0 : Int} (hdd : 64 ≤ d) (hcat : (st.map fun v => if v.1 = 1 then 2 else 1).sum ≤ 8) (hdg : decode cc pc = .ok (.invokevirtual 274, 3)) (kk : ∀ r V1, MG Z (pc + 3) lv ((1, r) :: st) V1 (g r V1)) : MG Z pc lv ((0, a0) :: (3, 0) :: st) V (mb (M_sumOf RF a0 V) g) :=
  m_callVl hX [(0, a0)] 1 (fun hV ho fin hf => WM_sumOf (zL Z) (Nat.le_refl 63) a0 V hV ho fin hf) (lw_V q2043 q2045 qs84 q131 q2046) (by decide +kernel) rfl (by omega) (by decide) rfl hcat hdg kk
theorem WM_termOf (l : Launch) {d : Nat} (hdd : 63 ≤ d) (a0 : Int) (V : VV) (hV : okV V) (ho : oks [(0, a0)]) (fin : Int × VV) (hf : M_termOf RF a0 V = some fin) : mSpec l yX4_termOf cX4_termOf 7 (some .long) d 1 [(3, 0), (0, a0)] V fin := (WMR_sumOf l RF d (by rw [RF_eq]; omega)).2.1 a0 V hV ho fin hf
theorem cl_termOf {Z : MZ} {cc : ByteArray} {nL : Nat} {ret : Option FieldType} {d rk : Nat} {pc : Nat} {lv : List (Nat × AV)} {st : List AV} {V : VV} {g : Int → VV → Option (Int × VV)} (hX : MX Z cc nL ret d rk) {a0 : Int} (hdd : 64 ≤ d) (hcat : (st.map fun v => if v.1 = 1 then 2 else 1).sum ≤ 8) (hdg : decode cc pc = .ok (.invokevirtual 260, 3)) (kk : ∀ r V1, MG Z (pc + 3) lv ((1, r) :: st) V1 (g r V1)) : MG Z pc lv ((0, a0) :: (3, 0) :: st) V (mb (M_termOf RF a0 V) g) :=
  m_callVl hX [(0, a0)] 1 (fun hV ho fin hf => WM_termOf (zL Z) (Nat.le_refl 63) a0 V hV ho fin hf) (lw_V q2047 q2049 qs85 q131 q2050) (by decide +kernel) rfl (by omega) (by decide) rfl hcat hdg kk
theorem WM_partOf (l : Launch) {d : Nat} (hdd : 63 ≤ d) (a0 : Int) (V : VV) (hV : okV V) (ho : oks [(0, a0)]) (fin : Int × VV) (hf : M_partOf RF a0 V = some fin) : mSpec l yX4_partOf cX4_partOf 4 (some .long) d 1 [(3, 0), (0, a0)] V fin := (WMR_sumOf l RF d (by rw [RF_eq]; omega)).2.2 a0 V hV ho fin hf
theorem cl_partOf {Z : MZ} {cc : ByteArray} {nL : Nat} {ret : Option FieldType} {d rk : Nat} {pc : Nat} {lv : List (Nat × AV)} {st : List AV} {V : VV} {g : Int → VV → Option (Int × VV)} (hX : MX Z cc nL ret d rk) {a0 : Int} (hdd : 64 ≤ d) (hcat : (st.map fun v => if v.1 = 1 then 2 else 1).sum ≤ 8) (hdg : decode cc pc = .ok (.invokevirtual 268, 3)) (kk : ∀ r V1, MG Z (pc + 3) lv ((1, r) :: st) V1 (g r V1)) : MG Z pc lv ((0, a0) :: (3, 0) :: st) V (mb (M_partOf RF a0 V) g) :=
  m_callVl hX [(0, a0)] 1 (fun hV ho fin hf => WM_partOf (zL Z) (Nat.le_refl 63) a0 V hV ho fin hf) (lw_V q2051 q2053 qs86 q131 q2054) (by decide +kernel) rfl (by omega) (by decide) rfl hcat hdg kk
theorem cr_testOf {Z : MZ} {cc : ByteArray} {nL : Nat} {ret : Option FieldType} {d rk : Nat} {pc : Nat} {lv : List (Nat × AV)} {st : List AV} {V : VV} {g : Int → VV → Option (Int × VV)} (hX : MX Z cc nL ret d rk) {a0 : Int} {dr : Nat} {R_testOf : Int → VV → Option (Int × VV)} (hR : ∀ (a0 : Int) (V : VV), okV V → oks [(0, a0)] → ∀ fin, R_testOf a0 V = some fin → mSpec (zL Z) yX4_testOf cX4_testOf 4 (some .boolean) dr 0 [(3, 0), (0, a0)] V fin) (hdd : dr + 1 ≤ d) (hcat : (st.map fun v => if v.1 = 1 then 2 else 1).sum ≤ 8) (hdg : decode cc pc = .ok (.invokevirtual 287, 3)) (kk : ∀ r V1, MG Z (pc + 3) lv ((0, r) :: st) V1 (g r V1)) : MG Z pc lv ((0, a0) :: (3, 0) :: st) V (mb (R_testOf a0 V) g) :=
  m_callVi hX [(0, a0)] 1 (fun hV ho fin hf => hR a0 V hV ho fin hf) (lw_V q2065 q2067 qs89 q131 q2068) (by decide +kernel) rfl hdd (by decide) rfl hcat hdg kk
theorem cr_bothOf {Z : MZ} {cc : ByteArray} {nL : Nat} {ret : Option FieldType} {d rk : Nat} {pc : Nat} {lv : List (Nat × AV)} {st : List AV} {V : VV} {g : Int → VV → Option (Int × VV)} (hX : MX Z cc nL ret d rk) {a0 : Int} {dr : Nat} {R_bothOf : Int → VV → Option (Int × VV)} (hR : ∀ (a0 : Int) (V : VV), okV V → oks [(0, a0)] → ∀ fin, R_bothOf a0 V = some fin → mSpec (zL Z) yX4_bothOf cX4_bothOf 4 (some .boolean) dr 0 [(3, 0), (0, a0)] V fin) (hdd : dr + 1 ≤ d) (hcat : (st.map fun v => if v.1 = 1 then 2 else 1).sum ≤ 8) (hdg : decode cc pc = .ok (.invokevirtual 277, 3)) (kk : ∀ r V1, MG Z (pc + 3) lv ((0, r) :: st) V1 (g r V1)) : MG Z pc lv ((0, a0) :: (3, 0) :: st) V (mb (R_bothOf a0 V) g) :=
  m_callVi hX [(0, a0)] 1 (fun hV ho fin hf => hR a0 V hV ho fin hf) (lw_V q2069 q2071 qs90 q131 q2072) (by decide +kernel) rfl hdd (by decide) rfl hcat hdg kk
theorem cr_plainOf {Z : MZ} {cc : ByteArray} {nL : Nat} {ret : Option FieldType} {d rk : Nat} {pc : Nat} {lv : List (Nat × AV)} {st : List AV} {V : VV} {g : Int → VV → Option (Int × VV)} (hX : MX Z cc nL ret d rk) {a0 : Int} {dr : Nat} {R_plainOf : Int → VV → Option (Int × VV)} (hR : ∀ (a0 : Int) (V : VV), okV V → oks [(0, a0)] → ∀ fin, R_plainOf a0 V = some fin → mSpec (zL Z) yX4_plainOf cX4_plainOf 3 (some .boolean) dr 0 [(3, 0), (0, a0)] V fin) (hdd : dr + 1 ≤ d) (hcat : (st.map fun v => if v.1 = 1 then 2 else 1).sum ≤ 8) (hdg : decode cc pc = .ok (.invokevirtual 281, 3)) (kk : ∀ r V1, MG Z (pc + 3) lv ((0, r) :: st) V1 (g r V1)) : MG Z pc lv ((0, a0) :: (3, 0) :: st) V (mb (R_plainOf a0 V) g) :=
  m_callVi hX [(0, a0)] 1 (fun hV ho fin hf => hR a0 V hV ho fin hf) (lw_V q2073 q2075 qs91 q131 q2076) (by decide +kernel) rfl hdd (by decide) rfl hcat hdg kk
theorem cr_positiveOf {Z : MZ} {cc : ByteArray} {nL : Nat} {ret : Option FieldType} {d rk : Nat} {pc : Nat} {lv : List (Nat × AV)} {st : List AV} {V : VV} {g : Int → VV → Option (Int × VV)} (hX : MX Z cc nL ret d rk) {a0 : Int} {dr : Nat} {R_positiveOf : Int → VV → Option (Int × VV)} (hR : ∀ (a0 : Int) (V : VV), okV V → oks [(0, a0)] → ∀ fin, R_positiveOf a0 V = some fin → mSpec (zL Z) yX4_positiveOf cX4_positiveOf 7 (some .boolean) dr 0 [(3, 0), (0, a0)] V fin) (hdd : dr + 1 ≤ d) (hcat : (st.map fun v => if v.1 = 1 then 2 else 1).sum ≤ 8) (hdg : decode cc pc = .ok (.invokevirtual 284, 3)) (kk : ∀ r V1, MG Z (pc + 3) lv ((0, r) :: st) V1 (g r V1)) : MG Z pc lv ((0, a0) :: (3, 0) :: st) V (mb (R_positiveOf a0 V) g) :=
  m_callVi hX [(0, a0)] 1 (fun hV ho fin hf => hR a0 V hV ho fin hf) (lw_V q2077 q2079 qs92 q131 q2080) (by decide +kernel) rfl hdd (by decide) rfl hcat hdg kk
noncomputable def M_testOf_6 (R_testOf : Int → VV → Option (Int × VV)) (R_bothOf : Int → VV → Option (Int × VV)) (R_plainOf : Int → VV → Option (Int × VV)) (R_positiveOf : Int → VV → Option (Int × VV)) : Nat → Int → Int → VV → Option (Int × VV)
  | 0, _, _, _ => none
  | n + 1, x1, x2, V => mb (M_passes0 5 V) fun r1 V2 => if r1 = 0 then (cb x2 (some (x2, V2))) else (nm (α := Int) (if x1 = 0 then 0 else (if x2 = 0 then 1 else 0)) fun v3 => mb (R_bothOf v3 V2) fun r4 V5 => nm (α := Int) (if x2 = 0 then (if r4 = 0 then 0 else 1) else 1) fun v6 => M_testOf_6 R_testOf R_bothOf R_plainOf R_positiveOf n x1 v6 V5)
theorem WM_testOf_6 {Z : MZ} {d : Nat} {dr : Nat} (hX : MX Z cX4_testOf 4 (some .boolean) d 0) (hdd : dr + 1 ≤ d ∧ 64 ≤ d) {R_testOf : Int → VV → Option (Int × VV)} {R_bothOf : Int → VV → Option (Int × VV)} {R_plainOf : Int → VV → Option (Int × VV)} {R_positiveOf : Int → VV → Option (Int × VV)} (hR_testOf : ∀ (a0 : Int) (V : VV), okV V → oks [(0, a0)] → ∀ fin, R_testOf a0 V = some fin → mSpec (zL Z) yX4_testOf cX4_testOf 4 (some .boolean) dr 0 [(3, 0), (0, a0)] V fin) (hR_bothOf : ∀ (a0 : Int) (V : VV), okV V → oks [(0, a0)] → ∀ fin, R_bothOf a0 V = some fin → mSpec (zL Z) yX4_bothOf cX4_bothOf 4 (some .boolean) dr 0 [(3, 0), (0, a0)] V fin) (hR_plainOf : ∀ (a0 : Int) (V : VV), okV V → oks [(0, a0)] → ∀ fin, R_plainOf a0 V = some fin → mSpec (zL Z) yX4_plainOf cX4_plainOf 3 (some .boolean) dr 0 [(3, 0), (0, a0)] V fin) (hR_positiveOf : ∀ (a0 : Int) (V : VV), okV V → oks [(0, a0)] → ∀ fin, R_positiveOf a0 V = some fin → mSpec (zL Z) yX4_positiveOf cX4_positiveOf 7 (some .boolean) dr 0 [(3, 0), (0, a0)] V fin) : ∀ n x1 x2 V, MG Z 6 [(0, (3, 0)), (1, (0, x1)), (2, (0, x2))] [] V (M_testOf_6 R_testOf R_bothOf R_plainOf R_positiveOf n x1 x2 V) := by
  intro n
  induction n with
  | zero => intro x1 x2 V; exact m_none
  | succ n ih =>
    intro x1 x2 V
    rw [M_testOf_6]
    refine m_aload_n hX 0 dX4_testOf_6 rfl rfl ?_
    refine m_ic hX dX4_testOf_7 (by decide) (by decide) ?_
    refine cl_passes0 hX (by omega) (Nat.le_of_ble_eq_true rfl) dX4_testOf_8 fun r1 V2 => ?_
    refine m_if_eq hX 49 dX4_testOf_11 (by decide) (fun _ => ?_) (fun _ => ?_)
    · refine m_iload_n hX 2 dX4_testOf_49 rfl rfl ?_
      exact m_zret hX rfl dX4_testOf_50
    · refine m_aload_n hX 0 dX4_testOf_14 rfl rfl ?_
      refine m_iload_n hX 1 dX4_testOf_15 rfl rfl ?_
      refine m_join 28 (fun v3 => [(0, v3), (3, 0)]) (fun v3 => ?_) (fun hJ => ?_)
      · refine cr_bothOf hX hR_bothOf hdd.1 (Nat.le_of_ble_eq_true rfl) dX4_testOf_28 fun r4 V5 => ?_
        refine m_istore_n hX (lv' := [(3, (0, r4)), (0, (3, 0)), (1, (0, x1)), (2, (0, x2))]) dX4_testOf_31 rfl (by decide) rfl ?_
        refine m_iload_n hX 3 dX4_testOf_32 rfl rfl ?_
        refine m_join 45 (fun v6 => [(0, v6)]) (fun v6 => ?_) (fun hJ => ?_)
        · refine m_istore_n hX (lv' := [(2, (0, v6)), (3, (0, r4)), (0, (3, 0)), (1, (0, x1))]) dX4_testOf_45 rfl (by decide) rfl ?_
          refine m_goto hX 6 dX4_testOf_46 (by decide) ?_
          exact m_sub [2, 3, 0] rfl (ih x1 v6 V5)
        · refine m_if_neF hX 40 dX4_testOf_33 (by decide) (fun _ => ?_) (fun _ => ?_)
          · refine m_ic hX dX4_testOf_40 (by decide) (by decide) ?_
            refine m_goto hX 45 dX4_testOf_41 (by decide) ?_
            exact hJ _
          · refine m_iload_n hX 0 dX4_testOf_36 rfl rfl ?_
            refine m_if_eqF hX 44 dX4_testOf_37 (by decide) (fun _ => ?_) (fun _ => ?_)
            · refine m_ic hX dX4_testOf_44 (by decide) (by decide) ?_
              exact hJ _
            · refine m_ic hX dX4_testOf_40 (by decide) (by decide) ?_
              refine m_goto hX 45 dX4_testOf_41 (by decide) ?_
              exact hJ _
      · refine m_if_eqF hX 27 dX4_testOf_16 (by decide) (fun _ => ?_) (fun _ => ?_)
        · refine m_ic hX dX4_testOf_27 (by decide) (by decide) ?_
          exact hJ _
        · refine m_iload_n hX 2 dX4_testOf_19 rfl rfl ?_
          refine m_if_neF hX 27 dX4_testOf_20 (by decide) (fun _ => ?_) (fun _ => ?_)
          · refine m_ic hX dX4_testOf_27 (by decide) (by decide) ?_
            exact hJ _
          · refine m_ic hX dX4_testOf_23 (by decide) (by decide) ?_
            refine m_goto hX 28 dX4_testOf_24 (by decide) ?_
            exact hJ _
noncomputable def M_testOf_b (R_testOf : Int → VV → Option (Int × VV)) (R_bothOf : Int → VV → Option (Int × VV)) (R_plainOf : Int → VV → Option (Int × VV)) (R_positiveOf : Int → VV → Option (Int × VV)) (x1 : Int) (V : VV) : Option (Int × VV) := mb (R_bothOf x1 V) fun r1 V2 => M_testOf_6 R_testOf R_bothOf R_plainOf R_positiveOf FU x1 r1 V2
theorem WM_testOf_b (l : Launch) {d dr : Nat} (hdd : dr + 1 ≤ d ∧ 64 ≤ d) {R_testOf : Int → VV → Option (Int × VV)} {R_bothOf : Int → VV → Option (Int × VV)} {R_plainOf : Int → VV → Option (Int × VV)} {R_positiveOf : Int → VV → Option (Int × VV)} (hR_testOf : ∀ (a0 : Int) (V : VV), okV V → oks [(0, a0)] → ∀ fin, R_testOf a0 V = some fin → mSpec (l) yX4_testOf cX4_testOf 4 (some .boolean) dr 0 [(3, 0), (0, a0)] V fin) (hR_bothOf : ∀ (a0 : Int) (V : VV), okV V → oks [(0, a0)] → ∀ fin, R_bothOf a0 V = some fin → mSpec (l) yX4_bothOf cX4_bothOf 4 (some .boolean) dr 0 [(3, 0), (0, a0)] V fin) (hR_plainOf : ∀ (a0 : Int) (V : VV), okV V → oks [(0, a0)] → ∀ fin, R_plainOf a0 V = some fin → mSpec (l) yX4_plainOf cX4_plainOf 3 (some .boolean) dr 0 [(3, 0), (0, a0)] V fin) (hR_positiveOf : ∀ (a0 : Int) (V : VV), okV V → oks [(0, a0)] → ∀ fin, R_positiveOf a0 V = some fin → mSpec (l) yX4_positiveOf cX4_positiveOf 7 (some .boolean) dr 0 [(3, 0), (0, a0)] V fin) (x1 : Int) (V : VV) (hV : okV V) (ho : oks [(0, x1)]) (fin : Int × VV) (hf : M_testOf_b R_testOf R_bothOf R_plainOf R_positiveOf x1 V = some fin) : mSpec l yX4_testOf cX4_testOf 4 (some .boolean) d 0 [(3, 0), (0, x1)] V fin := by
  refine m_enter (lv := [(0, (3, 0)), (1, (0, x1))]) (by decide) rfl (Nat.le_of_ble_eq_true rfl) rfl (fun Z hZ hX => ?_) hV (ho.c (okA.t 0)) fin hf
  subst hZ
  unfold M_testOf_b
  refine m_aload_n hX 0 dX4_testOf_0 rfl rfl ?_
  refine m_iload_n hX 1 dX4_testOf_1 rfl rfl ?_
  refine cr_bothOf hX hR_bothOf hdd.1 (Nat.le_of_ble_eq_true rfl) dX4_testOf_2 fun r1 V2 => ?_
  refine m_istore_n hX (lv' := [(2, (0, r1)), (0, (3, 0)), (1, (0, x1))]) dX4_testOf_5 rfl (by decide) rfl ?_
  exact m_sub [1, 2, 0] rfl (WM_testOf_6 hX hdd hR_testOf hR_bothOf hR_plainOf hR_positiveOf FU x1 r1 V2)
noncomputable def M_bothOf_6 (R_testOf : Int → VV → Option (Int × VV)) (R_bothOf : Int → VV → Option (Int × VV)) (R_plainOf : Int → VV → Option (Int × VV)) (R_positiveOf : Int → VV → Option (Int × VV)) : Nat → Int → Int → VV → Option (Int × VV)
  | 0, _, _, _ => none
  | n + 1, x1, x2, V => mb (M_passes0 6 V) fun r1 V2 => if r1 = 0 then (cb x2 (some (x2, V2))) else (nm (α := Int) (if x1 = 0 then 0 else (if x2 = 0 then 0 else 1)) fun v3 => mb (R_plainOf v3 V2) fun r4 V5 => nm (α := Int) (if x2 = 0 then 0 else (if r4 = 0 then 0 else 1)) fun v6 => M_bothOf_6 R_testOf R_bothOf R_plainOf R_positiveOf n x1 v6 V5)
theorem WM_bothOf_6 {Z : MZ} {d : Nat} {dr : Nat} (hX : MX Z cX4_bothOf 4 (some .boolean) d 0) (hdd : dr + 1 ≤ d ∧ 64 ≤ d) {R_testOf : Int → VV → Option (Int × VV)} {R_bothOf : Int → VV → Option (Int × VV)} {R_plainOf : Int → VV → Option (Int × VV)} {R_positiveOf : Int → VV → Option (Int × VV)} (hR_testOf : ∀ (a0 : Int) (V : VV), okV V → oks [(0, a0)] → ∀ fin, R_testOf a0 V = some fin → mSpec (zL Z) yX4_testOf cX4_testOf 4 (some .boolean) dr 0 [(3, 0), (0, a0)] V fin) (hR_bothOf : ∀ (a0 : Int) (V : VV), okV V → oks [(0, a0)] → ∀ fin, R_bothOf a0 V = some fin → mSpec (zL Z) yX4_bothOf cX4_bothOf 4 (some .boolean) dr 0 [(3, 0), (0, a0)] V fin) (hR_plainOf : ∀ (a0 : Int) (V : VV), okV V → oks [(0, a0)] → ∀ fin, R_plainOf a0 V = some fin → mSpec (zL Z) yX4_plainOf cX4_plainOf 3 (some .boolean) dr 0 [(3, 0), (0, a0)] V fin) (hR_positiveOf : ∀ (a0 : Int) (V : VV), okV V → oks [(0, a0)] → ∀ fin, R_positiveOf a0 V = some fin → mSpec (zL Z) yX4_positiveOf cX4_positiveOf 7 (some .boolean) dr 0 [(3, 0), (0, a0)] V fin) : ∀ n x1 x2 V, MG Z 6 [(0, (3, 0)), (1, (0, x1)), (2, (0, x2))] [] V (M_bothOf_6 R_testOf R_bothOf R_plainOf R_positiveOf n x1 x2 V) := by
  intro n
  induction n with
  | zero => intro x1 x2 V; exact m_none
  | succ n ih =>
    intro x1 x2 V
    rw [M_bothOf_6]
    refine m_aload_n hX 0 dX4_bothOf_6 rfl rfl ?_
    refine m_bp hX dX4_bothOf_7 (by decide) (by decide) ?_
    refine cl_passes0 hX (by omega) (Nat.le_of_ble_eq_true rfl) dX4_bothOf_9 fun r1 V2 => ?_
    refine m_if_eq hX 50 dX4_bothOf_12 (by decide) (fun _ => ?_) (fun _ => ?_)
    · refine m_iload_n hX 2 dX4_bothOf_50 rfl rfl ?_
      exact m_zret hX rfl dX4_bothOf_51
    · refine m_aload_n hX 0 dX4_bothOf_15 rfl rfl ?_
      refine m_iload_n hX 1 dX4_bothOf_16 rfl rfl ?_
      refine m_join 29 (fun v3 => [(0, v3), (3, 0)]) (fun v3 => ?_) (fun hJ => ?_)
      · refine cr_plainOf hX hR_plainOf hdd.1 (Nat.le_of_ble_eq_true rfl) dX4_bothOf_29 fun r4 V5 => ?_
        refine m_istore_n hX (lv' := [(3, (0, r4)), (0, (3, 0)), (1, (0, x1)), (2, (0, x2))]) dX4_bothOf_32 rfl (by decide) rfl ?_
        refine m_iload_n hX 3 dX4_bothOf_33 rfl rfl ?_
        refine m_join 46 (fun v6 => [(0, v6)]) (fun v6 => ?_) (fun hJ => ?_)
        · refine m_istore_n hX (lv' := [(2, (0, v6)), (3, (0, r4)), (0, (3, 0)), (1, (0, x1))]) dX4_bothOf_46 rfl (by decide) rfl ?_
          refine m_goto hX 6 dX4_bothOf_47 (by decide) ?_
          exact m_sub [2, 3, 0] rfl (ih x1 v6 V5)
        · refine m_if_eqF hX 45 dX4_bothOf_34 (by decide) (fun _ => ?_) (fun _ => ?_)
          · refine m_ic hX dX4_bothOf_45 (by decide) (by decide) ?_
            exact hJ _
          · refine m_iload_n hX 0 dX4_bothOf_37 rfl rfl ?_
            refine m_if_eqF hX 45 dX4_bothOf_38 (by decide) (fun _ => ?_) (fun _ => ?_)
            · refine m_ic hX dX4_bothOf_45 (by decide) (by decide) ?_
              exact hJ _
            · refine m_ic hX dX4_bothOf_41 (by decide) (by decide) ?_
              refine m_goto hX 46 dX4_bothOf_42 (by decide) ?_
              exact hJ _
      · refine m_if_eqF hX 28 dX4_bothOf_17 (by decide) (fun _ => ?_) (fun _ => ?_)
        · refine m_ic hX dX4_bothOf_28 (by decide) (by decide) ?_
          exact hJ _
        · refine m_iload_n hX 2 dX4_bothOf_20 rfl rfl ?_
          refine m_if_eqF hX 28 dX4_bothOf_21 (by decide) (fun _ => ?_) (fun _ => ?_)
          · refine m_ic hX dX4_bothOf_28 (by decide) (by decide) ?_
            exact hJ _
          · refine m_ic hX dX4_bothOf_24 (by decide) (by decide) ?_
            refine m_goto hX 29 dX4_bothOf_25 (by decide) ?_
            exact hJ _
noncomputable def M_bothOf_b (R_testOf : Int → VV → Option (Int × VV)) (R_bothOf : Int → VV → Option (Int × VV)) (R_plainOf : Int → VV → Option (Int × VV)) (R_positiveOf : Int → VV → Option (Int × VV)) (x1 : Int) (V : VV) : Option (Int × VV) := mb (R_plainOf x1 V) fun r1 V2 => M_bothOf_6 R_testOf R_bothOf R_plainOf R_positiveOf FU x1 r1 V2
theorem WM_bothOf_b (l : Launch) {d dr : Nat} (hdd : dr + 1 ≤ d ∧ 64 ≤ d) {R_testOf : Int → VV → Option (Int × VV)} {R_bothOf : Int → VV → Option (Int × VV)} {R_plainOf : Int → VV → Option (Int × VV)} {R_positiveOf : Int → VV → Option (Int × VV)} (hR_testOf : ∀ (a0 : Int) (V : VV), okV V → oks [(0, a0)] → ∀ fin, R_testOf a0 V = some fin → mSpec (l) yX4_testOf cX4_testOf 4 (some .boolean) dr 0 [(3, 0), (0, a0)] V fin) (hR_bothOf : ∀ (a0 : Int) (V : VV), okV V → oks [(0, a0)] → ∀ fin, R_bothOf a0 V = some fin → mSpec (l) yX4_bothOf cX4_bothOf 4 (some .boolean) dr 0 [(3, 0), (0, a0)] V fin) (hR_plainOf : ∀ (a0 : Int) (V : VV), okV V → oks [(0, a0)] → ∀ fin, R_plainOf a0 V = some fin → mSpec (l) yX4_plainOf cX4_plainOf 3 (some .boolean) dr 0 [(3, 0), (0, a0)] V fin) (hR_positiveOf : ∀ (a0 : Int) (V : VV), okV V → oks [(0, a0)] → ∀ fin, R_positiveOf a0 V = some fin → mSpec (l) yX4_positiveOf cX4_positiveOf 7 (some .boolean) dr 0 [(3, 0), (0, a0)] V fin) (x1 : Int) (V : VV) (hV : okV V) (ho : oks [(0, x1)]) (fin : Int × VV) (hf : M_bothOf_b R_testOf R_bothOf R_plainOf R_positiveOf x1 V = some fin) : mSpec l yX4_bothOf cX4_bothOf 4 (some .boolean) d 0 [(3, 0), (0, x1)] V fin := by
  refine m_enter (lv := [(0, (3, 0)), (1, (0, x1))]) (by decide) rfl (Nat.le_of_ble_eq_true rfl) rfl (fun Z hZ hX => ?_) hV (ho.c (okA.t 0)) fin hf
  subst hZ
  unfold M_bothOf_b
  refine m_aload_n hX 0 dX4_bothOf_0 rfl rfl ?_
  refine m_iload_n hX 1 dX4_bothOf_1 rfl rfl ?_
  refine cr_plainOf hX hR_plainOf hdd.1 (Nat.le_of_ble_eq_true rfl) dX4_bothOf_2 fun r1 V2 => ?_
  refine m_istore_n hX (lv' := [(2, (0, r1)), (0, (3, 0)), (1, (0, x1))]) dX4_bothOf_5 rfl (by decide) rfl ?_
  exact m_sub [1, 2, 0] rfl (WM_bothOf_6 hX hdd hR_testOf hR_bothOf hR_plainOf hR_positiveOf FU x1 r1 V2)
noncomputable def M_plainOf_24 (R_testOf : Int → VV → Option (Int × VV)) (R_bothOf : Int → VV → Option (Int × VV)) (R_plainOf : Int → VV → Option (Int × VV)) (R_positiveOf : Int → VV → Option (Int × VV)) (x1 : Int) (x2 : Int) (V : VV) : Option (Int × VV) := mb (R_positiveOf x1 V) fun r1 V2 => nm (α := Int) (if r1 = x2 then 0 else 1) fun v3 => cb v3 (some (v3, V2))
theorem WM_plainOf_24 {Z : MZ} {d : Nat} {dr : Nat} (hX : MX Z cX4_plainOf 3 (some .boolean) d 0) (hdd : dr + 1 ≤ d ∧ 64 ≤ d) {R_testOf : Int → VV → Option (Int × VV)} {R_bothOf : Int → VV → Option (Int × VV)} {R_plainOf : Int → VV → Option (Int × VV)} {R_positiveOf : Int → VV → Option (Int × VV)} (hR_testOf : ∀ (a0 : Int) (V : VV), okV V → oks [(0, a0)] → ∀ fin, R_testOf a0 V = some fin → mSpec (zL Z) yX4_testOf cX4_testOf 4 (some .boolean) dr 0 [(3, 0), (0, a0)] V fin) (hR_bothOf : ∀ (a0 : Int) (V : VV), okV V → oks [(0, a0)] → ∀ fin, R_bothOf a0 V = some fin → mSpec (zL Z) yX4_bothOf cX4_bothOf 4 (some .boolean) dr 0 [(3, 0), (0, a0)] V fin) (hR_plainOf : ∀ (a0 : Int) (V : VV), okV V → oks [(0, a0)] → ∀ fin, R_plainOf a0 V = some fin → mSpec (zL Z) yX4_plainOf cX4_plainOf 3 (some .boolean) dr 0 [(3, 0), (0, a0)] V fin) (hR_positiveOf : ∀ (a0 : Int) (V : VV), okV V → oks [(0, a0)] → ∀ fin, R_positiveOf a0 V = some fin → mSpec (zL Z) yX4_positiveOf cX4_positiveOf 7 (some .boolean) dr 0 [(3, 0), (0, a0)] V fin) : ∀ x1 x2 V, MG Z 24 [(0, (3, 0)), (1, (0, x1)), (2, (0, x2))] [] V (M_plainOf_24 R_testOf R_bothOf R_plainOf R_positiveOf x1 x2 V) := by
  intro x1 x2 V
  unfold M_plainOf_24
  refine m_aload_n hX 0 dX4_plainOf_24 rfl rfl ?_
  refine m_iload_n hX 1 dX4_plainOf_25 rfl rfl ?_
  refine cr_positiveOf hX hR_positiveOf hdd.1 (Nat.le_of_ble_eq_true rfl) dX4_plainOf_26 fun r1 V2 => ?_
  refine m_iload_n hX 2 dX4_plainOf_29 rfl rfl ?_
  refine m_join 38 (fun v3 => [(0, v3)]) (fun v3 => ?_) (fun hJ => ?_)
  · exact m_zret hX rfl dX4_plainOf_38
  · refine m_icmp_eqF hX 37 dX4_plainOf_30 (by decide) (fun _ => ?_) (fun _ => ?_)
    · refine m_ic hX dX4_plainOf_37 (by decide) (by decide) ?_
      exact hJ _
    · refine m_ic hX dX4_plainOf_33 (by decide) (by decide) ?_
      refine m_goto hX 38 dX4_plainOf_34 (by decide) ?_
      exact hJ _
noncomputable def M_plainOf_2 (R_testOf : Int → VV → Option (Int × VV)) (R_bothOf : Int → VV → Option (Int × VV)) (R_plainOf : Int → VV → Option (Int × VV)) (R_positiveOf : Int → VV → Option (Int × VV)) : Nat → Int → Int → VV → Option (Int × VV)
  | 0, _, _, _ => none
  | n + 1, x1, x2, V => mb (M_passes0 7 V) fun r1 V2 => if r1 = 0 then (M_plainOf_24 R_testOf R_bothOf R_plainOf R_positiveOf x1 x2 V2) else (nm (α := Int) (if x2 = 0 then 1 else 0) fun v3 => M_plainOf_2 R_testOf R_bothOf R_plainOf R_positiveOf n x1 v3 V2)
theorem WM_plainOf_2 {Z : MZ} {d : Nat} {dr : Nat} (hX : MX Z cX4_plainOf 3 (some .boolean) d 0) (hdd : dr + 1 ≤ d ∧ 64 ≤ d) {R_testOf : Int → VV → Option (Int × VV)} {R_bothOf : Int → VV → Option (Int × VV)} {R_plainOf : Int → VV → Option (Int × VV)} {R_positiveOf : Int → VV → Option (Int × VV)} (hR_testOf : ∀ (a0 : Int) (V : VV), okV V → oks [(0, a0)] → ∀ fin, R_testOf a0 V = some fin → mSpec (zL Z) yX4_testOf cX4_testOf 4 (some .boolean) dr 0 [(3, 0), (0, a0)] V fin) (hR_bothOf : ∀ (a0 : Int) (V : VV), okV V → oks [(0, a0)] → ∀ fin, R_bothOf a0 V = some fin → mSpec (zL Z) yX4_bothOf cX4_bothOf 4 (some .boolean) dr 0 [(3, 0), (0, a0)] V fin) (hR_plainOf : ∀ (a0 : Int) (V : VV), okV V → oks [(0, a0)] → ∀ fin, R_plainOf a0 V = some fin → mSpec (zL Z) yX4_plainOf cX4_plainOf 3 (some .boolean) dr 0 [(3, 0), (0, a0)] V fin) (hR_positiveOf : ∀ (a0 : Int) (V : VV), okV V → oks [(0, a0)] → ∀ fin, R_positiveOf a0 V = some fin → mSpec (zL Z) yX4_positiveOf cX4_positiveOf 7 (some .boolean) dr 0 [(3, 0), (0, a0)] V fin) : ∀ n x1 x2 V, MG Z 2 [(0, (3, 0)), (1, (0, x1)), (2, (0, x2))] [] V (M_plainOf_2 R_testOf R_bothOf R_plainOf R_positiveOf n x1 x2 V) := by
  intro n
  induction n with
  | zero => intro x1 x2 V; exact m_none
  | succ n ih =>
    intro x1 x2 V
    rw [M_plainOf_2]
    refine m_aload_n hX 0 dX4_plainOf_2 rfl rfl ?_
    refine m_bp hX dX4_plainOf_3 (by decide) (by decide) ?_
    refine cl_passes0 hX (by omega) (Nat.le_of_ble_eq_true rfl) dX4_plainOf_5 fun r1 V2 => ?_
    refine m_if_eq hX 24 dX4_plainOf_8 (by decide) (fun _ => ?_) (fun _ => ?_)
    · exact m_sub [0, 1, 2] rfl (WM_plainOf_24 hX hdd hR_testOf hR_bothOf hR_plainOf hR_positiveOf x1 x2 V2)
    · refine m_iload_n hX 2 dX4_plainOf_11 rfl rfl ?_
      refine m_join 20 (fun v3 => [(0, v3)]) (fun v3 => ?_) (fun hJ => ?_)
      · refine m_istore_n hX (lv' := [(2, (0, v3)), (0, (3, 0)), (1, (0, x1))]) dX4_plainOf_20 rfl (by decide) rfl ?_
        refine m_goto hX 2 dX4_plainOf_21 (by decide) ?_
        exact m_sub [1, 2, 0] rfl (ih x1 v3 V2)
      · refine m_if_neF hX 19 dX4_plainOf_12 (by decide) (fun _ => ?_) (fun _ => ?_)
        · refine m_ic hX dX4_plainOf_19 (by decide) (by decide) ?_
          exact hJ _
        · refine m_ic hX dX4_plainOf_15 (by decide) (by decide) ?_
          refine m_goto hX 20 dX4_plainOf_16 (by decide) ?_
          exact hJ _
noncomputable def M_plainOf_b (R_testOf : Int → VV → Option (Int × VV)) (R_bothOf : Int → VV → Option (Int × VV)) (R_plainOf : Int → VV → Option (Int × VV)) (R_positiveOf : Int → VV → Option (Int × VV)) (x1 : Int) (V : VV) : Option (Int × VV) := M_plainOf_2 R_testOf R_bothOf R_plainOf R_positiveOf FU x1 0 V
theorem WM_plainOf_b (l : Launch) {d dr : Nat} (hdd : dr + 1 ≤ d ∧ 64 ≤ d) {R_testOf : Int → VV → Option (Int × VV)} {R_bothOf : Int → VV → Option (Int × VV)} {R_plainOf : Int → VV → Option (Int × VV)} {R_positiveOf : Int → VV → Option (Int × VV)} (hR_testOf : ∀ (a0 : Int) (V : VV), okV V → oks [(0, a0)] → ∀ fin, R_testOf a0 V = some fin → mSpec (l) yX4_testOf cX4_testOf 4 (some .boolean) dr 0 [(3, 0), (0, a0)] V fin) (hR_bothOf : ∀ (a0 : Int) (V : VV), okV V → oks [(0, a0)] → ∀ fin, R_bothOf a0 V = some fin → mSpec (l) yX4_bothOf cX4_bothOf 4 (some .boolean) dr 0 [(3, 0), (0, a0)] V fin) (hR_plainOf : ∀ (a0 : Int) (V : VV), okV V → oks [(0, a0)] → ∀ fin, R_plainOf a0 V = some fin → mSpec (l) yX4_plainOf cX4_plainOf 3 (some .boolean) dr 0 [(3, 0), (0, a0)] V fin) (hR_positiveOf : ∀ (a0 : Int) (V : VV), okV V → oks [(0, a0)] → ∀ fin, R_positiveOf a0 V = some fin → mSpec (l) yX4_positiveOf cX4_positiveOf 7 (some .boolean) dr 0 [(3, 0), (0, a0)] V fin) (x1 : Int) (V : VV) (hV : okV V) (ho : oks [(0, x1)]) (fin : Int × VV) (hf : M_plainOf_b R_testOf R_bothOf R_plainOf R_positiveOf x1 V = some fin) : mSpec l yX4_plainOf cX4_plainOf 3 (some .boolean) d 0 [(3, 0), (0, x1)] V fin := by
  refine m_enter (lv := [(0, (3, 0)), (1, (0, x1))]) (by decide) rfl (Nat.le_of_ble_eq_true rfl) rfl (fun Z hZ hX => ?_) hV (ho.c (okA.t 0)) fin hf
  subst hZ
  unfold M_plainOf_b
  refine m_ic hX dX4_plainOf_0 (by decide) (by decide) ?_
  refine m_istore_n hX (lv' := [(2, (0, 0)), (0, (3, 0)), (1, (0, x1))]) dX4_plainOf_1 rfl (by decide) rfl ?_
  exact m_sub [1, 2, 0] rfl (WM_plainOf_2 hX hdd hR_testOf hR_bothOf hR_plainOf hR_positiveOf FU x1 0 V)
noncomputable def M_positiveOf_b (R_testOf : Int → VV → Option (Int × VV)) (R_bothOf : Int → VV → Option (Int × VV)) (R_plainOf : Int → VV → Option (Int × VV)) (R_positiveOf : Int → VV → Option (Int × VV)) (x1 : Int) (V : VV) : Option (Int × VV) := mb (M_sign 40 V) fun r1 V2 => mb (M_passes0 r1 V2) fun r3 V4 => if r3 = 0 then (mb (M_sumOf RF x1 V4) fun r5 V6 => mb (M_codeAt (V6 18 0) V6) fun r7 V8 => nm (vup V8 18 0 (w32 ((V8 18 0) + 1))) fun V9 => mb (M_sumOf RF x1 V9) fun r10 V11 => if x1 = 0 then (some (0, V11)) else (if V11 20 0 = 0 then (mb (M_sign 60 V11) fun r12 V13 => if r7 = r12 then (if r10 ≤ r5 then (some (0, V13)) else (some (1, V13))) else (mb (M_sign 62 V13) fun r14 V15 => if r7 = r14 then (if r5 ≤ r10 then (some (0, V15)) else (some (1, V15))) else (if r5 = r10 then (some (1, V15)) else (some (0, V15))))) else (some (0, V11)))) else (mb (R_testOf x1 V4) fun r16 V17 => nm (vup V17 18 0 (w32 ((V17 18 0) + 1))) fun V18 => cb r16 (some (r16, V18)))
theorem WM_positiveOf_b (l : Launch) {d dr : Nat} (hdd : dr + 1 ≤ d ∧ 64 ≤ d) {R_testOf : Int → VV → Option (Int × VV)} {R_bothOf : Int → VV → Option (Int × VV)} {R_plainOf : Int → VV → Option (Int × VV)} {R_positiveOf : Int → VV → Option (Int × VV)} (hR_testOf : ∀ (a0 : Int) (V : VV), okV V → oks [(0, a0)] → ∀ fin, R_testOf a0 V = some fin → mSpec (l) yX4_testOf cX4_testOf 4 (some .boolean) dr 0 [(3, 0), (0, a0)] V fin) (hR_bothOf : ∀ (a0 : Int) (V : VV), okV V → oks [(0, a0)] → ∀ fin, R_bothOf a0 V = some fin → mSpec (l) yX4_bothOf cX4_bothOf 4 (some .boolean) dr 0 [(3, 0), (0, a0)] V fin) (hR_plainOf : ∀ (a0 : Int) (V : VV), okV V → oks [(0, a0)] → ∀ fin, R_plainOf a0 V = some fin → mSpec (l) yX4_plainOf cX4_plainOf 3 (some .boolean) dr 0 [(3, 0), (0, a0)] V fin) (hR_positiveOf : ∀ (a0 : Int) (V : VV), okV V → oks [(0, a0)] → ∀ fin, R_positiveOf a0 V = some fin → mSpec (l) yX4_positiveOf cX4_positiveOf 7 (some .boolean) dr 0 [(3, 0), (0, a0)] V fin) (x1 : Int) (V : VV) (hV : okV V) (ho : oks [(0, x1)]) (fin : Int × VV) (hf : M_positiveOf_b R_testOf R_bothOf R_plainOf R_positiveOf x1 V = some fin) : mSpec l yX4_positiveOf cX4_positiveOf 7 (some .boolean) d 0 [(3, 0), (0, x1)] V fin := by
  refine m_enter (lv := [(0, (3, 0)), (1, (0, x1))]) (by decide) rfl (Nat.le_of_ble_eq_true rfl) rfl (fun Z hZ hX => ?_) hV (ho.c (okA.t 0)) fin hf
  subst hZ
  unfold M_positiveOf_b
  refine m_aload_n hX 0 dX4_positiveOf_0 rfl rfl ?_
  refine m_bp hX dX4_positiveOf_1 (by decide) (by decide) ?_
  refine cl_sign hX (by omega) (Nat.le_of_ble_eq_true rfl) dX4_positiveOf_3 fun r1 V2 => ?_
  refine cl_passes0 hX (by omega) (Nat.le_of_ble_eq_true rfl) dX4_positiveOf_6 fun r3 V4 => ?_
  refine m_if_eq hX 30 dX4_positiveOf_9 (by decide) (fun _ => ?_) (fun _ => ?_)
  · refine m_aload_n hX 0 dX4_positiveOf_30 rfl rfl ?_
    refine m_iload_n hX 1 dX4_positiveOf_31 rfl rfl ?_
    refine cl_sumOf hX (by omega) (Nat.le_of_ble_eq_true rfl) dX4_positiveOf_32 fun r5 V6 => ?_
    refine m_lstore_n hX (lv' := [(2, (1, r5)), (0, (3, 0)), (1, (0, x1))]) dX4_positiveOf_35 rfl (by decide) rfl ?_
    refine m_aload_n hX 1 dX4_positiveOf_36 rfl rfl ?_
    refine m_aload_n hX 1 dX4_positiveOf_37 rfl rfl ?_
    refine fg_18 hX dX4_positiveOf_38 ?_
    refine cl_codeAt hX (by omega) (Nat.le_of_ble_eq_true rfl) dX4_positiveOf_41 fun r7 V8 => ?_
    refine m_istore hX (lv' := [(4, (0, r7)), (2, (1, r5)), (0, (3, 0)), (1, (0, x1))]) dX4_positiveOf_44 (by decide) rfl ?_
    refine m_aload_n hX 2 dX4_positiveOf_46 rfl rfl ?_
    refine m_dup hX dX4_positiveOf_47 rfl ?_
    refine fg_18 hX dX4_positiveOf_48 ?_
    refine m_ic hX dX4_positiveOf_51 (by decide) (by decide) ?_
    refine m_iadd hX dX4_positiveOf_52 ?_
    refine fp_18 hX dX4_positiveOf_53 fun V9 => ?_
    refine m_aload_n hX 2 dX4_positiveOf_56 rfl rfl ?_
    refine m_iload_n hX 3 dX4_positiveOf_57 rfl rfl ?_
    refine cl_sumOf hX (by omega) (Nat.le_of_ble_eq_true rfl) dX4_positiveOf_58 fun r10 V11 => ?_
    refine m_lstore hX (lv' := [(5, (1, r10)), (4, (0, r7)), (2, (1, r5)), (0, (3, 0)), (1, (0, x1))]) dX4_positiveOf_61 (by decide) rfl ?_
    refine m_iload_n hX 4 dX4_positiveOf_63 rfl rfl ?_
    refine m_if_eq hX 125 dX4_positiveOf_64 (by decide) (fun _ => ?_) (fun _ => ?_)
    · refine m_ic hX dX4_positiveOf_125 (by decide) (by decide) ?_
      exact m_cb (by decide) (m_zret hX rfl dX4_positiveOf_126)
    · refine m_aload_n hX 3 dX4_positiveOf_67 rfl rfl ?_
      refine fg_20 hX dX4_positiveOf_68 ?_
      refine m_if_ne hX 125 dX4_positiveOf_71 (by decide) (fun _ => ?_) (fun _ => ?_)
      · refine m_ic hX dX4_positiveOf_125 (by decide) (by decide) ?_
        exact m_cb (by decide) (m_zret hX rfl dX4_positiveOf_126)
      · refine m_iload hX 1 dX4_positiveOf_74 rfl ?_
        refine m_bp hX dX4_positiveOf_76 (by decide) (by decide) ?_
        refine cl_sign hX (by omega) (Nat.le_of_ble_eq_true rfl) dX4_positiveOf_78 fun r12 V13 => ?_
        refine m_icmp_ne hX 94 dX4_positiveOf_81 (by decide) (fun _ => ?_) (fun _ => ?_)
        · refine m_iload hX 1 dX4_positiveOf_94 rfl ?_
          refine m_bp hX dX4_positiveOf_96 (by decide) (by decide) ?_
          refine cl_sign hX (by omega) (Nat.le_of_ble_eq_true rfl) dX4_positiveOf_98 fun r14 V15 => ?_
          refine m_icmp_ne hX 114 dX4_positiveOf_101 (by decide) (fun _ => ?_) (fun _ => ?_)
          · refine m_lload_n hX 2 dX4_positiveOf_114 rfl rfl ?_
            refine m_lload hX 0 dX4_positiveOf_115 rfl ?_
            refine m_lcmp_ne hX 125 dX4_positiveOf_117 dX4_positiveOf_118 (by decide) (fun _ => ?_) (fun _ => ?_)
            · refine m_ic hX dX4_positiveOf_125 (by decide) (by decide) ?_
              exact m_cb (by decide) (m_zret hX rfl dX4_positiveOf_126)
            · refine m_ic hX dX4_positiveOf_121 (by decide) (by decide) ?_
              refine m_goto hX 126 dX4_positiveOf_122 (by decide) ?_
              exact m_cb (by decide) (m_zret hX rfl dX4_positiveOf_126)
          · refine m_lload_n hX 2 dX4_positiveOf_104 rfl rfl ?_
            refine m_lload hX 0 dX4_positiveOf_105 rfl ?_
            refine m_lcmp_le hX 125 dX4_positiveOf_107 dX4_positiveOf_108 (by decide) (fun _ => ?_) (fun _ => ?_)
            · refine m_ic hX dX4_positiveOf_125 (by decide) (by decide) ?_
              exact m_cb (by decide) (m_zret hX rfl dX4_positiveOf_126)
            · refine m_goto hX 121 dX4_positiveOf_111 (by decide) ?_
              refine m_ic hX dX4_positiveOf_121 (by decide) (by decide) ?_
              refine m_goto hX 126 dX4_positiveOf_122 (by decide) ?_
              exact m_cb (by decide) (m_zret hX rfl dX4_positiveOf_126)
        · refine m_lload_n hX 2 dX4_positiveOf_84 rfl rfl ?_
          refine m_lload hX 0 dX4_positiveOf_85 rfl ?_
          refine m_lcmp_ge hX 125 dX4_positiveOf_87 dX4_positiveOf_88 (by decide) (fun _ => ?_) (fun _ => ?_)
          · refine m_ic hX dX4_positiveOf_125 (by decide) (by decide) ?_
            exact m_cb (by decide) (m_zret hX rfl dX4_positiveOf_126)
          · refine m_goto hX 121 dX4_positiveOf_91 (by decide) ?_
            refine m_ic hX dX4_positiveOf_121 (by decide) (by decide) ?_
            refine m_goto hX 126 dX4_positiveOf_122 (by decide) ?_
            exact m_cb (by decide) (m_zret hX rfl dX4_positiveOf_126)
  · refine m_aload_n hX 0 dX4_positiveOf_12 rfl rfl ?_
    refine m_iload_n hX 1 dX4_positiveOf_13 rfl rfl ?_
    refine cr_testOf hX hR_testOf hdd.1 (Nat.le_of_ble_eq_true rfl) dX4_positiveOf_14 fun r16 V17 => ?_
    refine m_istore_n hX (lv' := [(2, (0, r16)), (0, (3, 0)), (1, (0, x1))]) dX4_positiveOf_17 rfl (by decide) rfl ?_
    refine m_aload_n hX 1 dX4_positiveOf_18 rfl rfl ?_
    refine m_dup hX dX4_positiveOf_19 rfl ?_
    refine fg_18 hX dX4_positiveOf_20 ?_
    refine m_ic hX dX4_positiveOf_23 (by decide) (by decide) ?_
    refine m_iadd hX dX4_positiveOf_24 ?_
    refine fp_18 hX dX4_positiveOf_25 fun V18 => ?_
    refine m_iload_n hX 0 dX4_positiveOf_28 rfl rfl ?_
    exact m_zret hX rfl dX4_positiveOf_29
noncomputable def MR_testOf : Nat → (Int → VV → Option (Int × VV)) × (Int → VV → Option (Int × VV)) × (Int → VV → Option (Int × VV)) × (Int → VV → Option (Int × VV))
  | 0 => (fun _ _ => none, fun _ _ => none, fun _ _ => none, fun _ _ => none)
  | n + 1 => (M_testOf_b (MR_testOf n).1 (MR_testOf n).2.1 (MR_testOf n).2.2.1 (MR_testOf n).2.2.2, M_bothOf_b (MR_testOf n).1 (MR_testOf n).2.1 (MR_testOf n).2.2.1 (MR_testOf n).2.2.2, M_plainOf_b (MR_testOf n).1 (MR_testOf n).2.1 (MR_testOf n).2.2.1 (MR_testOf n).2.2.2, M_positiveOf_b (MR_testOf n).1 (MR_testOf n).2.1 (MR_testOf n).2.2.1 (MR_testOf n).2.2.2)
noncomputable def M_testOf (n : Nat) (a0 : Int) (V : VV) : Option (Int × VV) := (MR_testOf n).1 a0 V
noncomputable def M_bothOf (n : Nat) (a0 : Int) (V : VV) : Option (Int × VV) := (MR_testOf n).2.1 a0 V
noncomputable def M_plainOf (n : Nat) (a0 : Int) (V : VV) : Option (Int × VV) := (MR_testOf n).2.2.1 a0 V
noncomputable def M_positiveOf (n : Nat) (a0 : Int) (V : VV) : Option (Int × VV) := (MR_testOf n).2.2.2 a0 V
theorem WMR_testOf (l : Launch) : ∀ (n dr : Nat), 63 + n ≤ dr → (∀ (a0 : Int) (V : VV), okV V → oks [(0, a0)] → ∀ fin, (MR_testOf n).1 a0 V = some fin → mSpec (l) yX4_testOf cX4_testOf 4 (some .boolean) dr 0 [(3, 0), (0, a0)] V fin) ∧ (∀ (a0 : Int) (V : VV), okV V → oks [(0, a0)] → ∀ fin, (MR_testOf n).2.1 a0 V = some fin → mSpec (l) yX4_bothOf cX4_bothOf 4 (some .boolean) dr 0 [(3, 0), (0, a0)] V fin) ∧ (∀ (a0 : Int) (V : VV), okV V → oks [(0, a0)] → ∀ fin, (MR_testOf n).2.2.1 a0 V = some fin → mSpec (l) yX4_plainOf cX4_plainOf 3 (some .boolean) dr 0 [(3, 0), (0, a0)] V fin) ∧ (∀ (a0 : Int) (V : VV), okV V → oks [(0, a0)] → ∀ fin, (MR_testOf n).2.2.2 a0 V = some fin → mSpec (l) yX4_positiveOf cX4_positiveOf 7 (some .boolean) dr 0 [(3, 0), (0, a0)] V fin) := by
  intro n
  induction n with
  | zero => intro dr _; exact ⟨(fun a0 V _ _ fin h => by cases h), (fun a0 V _ _ fin h => by cases h), (fun a0 V _ _ fin h => by cases h), (fun a0 V _ _ fin h => by cases h)⟩
  | succ n ih =>
    intro dr h
    obtain ⟨hR_testOf, hR_bothOf, hR_plainOf, hR_positiveOf⟩ := ih (dr - 1) (by omega)
    exact ⟨(fun a0 V hV ho fin hf => WM_testOf_b l (dr := dr - 1) (by omega) hR_testOf hR_bothOf hR_plainOf hR_positiveOf a0 V hV ho fin hf), (fun a0 V hV ho fin hf => WM_bothOf_b l (dr := dr - 1) (by omega) hR_testOf hR_bothOf hR_plainOf hR_positiveOf a0 V hV ho fin hf), (fun a0 V hV ho fin hf => WM_plainOf_b l (dr := dr - 1) (by omega) hR_testOf hR_bothOf hR_plainOf hR_positiveOf a0 V hV ho fin hf), (fun a0 V hV ho fin hf => WM_positiveOf_b l (dr := dr - 1) (by omega) hR_testOf hR_bothOf hR_plainOf hR_positiveOf a0 V hV ho fin hf)⟩
theorem WM_testOf (l : Launch) {d : Nat} (hdd : 124 ≤ d) (a0 : Int) (V : VV) (hV : okV V) (ho : oks [(0, a0)]) (fin : Int × VV) (hf : M_testOf RF a0 V = some fin) : mSpec l yX4_testOf cX4_testOf 4 (some .boolean) d 0 [(3, 0), (0, a0)] V fin := (WMR_testOf l RF d (by rw [RF_eq]; omega)).1 a0 V hV ho fin hf
theorem cl_testOf {Z : MZ} {cc : ByteArray} {nL : Nat} {ret : Option FieldType} {d rk : Nat} {pc : Nat} {lv : List (Nat × AV)} {st : List AV} {V : VV} {g : Int → VV → Option (Int × VV)} (hX : MX Z cc nL ret d rk) {a0 : Int} (hdd : 125 ≤ d) (hcat : (st.map fun v => if v.1 = 1 then 2 else 1).sum ≤ 8) (hdg : decode cc pc = .ok (.invokevirtual 287, 3)) (kk : ∀ r V1, MG Z (pc + 3) lv ((0, r) :: st) V1 (g r V1)) : MG Z pc lv ((0, a0) :: (3, 0) :: st) V (mb (M_testOf RF a0 V) g) :=
  m_callVi hX [(0, a0)] 1 (fun hV ho fin hf => WM_testOf (zL Z) (Nat.le_refl 124) a0 V hV ho fin hf) (lw_V q2065 q2067 qs89 q131 q2068) (by decide +kernel) rfl (by omega) (by decide) rfl hcat hdg kk
theorem WM_bothOf (l : Launch) {d : Nat} (hdd : 124 ≤ d) (a0 : Int) (V : VV) (hV : okV V) (ho : oks [(0, a0)]) (fin : Int × VV) (hf : M_bothOf RF a0 V = some fin) : mSpec l yX4_bothOf cX4_bothOf 4 (some .boolean) d 0 [(3, 0), (0, a0)] V fin := (WMR_testOf l RF d (by rw [RF_eq]; omega)).2.1 a0 V hV ho fin hf
theorem cl_bothOf {Z : MZ} {cc : ByteArray} {nL : Nat} {ret : Option FieldType} {d rk : Nat} {pc : Nat} {lv : List (Nat × AV)} {st : List AV} {V : VV} {g : Int → VV → Option (Int × VV)} (hX : MX Z cc nL ret d rk) {a0 : Int} (hdd : 125 ≤ d) (hcat : (st.map fun v => if v.1 = 1 then 2 else 1).sum ≤ 8) (hdg : decode cc pc = .ok (.invokevirtual 277, 3)) (kk : ∀ r V1, MG Z (pc + 3) lv ((0, r) :: st) V1 (g r V1)) : MG Z pc lv ((0, a0) :: (3, 0) :: st) V (mb (M_bothOf RF a0 V) g) :=
  m_callVi hX [(0, a0)] 1 (fun hV ho fin hf => WM_bothOf (zL Z) (Nat.le_refl 124) a0 V hV ho fin hf) (lw_V q2069 q2071 qs90 q131 q2072) (by decide +kernel) rfl (by omega) (by decide) rfl hcat hdg kk
theorem WM_plainOf (l : Launch) {d : Nat} (hdd : 124 ≤ d) (a0 : Int) (V : VV) (hV : okV V) (ho : oks [(0, a0)]) (fin : Int × VV) (hf : M_plainOf RF a0 V = some fin) : mSpec l yX4_plainOf cX4_plainOf 3 (some .boolean) d 0 [(3, 0), (0, a0)] V fin := (WMR_testOf l RF d (by rw [RF_eq]; omega)).2.2.1 a0 V hV ho fin hf
theorem cl_plainOf {Z : MZ} {cc : ByteArray} {nL : Nat} {ret : Option FieldType} {d rk : Nat} {pc : Nat} {lv : List (Nat × AV)} {st : List AV} {V : VV} {g : Int → VV → Option (Int × VV)} (hX : MX Z cc nL ret d rk) {a0 : Int} (hdd : 125 ≤ d) (hcat : (st.map fun v => if v.1 = 1 then 2 else 1).sum ≤ 8) (hdg : decode cc pc = .ok (.invokevirtual 281, 3)) (kk : ∀ r V1, MG Z (pc + 3) lv ((0, r) :: st) V1 (g r V1)) : MG Z pc lv ((0, a0) :: (3, 0) :: st) V (mb (M_plainOf RF a0 V) g) :=
  m_callVi hX [(0, a0)] 1 (fun hV ho fin hf => WM_plainOf (zL Z) (Nat.le_refl 124) a0 V hV ho fin hf) (lw_V q2073 q2075 qs91 q131 q2076) (by decide +kernel) rfl (by omega) (by decide) rfl hcat hdg kk
theorem WM_positiveOf (l : Launch) {d : Nat} (hdd : 124 ≤ d) (a0 : Int) (V : VV) (hV : okV V) (ho : oks [(0, a0)]) (fin : Int × VV) (hf : M_positiveOf RF a0 V = some fin) : mSpec l yX4_positiveOf cX4_positiveOf 7 (some .boolean) d 0 [(3, 0), (0, a0)] V fin := (WMR_testOf l RF d (by rw [RF_eq]; omega)).2.2.2 a0 V hV ho fin hf
theorem cl_positiveOf {Z : MZ} {cc : ByteArray} {nL : Nat} {ret : Option FieldType} {d rk : Nat} {pc : Nat} {lv : List (Nat × AV)} {st : List AV} {V : VV} {g : Int → VV → Option (Int × VV)} (hX : MX Z cc nL ret d rk) {a0 : Int} (hdd : 125 ≤ d) (hcat : (st.map fun v => if v.1 = 1 then 2 else 1).sum ≤ 8) (hdg : decode cc pc = .ok (.invokevirtual 284, 3)) (kk : ∀ r V1, MG Z (pc + 3) lv ((0, r) :: st) V1 (g r V1)) : MG Z pc lv ((0, a0) :: (3, 0) :: st) V (mb (M_positiveOf RF a0 V) g) :=
  m_callVi hX [(0, a0)] 1 (fun hV ho fin hf => WM_positiveOf (zL Z) (Nat.le_refl 124) a0 V hV ho fin hf) (lw_V q2077 q2079 qs92 q131 q2080) (by decide +kernel) rfl (by omega) (by decide) rfl hcat hdg kk
noncomputable def M_told_212 (K61 : Int → Int → Int → Int → VV → Option (Int × VV)) (x1 : Int) (x2 : Int) (x3 : Int) (x5 : Int) (V : VV) : Option (Int × VV) := K61 x1 x2 x3 x5 V
theorem WM_told_212 {Z : MZ} {d : Nat} (hX : MX Z cX4_told 11 (some .int) d 0) (hdd : 125 ≤ d) {K61 : Int → Int → Int → Int → VV → Option (Int × VV)} (hK61 : ∀ x1 x2 x3 x5 V, MG Z 61 [(0, (3, 0)), (1, (0, x1)), (2, (0, x2)), (3, (0, x3)), (5, (0, x5))] [] V (K61 x1 x2 x3 x5 V)) : ∀ x1 x2 x3 x5 V, MG Z 212 [(0, (3, 0)), (1, (0, x1)), (2, (0, x2)), (3, (0, x3)), (5, (0, x5))] [] V (M_told_212 K61 x1 x2 x3 x5 V) := by
  intro x1 x2 x3 x5 V
  unfold M_told_212
  refine m_goto hX 61 dX4_told_212 (by decide) ?_
  exact m_sub [0, 1, 2, 3, 4] rfl (hK61 x1 x2 x3 x5 V)
noncomputable def M_told_136 (K61 : Int → Int → Int → Int → VV → Option (Int × VV)) (s0 : Int) (x1 : Int) (x2 : Int) (x3 : Int) (x5 : Int) (x6 : Int) (x7 : Int) (x9 : Int) (V : VV) : Option (Int × VV) := nm (α := Int) (if s0 = 0 then 0 else (if V 20 0 = 0 then (if x9 = 0 then (if x6 = x1 then 1 else 0) else 0) else 0)) fun v1 => nm (vup V 18 0 (w32 ((V 18 0) + 1))) fun V2 => if v1 = 0 then (M_told_212 K61 x1 x2 x3 x5 V2) else (nm (α := Int) (if x2 ≤ x7 then (if x7 ≤ x3 then w32 x7 else x3) else x2) fun v3 => M_told_212 K61 x1 x2 x3 v3 V2)
theorem WM_told_136 {Z : MZ} {d : Nat} (hX : MX Z cX4_told 11 (some .int) d 0) (hdd : 125 ≤ d) {K61 : Int → Int → Int → Int → VV → Option (Int × VV)} (hK61 : ∀ x1 x2 x3 x5 V, MG Z 61 [(0, (3, 0)), (1, (0, x1)), (2, (0, x2)), (3, (0, x3)), (5, (0, x5))] [] V (K61 x1 x2 x3 x5 V)) : ∀ s0 x1 x2 x3 x5 x6 x7 x9 V, MG Z 136 [(0, (3, 0)), (1, (0, x1)), (2, (0, x2)), (3, (0, x3)), (5, (0, x5)), (6, (0, x6)), (7, (1, x7)), (9, (0, x9))] [(0, s0)] V (M_told_136 K61 s0 x1 x2 x3 x5 x6 x7 x9 V) := by
  intro s0 x1 x2 x3 x5 x6 x7 x9 V
  unfold M_told_136
  refine m_istore hX (lv' := [(10, (0, s0)), (0, (3, 0)), (1, (0, x1)), (2, (0, x2)), (3, (0, x3)), (5, (0, x5)), (6, (0, x6)), (7, (1, x7)), (9, (0, x9))]) dX4_told_136 (by decide) rfl ?_
  refine m_iload hX 0 dX4_told_138 rfl ?_
  refine m_join 166 (fun v1 => [(0, v1)]) (fun v1 => ?_) (fun hJ => ?_)
  · refine m_istore hX (lv' := [(10, (0, v1)), (0, (3, 0)), (1, (0, x1)), (2, (0, x2)), (3, (0, x3)), (5, (0, x5)), (6, (0, x6)), (7, (1, x7)), (9, (0, x9))]) dX4_told_166 (by decide) rfl ?_
    refine m_aload_n hX 1 dX4_told_168 rfl rfl ?_
    refine m_dup hX dX4_told_169 rfl ?_
    refine fg_18 hX dX4_told_170 ?_
    refine m_ic hX dX4_told_173 (by decide) (by decide) ?_
    refine m_iadd hX dX4_told_174 ?_
    refine fp_18 hX dX4_told_175 fun V2 => ?_
    refine m_iload hX 0 dX4_told_178 rfl ?_
    refine m_if_eq hX 212 dX4_told_180 (by decide) (fun _ => ?_) (fun _ => ?_)
    · exact m_sub [1, 2, 3, 4, 5] rfl (WM_told_212 hX hdd hK61 x1 x2 x3 x5 V2)
    · refine m_lload hX 7 dX4_told_183 rfl ?_
      refine m_iload_n hX 3 dX4_told_185 rfl rfl ?_
      refine m_i2l hX dX4_told_186 ?_
      refine m_join 210 (fun v3 => [(0, v3)]) (fun v3 => ?_) (fun hJ => ?_)
      · refine m_istore hX (lv' := [(5, (0, v3)), (10, (0, v1)), (0, (3, 0)), (1, (0, x1)), (2, (0, x2)), (3, (0, x3)), (6, (0, x6)), (7, (1, x7)), (9, (0, x9))]) dX4_told_210 (by decide) rfl ?_
        exact m_sub [2, 3, 4, 5, 0] rfl (WM_told_212 hX hdd hK61 x1 x2 x3 v3 V2)
      · refine m_lcmp_geF hX 195 dX4_told_187 dX4_told_188 (by decide) (fun _ => ?_) (fun _ => ?_)
        · refine m_lload hX 7 dX4_told_195 rfl ?_
          refine m_iload_n hX 4 dX4_told_197 rfl rfl ?_
          refine m_i2l hX dX4_told_198 ?_
          refine m_lcmp_leF hX 207 dX4_told_199 dX4_told_200 (by decide) (fun _ => ?_) (fun _ => ?_)
          · refine m_lload hX 7 dX4_told_207 rfl ?_
            refine m_l2i hX dX4_told_209 ?_
            exact hJ _
          · refine m_iload_n hX 4 dX4_told_203 rfl rfl ?_
            refine m_goto hX 210 dX4_told_204 (by decide) ?_
            exact hJ _
        · refine m_iload_n hX 3 dX4_told_191 rfl rfl ?_
          refine m_goto hX 210 dX4_told_192 (by decide) ?_
          exact hJ _
  · refine m_if_eqF hX 165 dX4_told_140 (by decide) (fun _ => ?_) (fun _ => ?_)
    · refine m_ic hX dX4_told_165 (by decide) (by decide) ?_
      exact hJ _
    · refine m_aload_n hX 1 dX4_told_143 rfl rfl ?_
      refine fg_20 hX dX4_told_144 ?_
      refine m_if_neF hX 165 dX4_told_147 (by decide) (fun _ => ?_) (fun _ => ?_)
      · refine m_ic hX dX4_told_165 (by decide) (by decide) ?_
        exact hJ _
      · refine m_iload hX 8 dX4_told_150 rfl ?_
        refine m_if_neF hX 165 dX4_told_152 (by decide) (fun _ => ?_) (fun _ => ?_)
        · refine m_ic hX dX4_told_165 (by decide) (by decide) ?_
          exact hJ _
        · refine m_iload hX 6 dX4_told_155 rfl ?_
          refine m_iload_n hX 2 dX4_told_157 rfl rfl ?_
          refine m_icmp_neF hX 165 dX4_told_158 (by decide) (fun _ => ?_) (fun _ => ?_)
          · refine m_ic hX dX4_told_165 (by decide) (by decide) ?_
            exact hJ _
          · refine m_ic hX dX4_told_161 (by decide) (by decide) ?_
            refine m_goto hX 166 dX4_told_162 (by decide) ?_
            exact hJ _
noncomputable def M_told_131 (K61 : Int → Int → Int → Int → VV → Option (Int × VV)) (x1 : Int) (x2 : Int) (x3 : Int) (x5 : Int) (x6 : Int) (x7 : Int) (x9 : Int) (V : VV) : Option (Int × VV) := M_told_136 K61 1 x1 x2 x3 x5 x6 x7 x9 V
theorem WM_told_131 {Z : MZ} {d : Nat} (hX : MX Z cX4_told 11 (some .int) d 0) (hdd : 125 ≤ d) {K61 : Int → Int → Int → Int → VV → Option (Int × VV)} (hK61 : ∀ x1 x2 x3 x5 V, MG Z 61 [(0, (3, 0)), (1, (0, x1)), (2, (0, x2)), (3, (0, x3)), (5, (0, x5))] [] V (K61 x1 x2 x3 x5 V)) : ∀ x1 x2 x3 x5 x6 x7 x9 V, MG Z 131 [(0, (3, 0)), (1, (0, x1)), (2, (0, x2)), (3, (0, x3)), (5, (0, x5)), (6, (0, x6)), (7, (1, x7)), (9, (0, x9))] [] V (M_told_131 K61 x1 x2 x3 x5 x6 x7 x9 V) := by
  intro x1 x2 x3 x5 x6 x7 x9 V
  unfold M_told_131
  refine m_ic hX dX4_told_131 (by decide) (by decide) ?_
  refine m_goto hX 136 dX4_told_132 (by decide) ?_
  exact m_sub [0, 1, 2, 3, 4, 5, 6, 7] rfl (WM_told_136 hX hdd hK61 1 x1 x2 x3 x5 x6 x7 x9 V)
noncomputable def M_told_61 : Nat → Int → Int → Int → Int → VV → Option (Int × VV)
  | 0, _, _, _, _, _ => none
  | n + 1, x1, x2, x3, x5, V => if V 19 0 ≤ V 18 0 then (some (x5, V)) else (nm (vup V 20 0 0) fun V1 => mb (M_codeAt (V1 18 0) V1) fun r2 V3 => nm (vup V3 18 0 (w32 ((V3 18 0) + 1))) fun V4 => mb (M_sumOf RF 1 V4) fun r5 V6 => nm (α := Int) (V6 20 0) fun v7 => nm (vup V6 20 0 0) fun V8 => mb (M_passes0 4 V8) fun r9 V10 => if r9 = 0 then (M_told_131 (M_told_61 n) x1 x2 x3 x5 r2 r5 v7 V10) else (mb (M_testOf RF 1 V10) fun r11 V12 => if r11 = 0 then (M_told_136 (M_told_61 n) 0 x1 x2 x3 x5 r2 r5 v7 V12) else (M_told_131 (M_told_61 n) x1 x2 x3 x5 r2 r5 v7 V12)))
theorem WM_told_61 {Z : MZ} {d : Nat} (hX : MX Z cX4_told 11 (some .int) d 0) (hdd : 125 ≤ d) : ∀ n x1 x2 x3 x5 V, MG Z 61 [(0, (3, 0)), (1, (0, x1)), (2, (0, x2)), (3, (0, x3)), (5, (0, x5))] [] V (M_told_61 n x1 x2 x3 x5 V) := by
  intro n
  induction n with
  | zero => intro x1 x2 x3 x5 V; exact m_none
  | succ n ih =>
    intro x1 x2 x3 x5 V
    rw [M_told_61]
    refine m_aload_n hX 0 dX4_told_61 rfl rfl ?_
    refine fg_18 hX dX4_told_62 ?_
    refine m_aload_n hX 0 dX4_told_65 rfl rfl ?_
    refine fg_19 hX dX4_told_66 ?_
    refine m_icmp_ge hX 215 dX4_told_69 (by decide) (fun _ => ?_) (fun _ => ?_)
    · refine m_iload hX 4 dX4_told_215 rfl ?_
      exact m_iret hX rfl dX4_told_217
    · refine m_aload_n hX 0 dX4_told_72 rfl rfl ?_
      refine m_ic hX dX4_told_73 (by decide) (by decide) ?_
      refine m_cb (b := 0) (by decide) ?_
      refine fp_20 hX dX4_told_74 fun V1 => ?_
      refine m_aload_n hX 0 dX4_told_77 rfl rfl ?_
      refine m_aload_n hX 0 dX4_told_78 rfl rfl ?_
      refine fg_18 hX dX4_told_79 ?_
      refine cl_codeAt hX (by omega) (Nat.le_of_ble_eq_true rfl) dX4_told_82 fun r2 V3 => ?_
      refine m_istore hX (lv' := [(6, (0, r2)), (0, (3, 0)), (1, (0, x1)), (2, (0, x2)), (3, (0, x3)), (5, (0, x5))]) dX4_told_85 (by decide) rfl ?_
      refine m_aload_n hX 1 dX4_told_87 rfl rfl ?_
      refine m_dup hX dX4_told_88 rfl ?_
      refine fg_18 hX dX4_told_89 ?_
      refine m_ic hX dX4_told_92 (by decide) (by decide) ?_
      refine m_iadd hX dX4_told_93 ?_
      refine fp_18 hX dX4_told_94 fun V4 => ?_
      refine m_aload_n hX 1 dX4_told_97 rfl rfl ?_
      refine m_ic hX dX4_told_98 (by decide) (by decide) ?_
      refine cl_sumOf hX (by omega) (Nat.le_of_ble_eq_true rfl) dX4_told_99 fun r5 V6 => ?_
      refine m_lstore hX (lv' := [(7, (1, r5)), (6, (0, r2)), (0, (3, 0)), (1, (0, x1)), (2, (0, x2)), (3, (0, x3)), (5, (0, x5))]) dX4_told_102 (by decide) rfl ?_
      refine m_aload_n hX 2 dX4_told_104 rfl rfl ?_
      refine fg_20 hX dX4_told_105 ?_
      refine m_nmT fun v7 => ?_
      refine m_istore hX (lv' := [(9, (0, v7)), (7, (1, r5)), (6, (0, r2)), (0, (3, 0)), (1, (0, x1)), (2, (0, x2)), (3, (0, x3)), (5, (0, x5))]) dX4_told_108 (by decide) rfl ?_
      refine m_aload_n hX 3 dX4_told_110 rfl rfl ?_
      refine m_ic hX dX4_told_111 (by decide) (by decide) ?_
      refine m_cb (b := 0) (by decide) ?_
      refine fp_20 hX dX4_told_112 fun V8 => ?_
      refine m_aload_n hX 3 dX4_told_115 rfl rfl ?_
      refine m_ic hX dX4_told_116 (by decide) (by decide) ?_
      refine cl_passes0 hX (by omega) (Nat.le_of_ble_eq_true rfl) dX4_told_117 fun r9 V10 => ?_
      refine m_if_eq hX 131 dX4_told_120 (by decide) (fun _ => ?_) (fun _ => ?_)
      · exact m_sub [3, 4, 5, 6, 7, 2, 1, 0] rfl (WM_told_131 hX hdd ih x1 x2 x3 x5 r2 r5 v7 V10)
      · refine m_aload_n hX 3 dX4_told_123 rfl rfl ?_
        refine m_ic hX dX4_told_124 (by decide) (by decide) ?_
        refine cl_testOf hX (by omega) (Nat.le_of_ble_eq_true rfl) dX4_told_125 fun r11 V12 => ?_
        refine m_if_eq hX 135 dX4_told_128 (by decide) (fun _ => ?_) (fun _ => ?_)
        · refine m_ic hX dX4_told_135 (by decide) (by decide) ?_
          exact m_sub [3, 4, 5, 6, 7, 2, 1, 0] rfl (WM_told_136 hX hdd ih 0 x1 x2 x3 x5 r2 r5 v7 V12)
        · exact m_sub [3, 4, 5, 6, 7, 2, 1, 0] rfl (WM_told_131 hX hdd ih x1 x2 x3 x5 r2 r5 v7 V12)
noncomputable def M_told (x1 : Int) (x2 : Int) (x3 : Int) (x4 : Int) (V : VV) : Option (Int × VV) := if V 3 394 = (-1) then (some (x4, V)) else (nm (vup V 18 0 (w32 (400 * (V 3 394)))) fun V1 => ck (w32 (395 + (V1 3 394))) 5201 <| nm (vup V1 19 0 (w32 ((V1 18 0) + (V1 3 (w32 (395 + (V1 3 394))))))) fun V2 => M_told_61 FU x1 x2 x3 x4 V2)
theorem WM_told (l : Launch) {d : Nat} (hdd : 125 ≤ d) (x1 : Int) (x2 : Int) (x3 : Int) (x4 : Int) (V : VV) (hV : okV V) (ho : oks [(0, x1), (0, x2), (0, x3), (0, x4)]) (fin : Int × VV) (hf : M_told x1 x2 x3 x4 V = some fin) : mSpec l yX4_told cX4_told 11 (some .int) d 0 [(3, 0), (0, x1), (0, x2), (0, x3), (0, x4)] V fin := by
  refine m_enter (lv := [(0, (3, 0)), (1, (0, x1)), (2, (0, x2)), (3, (0, x3)), (4, (0, x4))]) (by decide) rfl (Nat.le_of_ble_eq_true rfl) rfl (fun Z hZ hX => ?_) hV (ho.c (okA.t 0)) fin hf
  unfold M_told
  refine m_aload_n hX 0 dX4_told_0 rfl rfl ?_
  refine fg_3 hX dX4_told_1 ?_
  refine m_sp hX dX4_told_4 (by decide) (by decide) ?_
  refine m_in (by decide) (by decide) (al_3 hX dX4_told_7 ?_)
  refine m_ic hX dX4_told_8 (by decide) (by decide) ?_
  refine m_icmp_ne hX 15 dX4_told_9 (by decide) (fun _ => ?_) (fun _ => ?_)
  · refine m_aload_n hX 0 dX4_told_15 rfl rfl ?_
    refine m_sp hX dX4_told_16 (by decide) (by decide) ?_
    refine m_aload_n hX 0 dX4_told_19 rfl rfl ?_
    refine fg_3 hX dX4_told_20 ?_
    refine m_sp hX dX4_told_23 (by decide) (by decide) ?_
    refine m_in (by decide) (by decide) (al_3 hX dX4_told_26 ?_)
    refine m_imul hX dX4_told_27 ?_
    refine fp_18 hX dX4_told_28 fun V1 => ?_
    refine m_aload_n hX 0 dX4_told_31 rfl rfl ?_
    refine m_aload_n hX 0 dX4_told_32 rfl rfl ?_
    refine fg_18 hX dX4_told_33 ?_
    refine m_aload_n hX 0 dX4_told_36 rfl rfl ?_
    refine fg_3 hX dX4_told_37 ?_
    refine m_sp hX dX4_told_40 (by decide) (by decide) ?_
    refine m_aload_n hX 0 dX4_told_43 rfl rfl ?_
    refine fg_3 hX dX4_told_44 ?_
    refine m_sp hX dX4_told_47 (by decide) (by decide) ?_
    refine m_in (by decide) (by decide) (al_3 hX dX4_told_50 ?_)
    refine m_iadd hX dX4_told_51 ?_
    refine al_3 hX dX4_told_52 ?_
    refine m_iadd hX dX4_told_53 ?_
    refine fp_19 hX dX4_told_54 fun V2 => ?_
    refine m_iload hX 4 dX4_told_57 rfl ?_
    refine m_istore hX (lv' := [(5, (0, x4)), (0, (3, 0)), (1, (0, x1)), (2, (0, x2)), (3, (0, x3)), (4, (0, x4))]) dX4_told_59 (by decide) rfl ?_
    exact m_sub [1, 2, 3, 4, 0] rfl (WM_told_61 hX hdd FU x1 x2 x3 x4 V2)
  · refine m_iload hX 4 dX4_told_12 rfl ?_
    exact m_iret hX rfl dX4_told_14
theorem cl_told {Z : MZ} {cc : ByteArray} {nL : Nat} {ret : Option FieldType} {d rk : Nat} {pc : Nat} {lv : List (Nat × AV)} {st : List AV} {V : VV} {g : Int → VV → Option (Int × VV)} (hX : MX Z cc nL ret d rk) {a0 a1 a2 a3 : Int} (hdd : 126 ≤ d) (hcat : (st.map fun v => if v.1 = 1 then 2 else 1).sum ≤ 8) (hdg : decode cc pc = .ok (.invokevirtual 294, 3)) (kk : ∀ r V1, MG Z (pc + 3) lv ((0, r) :: st) V1 (g r V1)) : MG Z pc lv ((0, a3) :: (0, a2) :: (0, a1) :: (0, a0) :: (3, 0) :: st) V (mb (M_told a0 a1 a2 a3 V) g) :=
  m_callVi hX [(0, a0), (0, a1), (0, a2), (0, a3)] 4 (fun hV ho fin hf => WM_told (zL Z) (Nat.le_refl 125) a0 a1 a2 a3 V hV ho fin hf) (lw_V q2035 q2037 qs82 q131 q2038) (by decide +kernel) rfl (by omega) (by decide) rfl hcat hdg kk
