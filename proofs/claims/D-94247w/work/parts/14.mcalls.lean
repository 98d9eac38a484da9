/-! the model's layer: calls, and a method's entry -/
set_option maxRecDepth 100000
theorem mS_blind {avs : List Value} {D : va_G} {cT : Nat → ClassId} {aM : Nat → Nat} {a0 : Nat} {V : VV} : FrameBlind (va_Pc avs (fun U => va_P D gcl (mW cT aM a0 V) U.heap ∧ va_K D gcl (mTys cT) U)) := fun a U g mk q => ⟨q.1, q.2.1, va_K.moved (u := U) (U := U.calling g mk a) (Vm.Alike.refl U.vm) q.2.2⟩
theorem cat_sum {aM : Nat → Nat} {a0 : Nat} {st : List AV} (h : (st.map fun v => if v.1 = 1 then 2 else 1).sum ≤ 8) : ((st.map (cA aM a0)).map fun v => v.category).sum ≤ 8 := by
  rw [List.map_map]
  have e : (Value.category ∘ cA aM a0) = fun v : AV => if v.1 = 1 then 2 else 1 := by
    funext v
    match v with
    | (0, x) => rfl
    | (1, x) => rfl
    | (2, x) => rfl
    | (n + 3, x) => rfl
  show (st.map (Value.category ∘ cA aM a0)).sum ≤ 8
  rw [e]; exact h
theorem oks.app {a b : List AV} (h : oks (a ++ b)) : oks a ∧ oks b := ⟨fun v q => h v (List.mem_append_left _ q), fun v q => h v (List.mem_append_right _ q)⟩
theorem oks.rev {a : List AV} (h : oks a.reverse) : oks a := fun v q => h v (List.mem_reverse.mpr q)
section CALLS
variable {Z : MZ} {cc : ByteArray} {nL : Nat} {ret : Option FieldType} {d rk : Nat} {pc : Nat} {lv : List (Nat × AV)} {st st0 : List AV} {V : VV} {f : Option (Int × VV)} {g : Int → VV → Option (Int × VV)}
theorem m_callVi (hX : MX Z cc nL ret d rk) {y : MethodName} {cy : ByteArray} {ny dy ix : Nat} {ry : Option FieldType} (args : List AV) (n : Nat) (hM : okV V → oks args → ∀ fin, f = some fin → mSpec (zL Z) y cy ny ry dy 0 ((3, 0) :: args) V fin) (hw : GoodIn lw_all (wsV RX4 ix RX4 y (ws_ y cy ny ry))) (hd : y.cls = RX4 ∧ y.cls ≠ "java/lang/invoke/MethodHandle" ∧ y.cls ≠ "java/lang/invoke/VarHandle" ∧ (parseMethodDescriptor y.desc).map (fun d => d.parameters.length) = some n) (hn : args.length = n) (hdd : dy + 1 ≤ d) (hny : ny ≤ 40) (hs0 : st0 = args.reverse ++ (3, 0) :: st) (hcat : (st.map fun v => if v.1 = 1 then 2 else 1).sum ≤ 8) (hdg : decode cc pc = .ok (.invokevirtual ix, 3)) (kk : ∀ r V1, MG Z (pc + 3) lv ((0, r) :: st) V1 (g r V1)) : MG Z pc lv st0 V (mb f g) := fun H locs ls hP hS hl hV hlv hst hf0 => by
  obtain ⟨r, V1, hf1, hf⟩ := mb_eq hf0
  subst hs0
  have ho := hst.app
  have hst2 : oks st := ho.2.t
  have hMM := hM hV ho.1.rev (r, V1) hf1 (zD Z) (zCT Z) (zAM Z) (zA0 Z) hX.hD
  have hcw : CallW (zR Z) (zS Z) (zA Z) RX4 RX4 ix y cy ny ry (ws_ y cy ny ry) (mRm dy) 0 0 n := cwV n hX.hts hw rfl rfl rfl hd (by rw [hX.hR]; exact ⟨hdd, by show 8 + (ny + 11) + 64 * dy ≤ 64 * d; omega⟩)
  refine va_calli (A1 := mA (zAM Z) (zA0 Z)) (va_runV (As := args.map (cA (zAM Z) (zA0 Z))) (rest := st.map (cA (zAM Z) (zA0 Z))) (b := zA0 Z) ⟨hX.hx, hX.hb, hX.hml, hX.hown, hX.hts⟩ hMM hcw ⟨mS_blind, va_recv hX.hK hP (ci := 0) (q0 := 0) rfl rfl, fun U hU hW => ⟨rfl, by rw [hU]; exact hP, va_K.moved hW.alike hX.hK⟩⟩ rfl (by rw [List.length_map]; exact hn) (hl.1.trans hX.hml) (by show List.map _ (args.reverse ++ (3, 0) :: st) = _; rw [List.map_append, List.map_reverse]; rfl) (lv_room (cat_sum hcat)) hdg ⟨Nat.zero_le _, Nat.zero_le _⟩) hS (fun q _ h => h) (fun q h => h) ?_
  intro r' u t H1 locs1 ht hvm hpost hB hsz hkeep hS1
  obtain ⟨hr, hri, hV1⟩ := hpost
  have hP1 : va_P (zD Z) gcl (mW (zCT Z) (zAM Z) (zA0 Z) V1) H1 := by rw [← ht]; exact hB
  rw [show r' = _ from hr]
  exact kk r V1 H1 locs1 ls hP1 hS1 hl hV1 hlv (hst2.c (okA.i hri)) hf
theorem m_callVl (hX : MX Z cc nL ret d rk) {y : MethodName} {cy : ByteArray} {ny dy ix : Nat} {ry : Option FieldType} (args : List AV) (n : Nat) (hM : okV V → oks args → ∀ fin, f = some fin → mSpec (zL Z) y cy ny ry dy 1 ((3, 0) :: args) V fin) (hw : GoodIn lw_all (wsV RX4 ix RX4 y (ws_ y cy ny ry))) (hd : y.cls = RX4 ∧ y.cls ≠ "java/lang/invoke/MethodHandle" ∧ y.cls ≠ "java/lang/invoke/VarHandle" ∧ (parseMethodDescriptor y.desc).map (fun d => d.parameters.length) = some n) (hn : args.length = n) (hdd : dy + 1 ≤ d) (hny : ny ≤ 40) (hs0 : st0 = args.reverse ++ (3, 0) :: st) (hcat : (st.map fun v => if v.1 = 1 then 2 else 1).sum ≤ 8) (hdg : decode cc pc = .ok (.invokevirtual ix, 3)) (kk : ∀ r V1, MG Z (pc + 3) lv ((1, r) :: st) V1 (g r V1)) : MG Z pc lv st0 V (mb f g) := fun H locs ls hP hS hl hV hlv hst hf0 => by
  obtain ⟨r, V1, hf1, hf⟩ := mb_eq hf0
  subst hs0
  have ho := hst.app
  have hst2 : oks st := ho.2.t
  have hMM := hM hV ho.1.rev (r, V1) hf1 (zD Z) (zCT Z) (zAM Z) (zA0 Z) hX.hD
  have hcw : CallW (zR Z) (zS Z) (zA Z) RX4 RX4 ix y cy ny ry (ws_ y cy ny ry) (mRm dy) 0 0 n := cwV n hX.hts hw rfl rfl rfl hd (by rw [hX.hR]; exact ⟨hdd, by show 8 + (ny + 11) + 64 * dy ≤ 64 * d; omega⟩)
  refine va_calll (A1 := mA (zAM Z) (zA0 Z)) (va_runV (As := args.map (cA (zAM Z) (zA0 Z))) (rest := st.map (cA (zAM Z) (zA0 Z))) (b := zA0 Z) ⟨hX.hx, hX.hb, hX.hml, hX.hown, hX.hts⟩ hMM hcw ⟨mS_blind, va_recv hX.hK hP (ci := 0) (q0 := 0) rfl rfl, fun U hU hW => ⟨rfl, by rw [hU]; exact hP, va_K.moved hW.alike hX.hK⟩⟩ rfl (by rw [List.length_map]; exact hn) (hl.1.trans hX.hml) (by show List.map _ (args.reverse ++ (3, 0) :: st) = _; rw [List.map_append, List.map_reverse]; rfl) (lv_room (cat_sum hcat)) hdg ⟨Nat.zero_le _, Nat.zero_le _⟩) hS (fun q _ h => h) (fun q h => h) ?_
  intro r' u t H1 locs1 ht hvm hpost hB hsz hkeep hS1
  obtain ⟨hr, hri, hV1⟩ := hpost
  have hP1 : va_P (zD Z) gcl (mW (zCT Z) (zAM Z) (zA0 Z) V1) H1 := by rw [← ht]; exact hB
  rw [show r' = _ from hr]
  exact kk r V1 H1 locs1 ls hP1 hS1 hl hV1 hlv (hst2.c (okA.l hri)) hf
theorem m_callVv (hX : MX Z cc nL ret d rk) {y : MethodName} {cy : ByteArray} {ny dy ix : Nat} {ry : Option FieldType} (args : List AV) (n : Nat) (hM : okV V → oks args → ∀ fin, f = some fin → mSpec (zL Z) y cy ny ry dy 2 ((3, 0) :: args) V fin) (hw : GoodIn lw_all (wsV RX4 ix RX4 y (ws_ y cy ny ry))) (hd : y.cls = RX4 ∧ y.cls ≠ "java/lang/invoke/MethodHandle" ∧ y.cls ≠ "java/lang/invoke/VarHandle" ∧ (parseMethodDescriptor y.desc).map (fun d => d.parameters.length) = some n) (hn : args.length = n) (hdd : dy + 1 ≤ d) (hny : ny ≤ 40) (hs0 : st0 = args.reverse ++ (3, 0) :: st) (hcat : (st.map fun v => if v.1 = 1 then 2 else 1).sum ≤ 8) (hdg : decode cc pc = .ok (.invokevirtual ix, 3)) (kk : ∀ r V1, MG Z (pc + 3) lv st V1 (g r V1)) : MG Z pc lv st0 V (mb f g) := fun H locs ls hP hS hl hV hlv hst hf0 => by
  obtain ⟨r, V1, hf1, hf⟩ := mb_eq hf0
  subst hs0
  have ho := hst.app
  have hst2 : oks st := ho.2.t
  have hMM := hM hV ho.1.rev (r, V1) hf1 (zD Z) (zCT Z) (zAM Z) (zA0 Z) hX.hD
  have hcw : CallW (zR Z) (zS Z) (zA Z) RX4 RX4 ix y cy ny ry (ws_ y cy ny ry) (mRm dy) 0 0 n := cwV n hX.hts hw rfl rfl rfl hd (by rw [hX.hR]; exact ⟨hdd, by show 8 + (ny + 11) + 64 * dy ≤ 64 * d; omega⟩)
  refine va_callv (A1 := mA (zAM Z) (zA0 Z)) (va_runV (As := args.map (cA (zAM Z) (zA0 Z))) (rest := st.map (cA (zAM Z) (zA0 Z))) (b := zA0 Z) ⟨hX.hx, hX.hb, hX.hml, hX.hown, hX.hts⟩ hMM hcw ⟨mS_blind, va_recv hX.hK hP (ci := 0) (q0 := 0) rfl rfl, fun U hU hW => ⟨rfl, by rw [hU]; exact hP, va_K.moved hW.alike hX.hK⟩⟩ rfl (by rw [List.length_map]; exact hn) (hl.1.trans hX.hml) (by show List.map _ (args.reverse ++ (3, 0) :: st) = _; rw [List.map_append, List.map_reverse]; rfl) (lv_room (cat_sum hcat)) hdg ⟨Nat.zero_le _, Nat.zero_le _⟩) hS (fun q _ h => h) (fun q h => h) ?_
  intro u t H1 locs1 ht hvm hpost hB hsz hkeep hS1
  have hP1 : va_P (zD Z) gcl (mW (zCT Z) (zAM Z) (zA0 Z) V1) H1 := by rw [← ht]; exact hB
  exact kk r V1 H1 locs1 ls hP1 hS1 hl hpost hlv hst2 hf
theorem m_callSi (hX : MX Z cc nL ret d rk) {y : MethodName} {cy : ByteArray} {ny dy ix : Nat} {ry : Option FieldType} (args : List AV) (n : Nat) (hM : okV V → oks args → ∀ fin, f = some fin → mSpec (zL Z) y cy ny ry dy 0 (args) V fin) (hw : GoodIn lw_all (va_wsS RX4 ix y (ws_ y cy ny ry))) (hd : y.cls = RX4 ∧ y.cls ≠ "java/lang/invoke/MethodHandle" ∧ y.cls ≠ "java/lang/invoke/VarHandle" ∧ (parseMethodDescriptor y.desc).map (fun d => d.parameters.length) = some n) (hn : args.length = n) (hdd : dy + 1 ≤ d) (hny : ny ≤ 40) (hs0 : st0 = args.reverse ++ st) (hcat : (st.map fun v => if v.1 = 1 then 2 else 1).sum ≤ 8) (hdg : decode cc pc = .ok (.invokestatic ix, 3)) (kk : ∀ r V1, MG Z (pc + 3) lv ((0, r) :: st) V1 (g r V1)) : MG Z pc lv st0 V (mb f g) := fun H locs ls hP hS hl hV hlv hst hf0 => by
  obtain ⟨r, V1, hf1, hf⟩ := mb_eq hf0
  subst hs0
  have ho := hst.app
  have hst2 : oks st := ho.2
  have hMM := hM hV ho.1.rev (r, V1) hf1 (zD Z) (zCT Z) (zAM Z) (zA0 Z) hX.hD
  have hcw : CallB (zR Z) (zS Z) (zA Z) RX4 ix y cy ny ry (ws_ y cy ny ry) (mRm dy) 0 0 n ∧ (Cond.static y).before (zA Z) (zS Z) = true := va_cwS n hX.hts hw rfl rfl rfl hd.2 (by rw [hX.hR]; exact ⟨hdd, by show 8 + (ny + 11) + 64 * dy ≤ 64 * d; omega⟩)
  refine va_calli (A1 := mA (zAM Z) (zA0 Z)) (va_runS (As := args.map (cA (zAM Z) (zA0 Z))) (rest := st.map (cA (zAM Z) (zA0 Z))) ⟨hX.hx, hX.hb, hX.hml, hX.hown, hX.hts⟩ hMM hcw ⟨mS_blind, fun U hU hW => ⟨rfl, by rw [hU]; exact hP, va_K.moved hW.alike hX.hK⟩⟩ rfl (by rw [List.length_map]; exact hn) (hl.1.trans hX.hml) (by show List.map _ (args.reverse ++ st) = _; rw [List.map_append, List.map_reverse]) (lv_room (cat_sum hcat)) hdg ⟨Nat.zero_le _, Nat.zero_le _⟩) hS (fun q _ h => h) (fun q h => h) ?_
  intro r' u t H1 locs1 ht hvm hpost hB hsz hkeep hS1
  obtain ⟨hr, hri, hV1⟩ := hpost
  have hP1 : va_P (zD Z) gcl (mW (zCT Z) (zAM Z) (zA0 Z) V1) H1 := by rw [← ht]; exact hB
  rw [show r' = _ from hr]
  exact kk r V1 H1 locs1 ls hP1 hS1 hl hV1 hlv (hst2.c (okA.i hri)) hf
theorem m_callSl (hX : MX Z cc nL ret d rk) {y : MethodName} {cy : ByteArray} {ny dy ix : Nat} {ry : Option FieldType} (args : List AV) (n : Nat) (hM : okV V → oks args → ∀ fin, f = some fin → mSpec (zL Z) y cy ny ry dy 1 (args) V fin) (hw : GoodIn lw_all (va_wsS RX4 ix y (ws_ y cy ny ry))) (hd : y.cls = RX4 ∧ y.cls ≠ "java/lang/invoke/MethodHandle" ∧ y.cls ≠ "java/lang/invoke/VarHandle" ∧ (parseMethodDescriptor y.desc).map (fun d => d.parameters.length) = some n) (hn : args.length = n) (hdd : dy + 1 ≤ d) (hny : ny ≤ 40) (hs0 : st0 = args.reverse ++ st) (hcat : (st.map fun v => if v.1 = 1 then 2 else 1).sum ≤ 8) (hdg : decode cc pc = .ok (.invokestatic ix, 3)) (kk : ∀ r V1, MG Z (pc + 3) lv ((1, r) :: st) V1 (g r V1)) : MG Z pc lv st0 V (mb f g) := fun H locs ls hP hS hl hV hlv hst hf0 => by
  obtain ⟨r, V1, hf1, hf⟩ := mb_eq hf0
  subst hs0
  have ho := hst.app
  have hst2 : oks st := ho.2
  have hMM := hM hV ho.1.rev (r, V1) hf1 (zD Z) (zCT Z) (zAM Z) (zA0 Z) hX.hD
  have hcw : CallB (zR Z) (zS Z) (zA Z) RX4 ix y cy ny ry (ws_ y cy ny ry) (mRm dy) 0 0 n ∧ (Cond.static y).before (zA Z) (zS Z) = true := va_cwS n hX.hts hw rfl rfl rfl hd.2 (by rw [hX.hR]; exact ⟨hdd, by show 8 + (ny + 11) + 64 * dy ≤ 64 * d; omega⟩)
  refine va_calll (A1 := mA (zAM Z) (zA0 Z)) (va_runS (As := args.map (cA (zAM Z) (zA0 Z))) (rest := st.map (cA (zAM Z) (zA0 Z))) ⟨hX.hx, hX.hb, hX.hml, hX.hown, hX.hts⟩ hMM hcw ⟨mS_blind, fun U hU hW => ⟨rfl, by rw [hU]; exact hP, va_K.moved hW.alike hX.hK⟩⟩ rfl (by rw [List.length_map]; exact hn) (hl.1.trans hX.hml) (by show List.map _ (args.reverse ++ st) = _; rw [List.map_append, List.map_reverse]) (lv_room (cat_sum hcat)) hdg ⟨Nat.zero_le _, Nat.zero_le _⟩) hS (fun q _ h => h) (fun q h => h) ?_
  intro r' u t H1 locs1 ht hvm hpost hB hsz hkeep hS1
  obtain ⟨hr, hri, hV1⟩ := hpost
  have hP1 : va_P (zD Z) gcl (mW (zCT Z) (zAM Z) (zA0 Z) V1) H1 := by rw [← ht]; exact hB
  rw [show r' = _ from hr]
  exact kk r V1 H1 locs1 ls hP1 hS1 hl hV1 hlv (hst2.c (okA.l hri)) hf
theorem m_callSv (hX : MX Z cc nL ret d rk) {y : MethodName} {cy : ByteArray} {ny dy ix : Nat} {ry : Option FieldType} (args : List AV) (n : Nat) (hM : okV V → oks args → ∀ fin, f = some fin → mSpec (zL Z) y cy ny ry dy 2 (args) V fin) (hw : GoodIn lw_all (va_wsS RX4 ix y (ws_ y cy ny ry))) (hd : y.cls = RX4 ∧ y.cls ≠ "java/lang/invoke/MethodHandle" ∧ y.cls ≠ "java/lang/invoke/VarHandle" ∧ (parseMethodDescriptor y.desc).map (fun d => d.parameters.length) = some n) (hn : args.length = n) (hdd : dy + 1 ≤ d) (hny : ny ≤ 40) (hs0 : st0 = args.reverse ++ st) (hcat : (st.map fun v => if v.1 = 1 then 2 else 1).sum ≤ 8) (hdg : decode cc pc = .ok (.invokestatic ix, 3)) (kk : ∀ r V1, MG Z (pc + 3) lv st V1 (g r V1)) : MG Z pc lv st0 V (mb f g) := fun H locs ls hP hS hl hV hlv hst hf0 => by
  obtain ⟨r, V1, hf1, hf⟩ := mb_eq hf0
  subst hs0
  have ho := hst.app
  have hst2 : oks st := ho.2
  have hMM := hM hV ho.1.rev (r, V1) hf1 (zD Z) (zCT Z) (zAM Z) (zA0 Z) hX.hD
  have hcw : CallB (zR Z) (zS Z) (zA Z) RX4 ix y cy ny ry (ws_ y cy ny ry) (mRm dy) 0 0 n ∧ (Cond.static y).before (zA Z) (zS Z) = true := va_cwS n hX.hts hw rfl rfl rfl hd.2 (by rw [hX.hR]; exact ⟨hdd, by show 8 + (ny + 11) + 64 * dy ≤ 64 * d; omega⟩)
  refine va_callv (A1 := mA (zAM Z) (zA0 Z)) (va_runS (As := args.map (cA (zAM Z) (zA0 Z))) (rest := st.map (cA (zAM Z) (zA0 Z))) ⟨hX.hx, hX.hb, hX.hml, hX.hown, hX.hts⟩ hMM hcw ⟨mS_blind, fun U hU hW => ⟨rfl, by rw [hU]; exact hP, va_K.moved hW.alike hX.hK⟩⟩ rfl (by rw [List.length_map]; exact hn) (hl.1.trans hX.hml) (by show List.map _ (args.reverse ++ st) = _; rw [List.map_append, List.map_reverse]) (lv_room (cat_sum hcat)) hdg ⟨Nat.zero_le _, Nat.zero_le _⟩) hS (fun q _ h => h) (fun q h => h) ?_
  intro u t H1 locs1 ht hvm hpost hB hsz hkeep hS1
  have hP1 : va_P (zD Z) gcl (mW (zCT Z) (zAM Z) (zA0 Z) V1) H1 := by rw [← ht]; exact hB
  exact kk r V1 H1 locs1 ls hP1 hS1 hl hpost hlv hst2 hf
end CALLS
def avL : Nat → List AV → List (Nat × AV)
  | _, [] => []
  | i, v :: vs => (i, v) :: avL (if v.1 = 1 then i + 2 else i + 1) vs
theorem avL_map (aM : Nat → Nat) (a0 : Nat) : ∀ (vs : List AV) (i : Nat), (avL i vs).map (cl1 aM a0) = lv_args i (vs.map (cA aM a0))
  | [], _ => rfl
  | v :: vs, i => by
    have e : (if (cA aM a0 v).category = 2 then i + 2 else i + 1) = (if v.1 = 1 then i + 2 else i + 1) := by
      match v with
      | (0, x) => rfl
      | (1, x) => rfl
      | (2, x) => rfl
      | (n + 3, x) => rfl
    show (i, cA aM a0 v) :: (avL (if v.1 = 1 then i + 2 else i + 1) vs).map (cl1 aM a0) = (i, cA aM a0 v) :: lv_args (if (cA aM a0 v).category = 2 then i + 2 else i + 1) (vs.map (cA aM a0))
    rw [avL_map aM a0 vs, e]
theorem avL_ok {vs : List AV} (h : oks vs) : ∀ i, okl (avL i vs) := by
  induction vs with
  | nil => intro i q hq; cases hq
  | cons v vs ih =>
    intro i q hq
    rcases List.mem_cons.mp hq with rfl | hq
    · exact h.hd
    · exact ih h.t _ q hq
def avN : List AV → Nat
  | [] => 0
  | v :: vs => (if v.1 = 1 then 2 else 1) + avN vs
theorem avN_sl (aM : Nat → Nat) (a0 : Nat) : ∀ vs : List AV, (lg_sl (vs.map (cA aM a0))).length = avN vs
  | [] => rfl
  | v :: vs => by
    have ih := avN_sl aM a0 vs
    unfold lg_sl at ih ⊢
    rw [List.map_cons, List.flatMap_cons, List.length_append, ih]
    match v with
    | (0, x) => rfl
    | (1, x) => rfl
    | (2, x) => rfl
    | (n + 3, x) => rfl
/-- a method's contract out of its walk -/
theorem m_enter {l : Launch} {y : MethodName} {cc : ByteArray} {nL : Nat} {ret : Option FieldType} {d rk : Nat} {avs : List AV} {V : VV} {f : Option (Int × VV)} (hy : plainName y.cls = true) (hyc : y.cls = RX4) (hn : avN avs ≤ nL) {lv : List (Nat × AV)} (hlv : avL 0 avs = lv) (walk : ∀ Z, zL Z = l → MX Z cc nL ret d rk → MG Z 0 lv [] V f) (hV : okV V) (hav : oks avs) (fin : Int × VV) (hf : f = some fin) : mSpec l y cc nL ret d rk avs V fin := by
  intro D cT aM a0 hdis
  refine Met.ofW (cc := cc) (maxL := nL) (ret := ret) hy rfl ?_
  intro p e s m args below meth c s₁ B hml hv
  obtain ⟨hargs, hP, hK⟩ := hv
  subst hargs
  have hts := atoms_spec (ws := ws_ y cc nL ret) B.pre
  have hts : ∀ w ∈ lw_all, w.before _ s = true := fun w h => hts w (List.mem_cons_of_mem _ h)
  have hown : s.vm.findClass RX4 = some m.cls := by rw [← hyc]; exact findClass_of_methodNamed B.named
  rw [lg_entry_eq]
  have hl := lv_entry (avs.map (cA aM a0)) (n := nL) (by rw [avN_sl]; exact hn)
  exact walk ((p, l, e, (headSpec (ws_ y cc nL ret) (mRm d)).room, s, m, (avs.map (cA aM a0)).toArray, below, meth, c), (D, cT, aM, a0), (mQ rk D cT aM a0 fin, fin)) rfl ⟨rfl, B.exec, B.bytes, hml, hown, hts, hK, hdis, B.notSynchronized, B.returns, rfl⟩ s.heap [] _ hP va_S.rf (by rw [← hlv, avL_map]; show lv_has _ c.maxLocals _; rw [hml]; exact hl) hV (by rw [← hlv]; exact avL_ok hav 0) oks.nil hf
