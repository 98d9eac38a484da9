/-! printed by tools/gen45.py: the law from its entry -/
set_option maxRecDepth 100000
set_option maxHeartbeats 1000000
theorem law_cl {args : Array Value} {s : State} (hts : ∀ w ∈ lw_tbl, w.before args s = true) : ∀ c : Nat, ∃ z : ClassId × (Nat → Nat), ∀ q, gcl[c]? = some q → u_Kn s q.1 q.2.1 q.2.2 z.1 z.2 := by
  intro c
  match c with
  | 0 =>
    obtain ⟨a, b, h⟩ := u_known (C := RX4) (T := TX4) (N := 70) (n := 70) hts (fun w h => lw_all_tbl (in_X4 w h)) (hts _ (lw_all_tbl q1659))
    exact ⟨(a, b), fun q hq => by obtain rfl := Option.some.inj (show some (RX4, TX4, 70) = some q from hq); exact h⟩
  | 1 =>
    obtain ⟨a, b, h⟩ := u_known (C := RX0) (T := TX0) (N := 13) (n := 13) hts (fun w h => lw_all_tbl (in_X0 w h)) (hts _ (lw_all_tbl q171))
    exact ⟨(a, b), fun q hq => by obtain rfl := Option.some.inj (show some (RX0, TX0, 13) = some q from hq); exact h⟩
  | 2 =>
    obtain ⟨a, b, h⟩ := u_known (C := RX1) (T := TX1) (N := 8) (n := 8) hts (fun w h => lw_all_tbl (in_X1 w h)) (hts _ (lw_all_tbl q179))
    exact ⟨(a, b), fun q hq => by obtain rfl := Option.some.inj (show some (RX1, TX1, 8) = some q from hq); exact h⟩
  | 3 =>
    obtain ⟨a, b, h⟩ := u_known (C := RX2) (T := TX2) (N := 2) (n := 2) hts (fun w h => lw_all_tbl (in_X2 w h)) (hts _ (lw_all_tbl q255))
    exact ⟨(a, b), fun q hq => by obtain rfl := Option.some.inj (show some (RX2, TX2, 2) = some q from hq); exact h⟩
  | 4 =>
    obtain ⟨a, b, h⟩ := u_known (C := RX3) (T := TX3) (N := 1) (n := 1) hts (fun w h => lw_all_tbl (in_X3 w h)) (hts _ (lw_all_tbl q277))
    exact ⟨(a, b), fun q hq => by obtain rfl := Option.some.inj (show some (RX3, TX3, 1) = some q from hq); exact h⟩
  | 5 =>
    obtain ⟨a, b, h⟩ := u_known (C := RX5) (T := TX5) (N := 6) (n := 6) hts (fun w h => lw_all_tbl (in_X5 w h)) (hts _ (lw_all_tbl q375))
    exact ⟨(a, b), fun q hq => by obtain rfl := Option.some.inj (show some (RX5, TX5, 6) = some q from hq); exact h⟩
  | 6 =>
    obtain ⟨a, b, h⟩ := u_known (C := RX6) (T := TX6) (N := 9) (n := 9) hts (fun w h => lw_all_tbl (in_X6 w h)) (hts _ (lw_all_tbl q533))
    exact ⟨(a, b), fun q hq => by obtain rfl := Option.some.inj (show some (RX6, TX6, 9) = some q from hq); exact h⟩
  | 7 =>
    obtain ⟨a, b, h⟩ := u_known (C := RX7) (T := TX7) (N := 7) (n := 7) hts (fun w h => lw_all_tbl (in_X7 w h)) (hts _ (lw_all_tbl q600))
    exact ⟨(a, b), fun q hq => by obtain rfl := Option.some.inj (show some (RX7, TX7, 7) = some q from hq); exact h⟩
  | 8 =>
    obtain ⟨a, b, h⟩ := u_known (C := RX9) (T := TX9) (N := 1) (n := 1) hts (fun w h => lw_all_tbl (in_X9 w h)) (hts _ (lw_all_tbl q752))
    exact ⟨(a, b), fun q hq => by obtain rfl := Option.some.inj (show some (RX9, TX9, 1) = some q from hq); exact h⟩
  | 9 =>
    obtain ⟨a, b, h⟩ := u_known (C := RX10) (T := TX10) (N := 1) (n := 1) hts (fun w h => lw_all_tbl (in_X10 w h)) (hts _ (lw_all_tbl q769))
    exact ⟨(a, b), fun q hq => by obtain rfl := Option.some.inj (show some (RX10, TX10, 1) = some q from hq); exact h⟩
  | 10 =>
    obtain ⟨a, b, h⟩ := u_known (C := RX11) (T := TX11) (N := 3) (n := 3) hts (fun w h => lw_all_tbl (in_X11 w h)) (hts _ (lw_all_tbl q781))
    exact ⟨(a, b), fun q hq => by obtain rfl := Option.some.inj (show some (RX11, TX11, 3) = some q from hq); exact h⟩
  | 11 =>
    obtain ⟨a, b, h⟩ := u_known (C := RX13) (T := TX13) (N := 3) (n := 3) hts (fun w h => lw_all_tbl (in_X13 w h)) (hts _ (lw_all_tbl q818))
    exact ⟨(a, b), fun q hq => by obtain rfl := Option.some.inj (show some (RX13, TX13, 3) = some q from hq); exact h⟩
  | 12 =>
    obtain ⟨a, b, h⟩ := u_known (C := RX14) (T := TX14) (N := 1) (n := 1) hts (fun w h => lw_all_tbl (in_X14 w h)) (hts _ (lw_all_tbl q837))
    exact ⟨(a, b), fun q hq => by obtain rfl := Option.some.inj (show some (RX14, TX14, 1) = some q from hq); exact h⟩
  | 13 =>
    obtain ⟨a, b, h⟩ := u_known (C := RX15) (T := TX15) (N := 2) (n := 2) hts (fun w h => lw_all_tbl (in_X15 w h)) (hts _ (lw_all_tbl q857))
    exact ⟨(a, b), fun q hq => by obtain rfl := Option.some.inj (show some (RX15, TX15, 2) = some q from hq); exact h⟩
  | 14 =>
    obtain ⟨a, b, h⟩ := u_known (C := RX16) (T := TX16) (N := 4) (n := 4) hts (fun w h => lw_all_tbl (in_X16 w h)) (hts _ (lw_all_tbl q870))
    exact ⟨(a, b), fun q hq => by obtain rfl := Option.some.inj (show some (RX16, TX16, 4) = some q from hq); exact h⟩
  | 15 =>
    obtain ⟨a, b, h⟩ := u_known (C := RX17) (T := TX17) (N := 4) (n := 4) hts (fun w h => lw_all_tbl (in_X17 w h)) (hts _ (lw_all_tbl q998))
    exact ⟨(a, b), fun q hq => by obtain rfl := Option.some.inj (show some (RX17, TX17, 4) = some q from hq); exact h⟩
  | 16 =>
    obtain ⟨a, b, h⟩ := u_known (C := RX18) (T := TX18) (N := 2) (n := 2) hts (fun w h => lw_all_tbl (in_X18 w h)) (hts _ (lw_all_tbl q1004))
    exact ⟨(a, b), fun q hq => by obtain rfl := Option.some.inj (show some (RX18, TX18, 2) = some q from hq); exact h⟩
  | 17 =>
    obtain ⟨a, b, h⟩ := u_known (C := RX19) (T := TX19) (N := 2) (n := 2) hts (fun w h => lw_all_tbl (in_X19 w h)) (hts _ (lw_all_tbl q1079))
    exact ⟨(a, b), fun q hq => by obtain rfl := Option.some.inj (show some (RX19, TX19, 2) = some q from hq); exact h⟩
  | 18 =>
    obtain ⟨a, b, h⟩ := u_known (C := RX20) (T := TX20) (N := 5) (n := 5) hts (fun w h => lw_all_tbl (in_X20 w h)) (hts _ (lw_all_tbl q1155))
    exact ⟨(a, b), fun q hq => by obtain rfl := Option.some.inj (show some (RX20, TX20, 5) = some q from hq); exact h⟩
  | 19 =>
    obtain ⟨a, b, h⟩ := u_known (C := RX21) (T := TX21) (N := 2) (n := 2) hts (fun w h => lw_all_tbl (in_X21 w h)) (hts _ (lw_all_tbl q1266))
    exact ⟨(a, b), fun q hq => by obtain rfl := Option.some.inj (show some (RX21, TX21, 2) = some q from hq); exact h⟩
  | 20 =>
    obtain ⟨a, b, h⟩ := u_known (C := RX22) (T := TX22) (N := 7) (n := 7) hts (fun w h => lw_all_tbl (in_X22 w h)) (hts _ (lw_all_tbl q1293))
    exact ⟨(a, b), fun q hq => by obtain rfl := Option.some.inj (show some (RX22, TX22, 7) = some q from hq); exact h⟩
  | 21 =>
    obtain ⟨a, b, h⟩ := u_known (C := RX23) (T := TX23) (N := 4) (n := 4) hts (fun w h => lw_all_tbl (in_X23 w h)) (hts _ (lw_all_tbl q1358))
    exact ⟨(a, b), fun q hq => by obtain rfl := Option.some.inj (show some (RX23, TX23, 4) = some q from hq); exact h⟩
  | 22 =>
    obtain ⟨a, b, h⟩ := u_known (C := RX24) (T := TX24) (N := 5) (n := 5) hts (fun w h => lw_all_tbl (in_X24 w h)) (hts _ (lw_all_tbl q1394))
    exact ⟨(a, b), fun q hq => by obtain rfl := Option.some.inj (show some (RX24, TX24, 5) = some q from hq); exact h⟩
  | 23 =>
    obtain ⟨a, b, h⟩ := u_known (C := RX25) (T := TX25) (N := 1) (n := 1) hts (fun w h => lw_all_tbl (in_X25 w h)) (hts _ (lw_all_tbl q1515))
    exact ⟨(a, b), fun q hq => by obtain rfl := Option.some.inj (show some (RX25, TX25, 1) = some q from hq); exact h⟩
  | 24 =>
    obtain ⟨a, b, h⟩ := u_known (C := RX26) (T := TX26) (N := 1) (n := 1) hts (fun w h => lw_all_tbl (in_X26 w h)) (hts _ (lw_all_tbl q1564))
    exact ⟨(a, b), fun q hq => by obtain rfl := Option.some.inj (show some (RX26, TX26, 1) = some q from hq); exact h⟩
  | 25 =>
    obtain ⟨a, b, h⟩ := u_known (C := RX27) (T := TX27) (N := 3) (n := 3) hts (fun w h => lw_all_tbl (in_X27 w h)) (hts _ (lw_all_tbl q1578))
    exact ⟨(a, b), fun q hq => by obtain rfl := Option.some.inj (show some (RX27, TX27, 3) = some q from hq); exact h⟩
  | 26 =>
    obtain ⟨a, b, h⟩ := u_known (C := RJ2) (T := TJ2) (N := 3) (n := 3) hts (fun w h => lw_all_tbl (in_J2 w h)) (hts _ (lw_all_tbl q185))
    exact ⟨(a, b), fun q hq => by obtain rfl := Option.some.inj (show some (RJ2, TJ2, 3) = some q from hq); exact h⟩
  | c + 27 => exact ⟨(0, fun _ => 0), fun q hq => by cases hq⟩
theorem law_ar {args : Array Value} {s : State} (hts : ∀ w ∈ lw_tbl, w.before args s = true) : ∀ t : Nat, ∃ cA : ClassId, t < 12 → ArrOfT s cA (xAT t) ∧ va_RA s cA (xAT t) := by
  intro t
  match t with
  | 0 =>
    obtain ⟨cA, kA, comp, h1, h2, h3⟩ := Cond.arrayClass_spec (type := .int) (hts _ (lw_all_tbl q252))
    exact ⟨cA, fun _ => ⟨fun n z => ⟨fun k h => (by cases h), kA, h2, comp, h3⟩, h1⟩⟩
  | 1 =>
    obtain ⟨cA, kA, comp, h1, h2, h3⟩ := Cond.arrayClass_spec (type := .long) (hts _ (lw_all_tbl q275))
    exact ⟨cA, fun _ => ⟨fun n z => ⟨fun k h => (by cases h), kA, h2, comp, h3⟩, h1⟩⟩
  | 2 =>
    obtain ⟨cA, kA, comp, h1, h2, h3⟩ := Cond.arrayClass_spec (type := .byte) (hts _ (lw_all_tbl q337))
    exact ⟨cA, fun _ => ⟨fun n z => ⟨fun k h => (by cases h), kA, h2, comp, h3⟩, h1⟩⟩
  | 3 =>
    obtain ⟨cA, kA, comp, h1, h2, h3⟩ := Cond.arrayClass_spec (type := .boolean) (hts _ (lw_all_tbl q1441))
    exact ⟨cA, fun _ => ⟨fun n z => ⟨fun k h => (by cases h), kA, h2, comp, h3⟩, h1⟩⟩
  | 4 =>
    obtain ⟨comp, cA, kA, h1, h2, h3, h4, h5⟩ := Cond.arrayOver_spec (n := "ExamSlips$Clause") (hts _ q279)
    exact ⟨cA, fun _ => ⟨fun n z => ⟨fun k h => (by cases h), kA, h3, comp, h4⟩, kA, comp, h3, h4, h1, h5⟩⟩
  | 5 =>
    obtain ⟨comp, cA, kA, h1, h2, h3, h4, h5⟩ := Cond.arrayOver_spec (n := "ExamSlips$Exam") (hts _ q253)
    exact ⟨cA, fun _ => ⟨fun n z => ⟨fun k h => (by cases h), kA, h3, comp, h4⟩, kA, comp, h3, h4, h1, h5⟩⟩
  | 6 =>
    obtain ⟨comp, cA, kA, h1, h2, h3, h4, h5⟩ := Cond.arrayOver_spec (n := "ExamSlips$Huge") (hts _ q1514)
    exact ⟨cA, fun _ => ⟨fun n z => ⟨fun k h => (by cases h), kA, h3, comp, h4⟩, kA, comp, h3, h4, h1, h5⟩⟩
  | 7 =>
    obtain ⟨comp, cA, kA, h1, h2, h3, h4, h5⟩ := Cond.arrayOver_spec (n := "ExamSlips$Question") (hts _ q1161)
    exact ⟨cA, fun _ => ⟨fun n z => ⟨fun k h => (by cases h), kA, h3, comp, h4⟩, kA, comp, h3, h4, h1, h5⟩⟩
  | 8 =>
    obtain ⟨comp, cA, kA, h1, h2, h3, h4, h5⟩ := Cond.arrayOver_spec (n := "ExamSlips$Test") (hts _ q539)
    exact ⟨cA, fun _ => ⟨fun n z => ⟨fun k h => (by cases h), kA, h3, comp, h4⟩, kA, comp, h3, h4, h1, h5⟩⟩
  | 9 =>
    obtain ⟨comp, cA, kA, h1, h2, h3, h4, h5⟩ := Cond.arrayOver_spec (n := "java/lang/Object") (hts _ q475)
    exact ⟨cA, fun _ => ⟨fun n z => ⟨fun k h => (by cases h), kA, h3, comp, h4⟩, kA, comp, h3, h4, h1, h5⟩⟩
  | 10 =>
    obtain ⟨comp, cA, kA, h1, h2, h3, h4, h5⟩ := Cond.arrayOver_spec (n := "java/lang/String") (hts _ q541)
    exact ⟨cA, fun _ => ⟨fun n z => ⟨fun k h => (by cases h), kA, h3, comp, h4⟩, kA, comp, h3, h4, h1, h5⟩⟩
  | 11 =>
    obtain ⟨comp, cA, kA, h1, h2, h3, h5⟩ := Cond.arrayOver_specA (t := .int) (hts _ q1364)
    exact ⟨cA, fun _ => ⟨fun n z => ⟨fun k h => (by cases h), kA, h2, comp, h3⟩, h5⟩⟩
  | t + 12 => exact ⟨0, fun h => absurd h (by omega)⟩
theorem law_K {args : Array Value} {s : State} (hts : ∀ w ∈ lw_tbl, w.before args s = true) : ∃ (D : va_G) (cT : Nat → ClassId), va_K D gcl (xTys cT) s := by
  obtain ⟨g, hg⟩ := Classical.axiomOfChoice (law_cl hts)
  obtain ⟨f, hf⟩ := Classical.axiomOfChoice (law_ar hts)
  refine ⟨(fun c => (g c).1, fun c => (g c).2), f, fun c q hq => hg c q hq, fun k q hk => ?_⟩
  unfold xTys at hk
  have hk12 : k < 12 := by
    rcases Nat.lt_or_ge k 12 with h | h
    · exact h
    · rw [List.getElem?_eq_none (by simpa using h)] at hk; cases hk
  rw [List.getElem?_map, List.getElem?_range hk12] at hk
  cases hk
  exact hf k hk12
theorem whole_of (Rel : Nat → XH → VV → Prop) (hops : OPS Rel) (hobR : ∀ n h V, Rel n h V → 1 ≤ xn h ∧ xk h 1 = 1) (hR0 : ∀ hX hM : XH, XBase hX → MBase hM → Rel 0 hX (VM hM)) {p : Program} {e : Env} {s : State} {m : MethodId} {below : List Frame} {meth : Method} {c : Code} (l : Launch) (hflags : l.flags = flags0) {b L : Nat} {sv : Nat → Int32} (hL : L ≤ 384) (C0 : lw_At p s m meth c b L sv) : W p l e room_1 s m #[Value.ref b] below meth c s.heap [] 0 0 (lw_Z below #[Value.ref b] s) (entryFrame m ([Value.ref b] : List Value).toArray 4) := by
  obtain ⟨hx, hb, hret, hml, hown, hts, hxs, hbl, hlocks, hgv⟩ := C0
  have hst : l.stackTraces = false := by unfold Launch.stackTraces; rw [hflags]; decide +kernel
  have hn : ∀ w ∈ nW, w.before #[Value.ref b] s = true := flat_of_before _ hgv
  have hA : ∀ a : Nat, a < s.heap.size → ¬ lA s a := fun a ha => Nat.not_le.mpr ha
  have hta : ∀ w ∈ lw_all, w.before #[Value.ref b] s = true := fun w h => hts w (lw_all_tbl h)
  obtain ⟨D, cT, hK⟩ := law_K hts
  obtain ⟨adF, b3, b4, b5, hZ⟩ := law_FZ hts hn hA
  have X : LWX p s m b c D cT adF (law_h0 b3 b4 b5) := ⟨hx, hb, hml, hown, hta, hK, law_FN hts, hZ⟩
  have hok0 : okH (law_h0 b3 b4 b5) := fun a h1 h2 => absurd h2 (by show ¬ a ≤ ((0 : Nat) : Int); omega)
  have hok13 : okH (hnew (law_h0 b3 b4 b5) 1 13) := hok0.new (Or.inl (by decide)) (by decide)
  have hok70 : okH (hnew (law_h0 b3 b4 b5) 0 70) := hok0.new (Or.inl (by decide)) (by decide)
  obtain ⟨hX, eX, BX⟩ := law_X b3 b4 b5
  obtain ⟨hM, eM, BM⟩ := law_M b3 b4 b5
  obtain ⟨hm1, hm2⟩ := BM.2.2.2.1
  have hxcX := BX.2.1.2.2.2.2
  have hSL := SLM_eq
  rw [lg_entry_eq]
  have hl := lv_entry ([.ref b]) (n := 4) (Nat.le_of_ble_eq_true rfl)
  generalize (lg_sl ([.ref b]) ++ List.replicate (4 - (lg_sl ([.ref b])).length) Slot.unset).toArray = ls at hl ⊢
  have hl : lv_has ls 4 [(0, .ref b)] := hl
  have hxc : xc (hnew (law_h0 b3 b4 b5) 1 13) = 1 ∧ xs (hnew (law_h0 b3 b4 b5) 1 13) = 13 := ⟨rfl, rfl⟩
  have hxc2 : xc (hnew (law_h0 b3 b4 b5) 0 70) = 1 ∧ xs (hnew (law_h0 b3 b4 b5) 0 70) = 70 := ⟨rfl, rfl⟩
  refine law_make (ws := []) (hF := hX) (ci := 1) (N := 13) (C := RX0) (T := TX0) (y := yX0_init) (ny := 1) X rfl hok0 rfl in_X0 tyX0_ok (by decide) rfl (by decide) xfit_X0 q170 q171 q124 dL_law_0 dL_law_3 dL_law_4 (SF_X0_init l (Nat.le_refl 5) 1 _ hok13 (okXs.c (okX.r (show (1 : Int) ≤ ((1 : Nat) : Int) by decide)) okXs.nil) _ eX) (lw_meth q174) q124 q172 q173 rfl ⟨by decide +kernel, by decide +kernel, by decide +kernel⟩ (by decide) (by decide) hl.1 (by decide) (fun k q h => nomatch h) ⟨(fun i j a z h => nomatch h), (fun k q h => nomatch h)⟩ va_S.rf ⟨by omega, by omega⟩ ?_
  intro u H1 locs1 _ hP1 hD1 _ hS1 hok1 hneg1 hval1
  refine lv_astore_n (lv' := [(1, .ref (u 1)), (0, .ref b)]) hx hb dL_law_7 rfl hl (by decide) rfl (fun ls hl => ?_)
  refine law_make (ws := xW cT u hX) (hF := hM) (ci := 0) (N := 70) (C := RX4) (T := TX4) (y := yX4_init) (ny := 1) X rfl hok0 rfl in_X4 tyX4_ok (by decide) rfl (by decide) xfit_X4 q1658 q1659 q131 dL_law_8 dL_law_11 dL_law_12 (SF_X4_init l (Nat.le_refl 1) 1 _ hok70 (okXs.c (okX.r (show (1 : Int) ≤ ((1 : Nat) : Int) by decide)) okXs.nil) _ eM) (lw_meth q1662) q131 q1660 q1661 rfl ⟨by decide +kernel, by decide +kernel, by decide +kernel⟩ (by decide) (by decide) hl.1 (by decide) hP1 hD1 hS1 ⟨by omega, by omega⟩ ?_
  intro u2 H2 locs2 hP1 hP2 hD2 hap hS2 hok2 hneg2 hval2
  refine lv_astore_n (lv' := [(2, .ref (u2 1)), (1, .ref (u 1)), (0, .ref b)]) hx hb dL_law_15 rfl hl (by decide) rfl (fun ls hl => ?_)
  refine lv_iconst (v := 0) hx hb dL_law_16 (by decide) ?_
  refine lv_istore_n (lv' := [(3, .int 0), (2, .ref (u2 1)), (1, .ref (u 1)), (0, .ref b)]) hx hb dL_law_17 rfl hl (by decide) rfl (fun ls hl => ?_)
  obtain ⟨hdis, hmA⟩ := law_mA BM hP2 hD2
  have hLS : LWS D cT adF (lA s) s.heap (law_h0 b3 b4 b5) hX (VM hM) u (fun k => u2 (xv hM 1 k)) (u2 1) H2 locs2 := ⟨hP1, hD1, law_mW BM hP2, hdis, fun q hq => ⟨(hmA q hq).1, (hmA q hq).2.1⟩, fun q k e hq hz => by
    obtain ⟨-, -, k', e', h'⟩ := hmA q hq
    exact hap q k k' e e' hz h', hS2, hok1, VM_ok BM hok2, hneg1, hval1⟩
  exact law_loop Rel hops hobR hst X hret hlocks hL hxs hbl (hA b hbl) 65 0 0 rfl (Nat.le_refl 0) (Nat.zero_le _) _ _ _ _ _ ls _ _ 0 rfl (hR0 hX hM BX BM) hLS (by omega) (by omega) (by omega) (by omega) (lv_sub hl [3, 2, 1, 0] rfl)
