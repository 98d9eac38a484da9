/-! printed by tools/genlaw.py: the law's cases -/
set_option maxRecDepth 100000
set_option maxHeartbeats 1000000
theorem lc_11 {p : Program} {l : Launch} {e : Env} {s : State} {m : MethodId} {b : Nat} {below : List Frame} {meth : Method} {c : Code} {D : va_G} {cT : Nat → ClassId} {adF : Int → Nat} {h0 h : XH} {V : VV} {ad : Int → Nat} {aM : Nat → Nat} {a0 : Nat} {H : Heap} {locs : List Loc} {ls : Array Slot} {cells slots : Nat} {Q : State → Prop} {L : Nat} {sv : Nat → Int32} {x3 : Int32} {Rr : XH → VV → Prop} (hst : l.stackTraces = false) (X : LWX p s m b c D cT adF h0) (hS : LWS D cT adF (lA s) s.heap h0 h V ad aM a0 H locs) (hob : 1 ≤ xn h ∧ xk h 1 = 1) (hxs : va_X b L sv s s.heap) (hbl : b < s.heap.size) (hbA : ¬ lA s b) (hin : ∀ j : Int32, 1 ≤ j → j ≤ 5 → vp_in (x3 + j) L)
    (hop : opOK (F_X0_chance 1 (sv (x3 + 1).toNatClampNeg).toInt h) (M_chance (sv (x3 + 1).toNatClampNeg).toInt V) Rr) (hcz : cells = xc h + 35 ∧ slots = xs h + SLM) (hl : lv_has ls 4 [(0, .ref b), (1, .ref (ad 1)), (2, .ref a0), (3, .int x3)])
    (kk : ∀ h1 V1 u H2 locs2 cells2 slots2, Rr h1 V1 → LWS D cT adF (lA s) s.heap h0 h1 V1 u aM a0 H2 locs2 → u 1 = ad 1 → lv_has ls 4 [(0, .ref b), (1, .ref (u 1)), (2, .ref a0), (3, .int x3)] → cells2 = xc h1 + 35 → slots2 = xs h1 + SLM → W p l e room_1 s m #[Value.ref b] below meth c H2 locs2 cells2 slots2 Q (F0 m 1337 ls [])) : W p l e room_1 s m #[Value.ref b] below meth c H locs cells slots Q (F0 m 569 ls []) := by
  have hn1 : 1 ≤ xn h := hob.1
  have hk1 : xk h 1 = 1 := hob.2
  obtain ⟨r, h1, V1, e1, e2, hR1, hc1, hs1⟩ := hop
  obtain ⟨hcz1, hcz2⟩ := hcz
  have hm1 := (WF_X0_chance (Z := ((p, l, e, room_1, s, m, #[Value.ref b], below, meth, c), (D, cT, adF, ad, lA s), ((0, h), h))) (Nat.le_refl 126) 1 (sv (x3 + 1).toNatClampNeg).toInt h).1 (r, h1) e1
  dsimp only [xfh] at hm1
  refine lv_aload_n X.1 X.2.1 dL_law_569 rfl (lv_at hl 1 rfl) ?_
  refine lv_aload_n X.1 X.2.1 dL_law_570 rfl (lv_at hl 0 rfl) ?_
  refine lv_iload_n X.1 X.2.1 dL_law_571 rfl (lv_at hl 3 rfl) ?_
  refine lv_iconst (v := 1) X.1 X.2.1 dL_law_572 (by decide) ?_
  refine lv_iadd X.1 X.2.1 dL_law_573 ?_
  refine va_sld X.1 X.2.1 hxs hbl hbA hS.2.2.2.2.2.2.1 (hin 1 (by decide) (by decide)) dL_law_574 ?_
  refine lawX_i (args := [(0, (sv (x3 + 1).toNatClampNeg).toInt)]) (r := r) (h' := h1) (rest := []) X hS hn1 hk1 (fun hp => lawX_run (n := 1) X hS (SF_X0_chance l (Nat.le_refl 126) 1 (sv (x3 + 1).toNatClampNeg).toInt h hS.2.2.2.2.2.2.2.1 (okXs.c (okX.r (by omega)) (okXs.c (okX.i (i32_in _)) okXs.nil)) (r, h1) e1) (lw_V q981 q982 q983 q124 q984) ⟨rfl, by decide +kernel, by decide +kernel, by decide +kernel⟩ rfl (by decide) (by decide) hl.1 (by simp [cX, I32_of]) (Nat.le_of_ble_eq_true rfl) dL_law_575 ⟨by omega, by omega⟩ hp) ?_
  intro u H1 locs1 hS hu hr
  rw [← hu] at hl
  refine lv_aload_n X.1 X.2.1 dL_law_578 rfl (lv_at hl 2 rfl) ?_
  refine lv_aload_n X.1 X.2.1 dL_law_579 rfl (lv_at hl 0 rfl) ?_
  refine lv_iload_n X.1 X.2.1 dL_law_580 rfl (lv_at hl 3 rfl) ?_
  refine lv_iconst (v := 1) X.1 X.2.1 dL_law_581 (by decide) ?_
  refine lv_iadd X.1 X.2.1 dL_law_582 ?_
  refine va_sld X.1 X.2.1 hxs hbl hbA hS.2.2.2.2.2.2.1 (hin 1 (by decide) (by decide)) dL_law_583 ?_
  refine lawM_i (args := [(0, (sv (x3 + 1).toNatClampNeg).toInt)]) (n := 1) (rest := [.int (I32 r)]) X hS (WM_chance l (Nat.le_refl 127) (sv (x3 + 1).toNatClampNeg).toInt V hS.2.2.2.2.2.2.2.2.1 ((oks.c (okA.i (i32_in _)) oks.nil)) (r, V1) e2) (lw_V q2089 q2090 q2091 q131 q2092) ⟨rfl, by decide +kernel, by decide +kernel, by decide +kernel⟩ rfl (by decide) (by decide) hl.1 (by simp [cA, I32_of]) (Nat.le_of_ble_eq_true rfl) dL_law_584 ⟨by omega, by omega⟩ ?_
  intro H2 locs2 hS hr2
  refine lv_icmp_eq (tgt := 1337) X.1 X.2.1 dL_law_587 (by decide) (fun _ => ?_) (fun hc => absurd rfl hc)
  exact kk h1 V1 u H2 locs2 _ _ hR1 hS hu hl (by omega) (by omega)
theorem lc_12 {p : Program} {l : Launch} {e : Env} {s : State} {m : MethodId} {b : Nat} {below : List Frame} {meth : Method} {c : Code} {D : va_G} {cT : Nat → ClassId} {adF : Int → Nat} {h0 h : XH} {V : VV} {ad : Int → Nat} {aM : Nat → Nat} {a0 : Nat} {H : Heap} {locs : List Loc} {ls : Array Slot} {cells slots : Nat} {Q : State → Prop} {L : Nat} {sv : Nat → Int32} {x3 : Int32} {Rr : XH → VV → Prop} (hst : l.stackTraces = false) (X : LWX p s m b c D cT adF h0) (hS : LWS D cT adF (lA s) s.heap h0 h V ad aM a0 H locs) (hob : 1 ≤ xn h ∧ xk h 1 = 1) (hxs : va_X b L sv s s.heap) (hbl : b < s.heap.size) (hbA : ¬ lA s b) (hin : ∀ j : Int32, 1 ≤ j → j ≤ 5 → vp_in (x3 + j) L)
    (hop : opOK (F_X0_pass 1 (sv (x3 + 1).toNatClampNeg).toInt h) (M_pass (sv (x3 + 1).toNatClampNeg).toInt V) Rr) (hcz : cells = xc h + 35 ∧ slots = xs h + SLM) (hl : lv_has ls 4 [(0, .ref b), (1, .ref (ad 1)), (2, .ref a0), (3, .int x3)])
    (kk : ∀ h1 V1 u H2 locs2 cells2 slots2, Rr h1 V1 → LWS D cT adF (lA s) s.heap h0 h1 V1 u aM a0 H2 locs2 → u 1 = ad 1 → lv_has ls 4 [(0, .ref b), (1, .ref (u 1)), (2, .ref a0), (3, .int x3)] → cells2 = xc h1 + 35 → slots2 = xs h1 + SLM → W p l e room_1 s m #[Value.ref b] below meth c H2 locs2 cells2 slots2 Q (F0 m 1337 ls [])) : W p l e room_1 s m #[Value.ref b] below meth c H locs cells slots Q (F0 m 592 ls []) := by
  have hn1 : 1 ≤ xn h := hob.1
  have hk1 : xk h 1 = 1 := hob.2
  obtain ⟨r, h1, V1, e1, e2, hR1, hc1, hs1⟩ := hop
  obtain ⟨hcz1, hcz2⟩ := hcz
  have hm1 := (WF_X0_pass (Z := ((p, l, e, room_1, s, m, #[Value.ref b], below, meth, c), (D, cT, adF, ad, lA s), ((0, h), h))) (Nat.le_refl 130) 1 (sv (x3 + 1).toNatClampNeg).toInt h).1 (r, h1) e1
  dsimp only [xfh] at hm1
  refine lv_aload_n X.1 X.2.1 dL_law_592 rfl (lv_at hl 1 rfl) ?_
  refine lv_aload_n X.1 X.2.1 dL_law_593 rfl (lv_at hl 0 rfl) ?_
  refine lv_iload_n X.1 X.2.1 dL_law_594 rfl (lv_at hl 3 rfl) ?_
  refine lv_iconst (v := 1) X.1 X.2.1 dL_law_595 (by decide) ?_
  refine lv_iadd X.1 X.2.1 dL_law_596 ?_
  refine va_sld X.1 X.2.1 hxs hbl hbA hS.2.2.2.2.2.2.1 (hin 1 (by decide) (by decide)) dL_law_597 ?_
  refine lawX_l (args := [(0, (sv (x3 + 1).toNatClampNeg).toInt)]) (r := r) (h' := h1) (rest := []) X hS hn1 hk1 (fun hp => lawX_run (n := 1) X hS (SF_X0_pass l (Nat.le_refl 130) 1 (sv (x3 + 1).toNatClampNeg).toInt h hS.2.2.2.2.2.2.2.1 (okXs.c (okX.r (by omega)) (okXs.c (okX.i (i32_in _)) okXs.nil)) (r, h1) e1) (lw_V q986 q987 q988 q124 q989) ⟨rfl, by decide +kernel, by decide +kernel, by decide +kernel⟩ rfl (by decide) (by decide) hl.1 (by simp [cX, I32_of]) (Nat.le_of_ble_eq_true rfl) dL_law_598 ⟨by omega, by omega⟩ hp) ?_
  intro u H1 locs1 hS hu hr
  rw [← hu] at hl
  refine lv_aload_n X.1 X.2.1 dL_law_601 rfl (lv_at hl 2 rfl) ?_
  refine lv_aload_n X.1 X.2.1 dL_law_602 rfl (lv_at hl 0 rfl) ?_
  refine lv_iload_n X.1 X.2.1 dL_law_603 rfl (lv_at hl 3 rfl) ?_
  refine lv_iconst (v := 1) X.1 X.2.1 dL_law_604 (by decide) ?_
  refine lv_iadd X.1 X.2.1 dL_law_605 ?_
  refine va_sld X.1 X.2.1 hxs hbl hbA hS.2.2.2.2.2.2.1 (hin 1 (by decide) (by decide)) dL_law_606 ?_
  refine lawM_l (args := [(0, (sv (x3 + 1).toNatClampNeg).toInt)]) (n := 1) (rest := [.long (I64 r)]) X hS (WM_pass l (Nat.le_refl 129) (sv (x3 + 1).toNatClampNeg).toInt V hS.2.2.2.2.2.2.2.2.1 ((oks.c (okA.i (i32_in _)) oks.nil)) (r, V1) e2) (lw_V q2097 q2098 q2099 q131 q2100) ⟨rfl, by decide +kernel, by decide +kernel, by decide +kernel⟩ rfl (by decide) (by decide) hl.1 (by simp [cA, I32_of]) (Nat.le_of_ble_eq_true rfl) dL_law_607 ⟨by omega, by omega⟩ ?_
  intro H2 locs2 hS hr2
  refine W.lcmp X.1 X.2.1 dL_law_610 ?_
  refine lv_if_eq (tgt := 1337) X.1 X.2.1 dL_law_611 (by decide) (fun _ => ?_) (fun hc => absurd ((lg_cmp_eq _ _).mpr rfl) hc)
  exact kk h1 V1 u H2 locs2 _ _ hR1 hS hu hl (by omega) (by omega)
theorem lc_13 {p : Program} {l : Launch} {e : Env} {s : State} {m : MethodId} {b : Nat} {below : List Frame} {meth : Method} {c : Code} {D : va_G} {cT : Nat → ClassId} {adF : Int → Nat} {h0 h : XH} {V : VV} {ad : Int → Nat} {aM : Nat → Nat} {a0 : Nat} {H : Heap} {locs : List Loc} {ls : Array Slot} {cells slots : Nat} {Q : State → Prop} {L : Nat} {sv : Nat → Int32} {x3 : Int32} {Rr : XH → VV → Prop} (hst : l.stackTraces = false) (X : LWX p s m b c D cT adF h0) (hS : LWS D cT adF (lA s) s.heap h0 h V ad aM a0 H locs) (hob : 1 ≤ xn h ∧ xk h 1 = 1) (hxs : va_X b L sv s s.heap) (hbl : b < s.heap.size) (hbA : ¬ lA s b) (hin : ∀ j : Int32, 1 ≤ j → j ≤ 5 → vp_in (x3 + j) L)
    (hop : opOK (F_X0_right 1 (sv (x3 + 1).toNatClampNeg).toInt (sv (x3 + 2).toNatClampNeg).toInt h) (M_right (sv (x3 + 1).toNatClampNeg).toInt (sv (x3 + 2).toNatClampNeg).toInt V) Rr) (hcz : cells = xc h + 35 ∧ slots = xs h + SLM) (hl : lv_has ls 4 [(0, .ref b), (1, .ref (ad 1)), (2, .ref a0), (3, .int x3)])
    (kk : ∀ h1 V1 u H2 locs2 cells2 slots2, Rr h1 V1 → LWS D cT adF (lA s) s.heap h0 h1 V1 u aM a0 H2 locs2 → u 1 = ad 1 → lv_has ls 4 [(0, .ref b), (1, .ref (u 1)), (2, .ref a0), (3, .int x3)] → cells2 = xc h1 + 35 → slots2 = xs h1 + SLM → W p l e room_1 s m #[Value.ref b] below meth c H2 locs2 cells2 slots2 Q (F0 m 1337 ls [])) : W p l e room_1 s m #[Value.ref b] below meth c H locs cells slots Q (F0 m 616 ls []) := by
  have hn1 : 1 ≤ xn h := hob.1
  have hk1 : xk h 1 = 1 := hob.2
  obtain ⟨r, h1, V1, e1, e2, hR1, hc1, hs1⟩ := hop
  obtain ⟨hcz1, hcz2⟩ := hcz
  have hm1 := (WF_X0_right (Z := ((p, l, e, room_1, s, m, #[Value.ref b], below, meth, c), (D, cT, adF, ad, lA s), ((0, h), h))) (Nat.le_refl 130) 1 (sv (x3 + 1).toNatClampNeg).toInt (sv (x3 + 2).toNatClampNeg).toInt h).1 (r, h1) e1
  dsimp only [xfh] at hm1
  refine lv_aload_n X.1 X.2.1 dL_law_616 rfl (lv_at hl 1 rfl) ?_
  refine lv_aload_n X.1 X.2.1 dL_law_617 rfl (lv_at hl 0 rfl) ?_
  refine lv_iload_n X.1 X.2.1 dL_law_618 rfl (lv_at hl 3 rfl) ?_
  refine lv_iconst (v := 1) X.1 X.2.1 dL_law_619 (by decide) ?_
  refine lv_iadd X.1 X.2.1 dL_law_620 ?_
  refine va_sld X.1 X.2.1 hxs hbl hbA hS.2.2.2.2.2.2.1 (hin 1 (by decide) (by decide)) dL_law_621 ?_
  refine lv_aload_n X.1 X.2.1 dL_law_622 rfl (lv_at hl 0 rfl) ?_
  refine lv_iload_n X.1 X.2.1 dL_law_623 rfl (lv_at hl 3 rfl) ?_
  refine lv_iconst (v := 2) X.1 X.2.1 dL_law_624 (by decide) ?_
  refine lv_iadd X.1 X.2.1 dL_law_625 ?_
  refine va_sld X.1 X.2.1 hxs hbl hbA hS.2.2.2.2.2.2.1 (hin 2 (by decide) (by decide)) dL_law_626 ?_
  refine lawX_l (args := [(0, (sv (x3 + 1).toNatClampNeg).toInt), (0, (sv (x3 + 2).toNatClampNeg).toInt)]) (r := r) (h' := h1) (rest := []) X hS hn1 hk1 (fun hp => lawX_run (n := 2) X hS (SF_X0_right l (Nat.le_refl 130) 1 (sv (x3 + 1).toNatClampNeg).toInt (sv (x3 + 2).toNatClampNeg).toInt h hS.2.2.2.2.2.2.2.1 (okXs.c (okX.r (by omega)) (okXs.c (okX.i (i32_in _)) (okXs.c (okX.i (i32_in _)) okXs.nil))) (r, h1) e1) (lw_V q1105 q1106 q1107 q124 q1108) ⟨rfl, by decide +kernel, by decide +kernel, by decide +kernel⟩ rfl (by decide) (by decide) hl.1 (by simp [cX, I32_of]) (Nat.le_of_ble_eq_true rfl) dL_law_627 ⟨by omega, by omega⟩ hp) ?_
  intro u H1 locs1 hS hu hr
  rw [← hu] at hl
  refine lv_aload_n X.1 X.2.1 dL_law_630 rfl (lv_at hl 2 rfl) ?_
  refine lv_aload_n X.1 X.2.1 dL_law_631 rfl (lv_at hl 0 rfl) ?_
  refine lv_iload_n X.1 X.2.1 dL_law_632 rfl (lv_at hl 3 rfl) ?_
  refine lv_iconst (v := 1) X.1 X.2.1 dL_law_633 (by decide) ?_
  refine lv_iadd X.1 X.2.1 dL_law_634 ?_
  refine va_sld X.1 X.2.1 hxs hbl hbA hS.2.2.2.2.2.2.1 (hin 1 (by decide) (by decide)) dL_law_635 ?_
  refine lv_aload_n X.1 X.2.1 dL_law_636 rfl (lv_at hl 0 rfl) ?_
  refine lv_iload_n X.1 X.2.1 dL_law_637 rfl (lv_at hl 3 rfl) ?_
  refine lv_iconst (v := 2) X.1 X.2.1 dL_law_638 (by decide) ?_
  refine lv_iadd X.1 X.2.1 dL_law_639 ?_
  refine va_sld X.1 X.2.1 hxs hbl hbA hS.2.2.2.2.2.2.1 (hin 2 (by decide) (by decide)) dL_law_640 ?_
  refine lawM_l (args := [(0, (sv (x3 + 1).toNatClampNeg).toInt), (0, (sv (x3 + 2).toNatClampNeg).toInt)]) (n := 2) (rest := [.long (I64 r)]) X hS (WM_right l (Nat.le_refl 129) (sv (x3 + 1).toNatClampNeg).toInt (sv (x3 + 2).toNatClampNeg).toInt V hS.2.2.2.2.2.2.2.2.1 ((oks.c (okA.i (i32_in _)) (oks.c (okA.i (i32_in _)) oks.nil))) (r, V1) e2) (lw_V q2144 q2145 q2146 q131 q2147) ⟨rfl, by decide +kernel, by decide +kernel, by decide +kernel⟩ rfl (by decide) (by decide) hl.1 (by simp [cA, I32_of]) (Nat.le_of_ble_eq_true rfl) dL_law_641 ⟨by omega, by omega⟩ ?_
  intro H2 locs2 hS hr2
  refine W.lcmp X.1 X.2.1 dL_law_644 ?_
  refine lv_if_eq (tgt := 1337) X.1 X.2.1 dL_law_645 (by decide) (fun _ => ?_) (fun hc => absurd ((lg_cmp_eq _ _).mpr rfl) hc)
  exact kk h1 V1 u H2 locs2 _ _ hR1 hS hu hl (by omega) (by omega)
theorem lc_14 {p : Program} {l : Launch} {e : Env} {s : State} {m : MethodId} {b : Nat} {below : List Frame} {meth : Method} {c : Code} {D : va_G} {cT : Nat → ClassId} {adF : Int → Nat} {h0 h : XH} {V : VV} {ad : Int → Nat} {aM : Nat → Nat} {a0 : Nat} {H : Heap} {locs : List Loc} {ls : Array Slot} {cells slots : Nat} {Q : State → Prop} {L : Nat} {sv : Nat → Int32} {x3 : Int32} {Rr : XH → VV → Prop} (hst : l.stackTraces = false) (X : LWX p s m b c D cT adF h0) (hS : LWS D cT adF (lA s) s.heap h0 h V ad aM a0 H locs) (hob : 1 ≤ xn h ∧ xk h 1 = 1) (hxs : va_X b L sv s s.heap) (hbl : b < s.heap.size) (hbA : ¬ lA s b) (hin : ∀ j : Int32, 1 ≤ j → j ≤ 5 → vp_in (x3 + j) L)
    (hop : opOK (F_X0_mean 1 (sv (x3 + 1).toNatClampNeg).toInt h) (M_mean (sv (x3 + 1).toNatClampNeg).toInt V) Rr) (hcz : cells = xc h + 35 ∧ slots = xs h + SLM) (hl : lv_has ls 4 [(0, .ref b), (1, .ref (ad 1)), (2, .ref a0), (3, .int x3)])
    (kk : ∀ h1 V1 u H2 locs2 cells2 slots2, Rr h1 V1 → LWS D cT adF (lA s) s.heap h0 h1 V1 u aM a0 H2 locs2 → u 1 = ad 1 → lv_has ls 4 [(0, .ref b), (1, .ref (u 1)), (2, .ref a0), (3, .int x3)] → cells2 = xc h1 + 35 → slots2 = xs h1 + SLM → W p l e room_1 s m #[Value.ref b] below meth c H2 locs2 cells2 slots2 Q (F0 m 1337 ls [])) : W p l e room_1 s m #[Value.ref b] below meth c H locs cells slots Q (F0 m 650 ls []) := by
  have hn1 : 1 ≤ xn h := hob.1
  have hk1 : xk h 1 = 1 := hob.2
  obtain ⟨r, h1, V1, e1, e2, hR1, hc1, hs1⟩ := hop
  obtain ⟨hcz1, hcz2⟩ := hcz
  have hm1 := (WF_X0_mean (Z := ((p, l, e, room_1, s, m, #[Value.ref b], below, meth, c), (D, cT, adF, ad, lA s), ((0, h), h))) (Nat.le_refl 130) 1 (sv (x3 + 1).toNatClampNeg).toInt h).1 (r, h1) e1
  dsimp only [xfh] at hm1
  refine lv_aload_n X.1 X.2.1 dL_law_650 rfl (lv_at hl 1 rfl) ?_
  refine lv_aload_n X.1 X.2.1 dL_law_651 rfl (lv_at hl 0 rfl) ?_
  refine lv_iload_n X.1 X.2.1 dL_law_652 rfl (lv_at hl 3 rfl) ?_
  refine lv_iconst (v := 1) X.1 X.2.1 dL_law_653 (by decide) ?_
  refine lv_iadd X.1 X.2.1 dL_law_654 ?_
  refine va_sld X.1 X.2.1 hxs hbl hbA hS.2.2.2.2.2.2.1 (hin 1 (by decide) (by decide)) dL_law_655 ?_
  refine lawX_l (args := [(0, (sv (x3 + 1).toNatClampNeg).toInt)]) (r := r) (h' := h1) (rest := []) X hS hn1 hk1 (fun hp => lawX_run (n := 1) X hS (SF_X0_mean l (Nat.le_refl 130) 1 (sv (x3 + 1).toNatClampNeg).toInt h hS.2.2.2.2.2.2.2.1 (okXs.c (okX.r (by omega)) (okXs.c (okX.i (i32_in _)) okXs.nil)) (r, h1) e1) (lw_V q1112 q1113 q1114 q124 q1115) ⟨rfl, by decide +kernel, by decide +kernel, by decide +kernel⟩ rfl (by decide) (by decide) hl.1 (by simp [cX, I32_of]) (Nat.le_of_ble_eq_true rfl) dL_law_656 ⟨by omega, by omega⟩ hp) ?_
  intro u H1 locs1 hS hu hr
  rw [← hu] at hl
  refine lv_aload_n X.1 X.2.1 dL_law_659 rfl (lv_at hl 2 rfl) ?_
  refine lv_aload_n X.1 X.2.1 dL_law_660 rfl (lv_at hl 0 rfl) ?_
  refine lv_iload_n X.1 X.2.1 dL_law_661 rfl (lv_at hl 3 rfl) ?_
  refine lv_iconst (v := 1) X.1 X.2.1 dL_law_662 (by decide) ?_
  refine lv_iadd X.1 X.2.1 dL_law_663 ?_
  refine va_sld X.1 X.2.1 hxs hbl hbA hS.2.2.2.2.2.2.1 (hin 1 (by decide) (by decide)) dL_law_664 ?_
  refine lawM_l (args := [(0, (sv (x3 + 1).toNatClampNeg).toInt)]) (n := 1) (rest := [.long (I64 r)]) X hS (WM_mean l (Nat.le_refl 129) (sv (x3 + 1).toNatClampNeg).toInt V hS.2.2.2.2.2.2.2.2.1 ((oks.c (okA.i (i32_in _)) oks.nil)) (r, V1) e2) (lw_V q2148 q2149 q2150 q131 q2151) ⟨rfl, by decide +kernel, by decide +kernel, by decide +kernel⟩ rfl (by decide) (by decide) hl.1 (by simp [cA, I32_of]) (Nat.le_of_ble_eq_true rfl) dL_law_665 ⟨by omega, by omega⟩ ?_
  intro H2 locs2 hS hr2
  refine W.lcmp X.1 X.2.1 dL_law_668 ?_
  refine lv_if_eq (tgt := 1337) X.1 X.2.1 dL_law_669 (by decide) (fun _ => ?_) (fun hc => absurd ((lg_cmp_eq _ _).mpr rfl) hc)
  exact kk h1 V1 u H2 locs2 _ _ hR1 hS hu hl (by omega) (by omega)
theorem lc_15 {p : Program} {l : Launch} {e : Env} {s : State} {m : MethodId} {b : Nat} {below : List Frame} {meth : Method} {c : Code} {D : va_G} {cT : Nat → ClassId} {adF : Int → Nat} {h0 h : XH} {V : VV} {ad : Int → Nat} {aM : Nat → Nat} {a0 : Nat} {H : Heap} {locs : List Loc} {ls : Array Slot} {cells slots : Nat} {Q : State → Prop} {L : Nat} {sv : Nat → Int32} {x3 : Int32} {Rr : XH → VV → Prop} (hst : l.stackTraces = false) (X : LWX p s m b c D cT adF h0) (hS : LWS D cT adF (lA s) s.heap h0 h V ad aM a0 H locs) (hob : 1 ≤ xn h ∧ xk h 1 = 1) (hxs : va_X b L sv s s.heap) (hbl : b < s.heap.size) (hbA : ¬ lA s b) (hin : ∀ j : Int32, 1 ≤ j → j ≤ 5 → vp_in (x3 + j) L)
    (hop : opOK (F_X0_sure 1 (sv (x3 + 1).toNatClampNeg).toInt (sv (x3 + 2).toNatClampNeg).toInt h) (M_sure (sv (x3 + 1).toNatClampNeg).toInt (sv (x3 + 2).toNatClampNeg).toInt V) Rr) (hcz : cells = xc h + 35 ∧ slots = xs h + SLM) (hl : lv_has ls 4 [(0, .ref b), (1, .ref (ad 1)), (2, .ref a0), (3, .int x3)])
    (kk : ∀ h1 V1 u H2 locs2 cells2 slots2, Rr h1 V1 → LWS D cT adF (lA s) s.heap h0 h1 V1 u aM a0 H2 locs2 → u 1 = ad 1 → lv_has ls 4 [(0, .ref b), (1, .ref (u 1)), (2, .ref a0), (3, .int x3)] → cells2 = xc h1 + 35 → slots2 = xs h1 + SLM → W p l e room_1 s m #[Value.ref b] below meth c H2 locs2 cells2 slots2 Q (F0 m 1337 ls [])) : W p l e room_1 s m #[Value.ref b] below meth c H locs cells slots Q (F0 m 674 ls []) := by
  have hn1 : 1 ≤ xn h := hob.1
  have hk1 : xk h 1 = 1 := hob.2
  obtain ⟨r, h1, V1, e1, e2, hR1, hc1, hs1⟩ := hop
  obtain ⟨hcz1, hcz2⟩ := hcz
  have hm1 := (WF_X0_sure (Z := ((p, l, e, room_1, s, m, #[Value.ref b], below, meth, c), (D, cT, adF, ad, lA s), ((0, h), h))) (Nat.le_refl 130) 1 (sv (x3 + 1).toNatClampNeg).toInt (sv (x3 + 2).toNatClampNeg).toInt h).1 (r, h1) e1
  dsimp only [xfh] at hm1
  refine lv_aload_n X.1 X.2.1 dL_law_674 rfl (lv_at hl 1 rfl) ?_
  refine lv_aload_n X.1 X.2.1 dL_law_675 rfl (lv_at hl 0 rfl) ?_
  refine lv_iload_n X.1 X.2.1 dL_law_676 rfl (lv_at hl 3 rfl) ?_
  refine lv_iconst (v := 1) X.1 X.2.1 dL_law_677 (by decide) ?_
  refine lv_iadd X.1 X.2.1 dL_law_678 ?_
  refine va_sld X.1 X.2.1 hxs hbl hbA hS.2.2.2.2.2.2.1 (hin 1 (by decide) (by decide)) dL_law_679 ?_
  refine lv_aload_n X.1 X.2.1 dL_law_680 rfl (lv_at hl 0 rfl) ?_
  refine lv_iload_n X.1 X.2.1 dL_law_681 rfl (lv_at hl 3 rfl) ?_
  refine lv_iconst (v := 2) X.1 X.2.1 dL_law_682 (by decide) ?_
  refine lv_iadd X.1 X.2.1 dL_law_683 ?_
  refine va_sld X.1 X.2.1 hxs hbl hbA hS.2.2.2.2.2.2.1 (hin 2 (by decide) (by decide)) dL_law_684 ?_
  refine lawX_l (args := [(0, (sv (x3 + 1).toNatClampNeg).toInt), (0, (sv (x3 + 2).toNatClampNeg).toInt)]) (r := r) (h' := h1) (rest := []) X hS hn1 hk1 (fun hp => lawX_run (n := 2) X hS (SF_X0_sure l (Nat.le_refl 130) 1 (sv (x3 + 1).toNatClampNeg).toInt (sv (x3 + 2).toNatClampNeg).toInt h hS.2.2.2.2.2.2.2.1 (okXs.c (okX.r (by omega)) (okXs.c (okX.i (i32_in _)) (okXs.c (okX.i (i32_in _)) okXs.nil))) (r, h1) e1) (lw_V q1116 q1117 q1118 q124 q1119) ⟨rfl, by decide +kernel, by decide +kernel, by decide +kernel⟩ rfl (by decide) (by decide) hl.1 (by simp [cX, I32_of]) (Nat.le_of_ble_eq_true rfl) dL_law_685 ⟨by omega, by omega⟩ hp) ?_
  intro u H1 locs1 hS hu hr
  rw [← hu] at hl
  refine lv_aload_n X.1 X.2.1 dL_law_688 rfl (lv_at hl 2 rfl) ?_
  refine lv_aload_n X.1 X.2.1 dL_law_689 rfl (lv_at hl 0 rfl) ?_
  refine lv_iload_n X.1 X.2.1 dL_law_690 rfl (lv_at hl 3 rfl) ?_
  refine lv_iconst (v := 1) X.1 X.2.1 dL_law_691 (by decide) ?_
  refine lv_iadd X.1 X.2.1 dL_law_692 ?_
  refine va_sld X.1 X.2.1 hxs hbl hbA hS.2.2.2.2.2.2.1 (hin 1 (by decide) (by decide)) dL_law_693 ?_
  refine lv_aload_n X.1 X.2.1 dL_law_694 rfl (lv_at hl 0 rfl) ?_
  refine lv_iload_n X.1 X.2.1 dL_law_695 rfl (lv_at hl 3 rfl) ?_
  refine lv_iconst (v := 2) X.1 X.2.1 dL_law_696 (by decide) ?_
  refine lv_iadd X.1 X.2.1 dL_law_697 ?_
  refine va_sld X.1 X.2.1 hxs hbl hbA hS.2.2.2.2.2.2.1 (hin 2 (by decide) (by decide)) dL_law_698 ?_
  refine lawM_l (args := [(0, (sv (x3 + 1).toNatClampNeg).toInt), (0, (sv (x3 + 2).toNatClampNeg).toInt)]) (n := 2) (rest := [.long (I64 r)]) X hS (WM_sure l (Nat.le_refl 128) (sv (x3 + 1).toNatClampNeg).toInt (sv (x3 + 2).toNatClampNeg).toInt V hS.2.2.2.2.2.2.2.2.1 ((oks.c (okA.i (i32_in _)) (oks.c (okA.i (i32_in _)) oks.nil))) (r, V1) e2) (lw_V q2154 q2155 q2156 q131 q2157) ⟨rfl, by decide +kernel, by decide +kernel, by decide +kernel⟩ rfl (by decide) (by decide) hl.1 (by simp [cA, I32_of]) (Nat.le_of_ble_eq_true rfl) dL_law_699 ⟨by omega, by omega⟩ ?_
  intro H2 locs2 hS hr2
  refine W.lcmp X.1 X.2.1 dL_law_702 ?_
  refine lv_if_eq (tgt := 1337) X.1 X.2.1 dL_law_703 (by decide) (fun _ => ?_) (fun hc => absurd ((lg_cmp_eq _ _).mpr rfl) hc)
  exact kk h1 V1 u H2 locs2 _ _ hR1 hS hu hl (by omega) (by omega)
theorem lc_16 {p : Program} {l : Launch} {e : Env} {s : State} {m : MethodId} {b : Nat} {below : List Frame} {meth : Method} {c : Code} {D : va_G} {cT : Nat → ClassId} {adF : Int → Nat} {h0 h : XH} {V : VV} {ad : Int → Nat} {aM : Nat → Nat} {a0 : Nat} {H : Heap} {locs : List Loc} {ls : Array Slot} {cells slots : Nat} {Q : State → Prop} {L : Nat} {sv : Nat → Int32} {x3 : Int32} {Rr : XH → VV → Prop} (hst : l.stackTraces = false) (X : LWX p s m b c D cT adF h0) (hS : LWS D cT adF (lA s) s.heap h0 h V ad aM a0 H locs) (hob : 1 ≤ xn h ∧ xk h 1 = 1) (hxs : va_X b L sv s s.heap) (hbl : b < s.heap.size) (hbA : ¬ lA s b) (hin : ∀ j : Int32, 1 ≤ j → j ≤ 5 → vp_in (x3 + j) L)
    (hop : opOK (F_X0_safe 1 h) (M_safe V) Rr) (hcz : cells = xc h + 35 ∧ slots = xs h + SLM) (hl : lv_has ls 4 [(0, .ref b), (1, .ref (ad 1)), (2, .ref a0), (3, .int x3)])
    (kk : ∀ h1 V1 u H2 locs2 cells2 slots2, Rr h1 V1 → LWS D cT adF (lA s) s.heap h0 h1 V1 u aM a0 H2 locs2 → u 1 = ad 1 → lv_has ls 4 [(0, .ref b), (1, .ref (u 1)), (2, .ref a0), (3, .int x3)] → cells2 = xc h1 + 35 → slots2 = xs h1 + SLM → W p l e room_1 s m #[Value.ref b] below meth c H2 locs2 cells2 slots2 Q (F0 m 1337 ls [])) : W p l e room_1 s m #[Value.ref b] below meth c H locs cells slots Q (F0 m 708 ls []) := by
  have hn1 : 1 ≤ xn h := hob.1
  have hk1 : xk h 1 = 1 := hob.2
  obtain ⟨r, h1, V1, e1, e2, hR1, hc1, hs1⟩ := hop
  obtain ⟨hcz1, hcz2⟩ := hcz
  have hm1 := (WF_X0_safe (Z := ((p, l, e, room_1, s, m, #[Value.ref b], below, meth, c), (D, cT, adF, ad, lA s), ((0, h), h))) (Nat.le_refl 130) 1 h).1 (r, h1) e1
  dsimp only [xfh] at hm1
  refine lv_aload_n X.1 X.2.1 dL_law_708 rfl (lv_at hl 1 rfl) ?_
  refine lawX_i (args := []) (r := r) (h' := h1) (rest := []) X hS hn1 hk1 (fun hp => lawX_run (n := 0) X hS (SF_X0_safe l (Nat.le_refl 130) 1 h hS.2.2.2.2.2.2.2.1 (okXs.c (okX.r (by omega))  okXs.nil) (r, h1) e1) (lw_V q1128 q1129 q1130 q124 q1131) ⟨rfl, by decide +kernel, by decide +kernel, by decide +kernel⟩ rfl (by decide) (by decide) hl.1 (by simp [cX, I32_of]) (Nat.le_of_ble_eq_true rfl) dL_law_709 ⟨by omega, by omega⟩ hp) ?_
  intro u H1 locs1 hS hu hr
  rw [← hu] at hl
  refine lv_aload_n X.1 X.2.1 dL_law_712 rfl (lv_at hl 2 rfl) ?_
  refine lawM_i (args := []) (n := 0) (rest := [.int (I32 r)]) X hS (WM_safe l (Nat.le_refl 128) V hS.2.2.2.2.2.2.2.2.1 oks.nil (r, V1) e2) (lw_V q2166 q2167 q2168 q131 q2169) ⟨rfl, by decide +kernel, by decide +kernel, by decide +kernel⟩ rfl (by decide) (by decide) hl.1 (by simp [cA, I32_of]) (Nat.le_of_ble_eq_true rfl) dL_law_713 ⟨by omega, by omega⟩ ?_
  intro H2 locs2 hS hr2
  refine lv_icmp_eq (tgt := 1337) X.1 X.2.1 dL_law_716 (by decide) (fun _ => ?_) (fun hc => absurd rfl hc)
  exact kk h1 V1 u H2 locs2 _ _ hR1 hS hu hl (by omega) (by omega)
theorem lc_17 {p : Program} {l : Launch} {e : Env} {s : State} {m : MethodId} {b : Nat} {below : List Frame} {meth : Method} {c : Code} {D : va_G} {cT : Nat → ClassId} {adF : Int → Nat} {h0 h : XH} {V : VV} {ad : Int → Nat} {aM : Nat → Nat} {a0 : Nat} {H : Heap} {locs : List Loc} {ls : Array Slot} {cells slots : Nat} {Q : State → Prop} {L : Nat} {sv : Nat → Int32} {x3 : Int32} {Rr : XH → VV → Prop} (hst : l.stackTraces = false) (X : LWX p s m b c D cT adF h0) (hS : LWS D cT adF (lA s) s.heap h0 h V ad aM a0 H locs) (hob : 1 ≤ xn h ∧ xk h 1 = 1) (hxs : va_X b L sv s s.heap) (hbl : b < s.heap.size) (hbA : ¬ lA s b) (hin : ∀ j : Int32, 1 ≤ j → j ≤ 5 → vp_in (x3 + j) L)
    (hop : opOK (F_X0_worth 1 (sv (x3 + 1).toNatClampNeg).toInt h) (M_worth (sv (x3 + 1).toNatClampNeg).toInt V) Rr) (hcz : cells = xc h + 35 ∧ slots = xs h + SLM) (hl : lv_has ls 4 [(0, .ref b), (1, .ref (ad 1)), (2, .ref a0), (3, .int x3)])
    (kk : ∀ h1 V1 u H2 locs2 cells2 slots2, Rr h1 V1 → LWS D cT adF (lA s) s.heap h0 h1 V1 u aM a0 H2 locs2 → u 1 = ad 1 → lv_has ls 4 [(0, .ref b), (1, .ref (u 1)), (2, .ref a0), (3, .int x3)] → cells2 = xc h1 + 35 → slots2 = xs h1 + SLM → W p l e room_1 s m #[Value.ref b] below meth c H2 locs2 cells2 slots2 Q (F0 m 1337 ls [])) : W p l e room_1 s m #[Value.ref b] below meth c H locs cells slots Q (F0 m 721 ls []) := by
  have hn1 : 1 ≤ xn h := hob.1
  have hk1 : xk h 1 = 1 := hob.2
  obtain ⟨r, h1, V1, e1, e2, hR1, hc1, hs1⟩ := hop
  obtain ⟨hcz1, hcz2⟩ := hcz
  have hm1 := (WF_X0_worth (Z := ((p, l, e, room_1, s, m, #[Value.ref b], below, meth, c), (D, cT, adF, ad, lA s), ((0, h), h))) (Nat.le_refl 130) 1 (sv (x3 + 1).toNatClampNeg).toInt h).1 (r, h1) e1
  dsimp only [xfh] at hm1
  refine lv_aload_n X.1 X.2.1 dL_law_721 rfl (lv_at hl 1 rfl) ?_
  refine lv_aload_n X.1 X.2.1 dL_law_722 rfl (lv_at hl 0 rfl) ?_
  refine lv_iload_n X.1 X.2.1 dL_law_723 rfl (lv_at hl 3 rfl) ?_
  refine lv_iconst (v := 1) X.1 X.2.1 dL_law_724 (by decide) ?_
  refine lv_iadd X.1 X.2.1 dL_law_725 ?_
  refine va_sld X.1 X.2.1 hxs hbl hbA hS.2.2.2.2.2.2.1 (hin 1 (by decide) (by decide)) dL_law_726 ?_
  refine lawX_i (args := [(0, (sv (x3 + 1).toNatClampNeg).toInt)]) (r := r) (h' := h1) (rest := []) X hS hn1 hk1 (fun hp => lawX_run (n := 1) X hS (SF_X0_worth l (Nat.le_refl 130) 1 (sv (x3 + 1).toNatClampNeg).toInt h hS.2.2.2.2.2.2.2.1 (okXs.c (okX.r (by omega)) (okXs.c (okX.i (i32_in _)) okXs.nil)) (r, h1) e1) (lw_V q1132 q1133 q1134 q124 q1135) ⟨rfl, by decide +kernel, by decide +kernel, by decide +kernel⟩ rfl (by decide) (by decide) hl.1 (by simp [cX, I32_of]) (Nat.le_of_ble_eq_true rfl) dL_law_727 ⟨by omega, by omega⟩ hp) ?_
  intro u H1 locs1 hS hu hr
  rw [← hu] at hl
  refine lv_aload_n X.1 X.2.1 dL_law_730 rfl (lv_at hl 2 rfl) ?_
  refine lv_aload_n X.1 X.2.1 dL_law_731 rfl (lv_at hl 0 rfl) ?_
  refine lv_iload_n X.1 X.2.1 dL_law_732 rfl (lv_at hl 3 rfl) ?_
  refine lv_iconst (v := 1) X.1 X.2.1 dL_law_733 (by decide) ?_
  refine lv_iadd X.1 X.2.1 dL_law_734 ?_
  refine va_sld X.1 X.2.1 hxs hbl hbA hS.2.2.2.2.2.2.1 (hin 1 (by decide) (by decide)) dL_law_735 ?_
  refine lawM_i (args := [(0, (sv (x3 + 1).toNatClampNeg).toInt)]) (n := 1) (rest := [.int (I32 r)]) X hS (WM_worth l (Nat.le_refl 129) (sv (x3 + 1).toNatClampNeg).toInt V hS.2.2.2.2.2.2.2.2.1 ((oks.c (okA.i (i32_in _)) oks.nil)) (r, V1) e2) (lw_V q2170 q2171 q2172 q131 q2173) ⟨rfl, by decide +kernel, by decide +kernel, by decide +kernel⟩ rfl (by decide) (by decide) hl.1 (by simp [cA, I32_of]) (Nat.le_of_ble_eq_true rfl) dL_law_736 ⟨by omega, by omega⟩ ?_
  intro H2 locs2 hS hr2
  refine lv_icmp_eq (tgt := 1337) X.1 X.2.1 dL_law_739 (by decide) (fun _ => ?_) (fun hc => absurd rfl hc)
  exact kk h1 V1 u H2 locs2 _ _ hR1 hS hu hl (by omega) (by omega)
theorem lc_18 {p : Program} {l : Launch} {e : Env} {s : State} {m : MethodId} {b : Nat} {below : List Frame} {meth : Method} {c : Code} {D : va_G} {cT : Nat → ClassId} {adF : Int → Nat} {h0 h : XH} {V : VV} {ad : Int → Nat} {aM : Nat → Nat} {a0 : Nat} {H : Heap} {locs : List Loc} {ls : Array Slot} {cells slots : Nat} {Q : State → Prop} {L : Nat} {sv : Nat → Int32} {x3 : Int32} {Rr : XH → VV → Prop} (hst : l.stackTraces = false) (X : LWX p s m b c D cT adF h0) (hS : LWS D cT adF (lA s) s.heap h0 h V ad aM a0 H locs) (hob : 1 ≤ xn h ∧ xk h 1 = 1) (hxs : va_X b L sv s s.heap) (hbl : b < s.heap.size) (hbA : ¬ lA s b) (hin : ∀ j : Int32, 1 ≤ j → j ≤ 5 → vp_in (x3 + j) L)
    (hop : opOK (F_X0_best 1 (sv (x3 + 1).toNatClampNeg).toInt (sv (x3 + 2).toNatClampNeg).toInt h) (M_best (sv (x3 + 1).toNatClampNeg).toInt (sv (x3 + 2).toNatClampNeg).toInt V) Rr) (hcz : cells = xc h + 35 ∧ slots = xs h + SLM) (hl : lv_has ls 4 [(0, .ref b), (1, .ref (ad 1)), (2, .ref a0), (3, .int x3)])
    (kk : ∀ h1 V1 u H2 locs2 cells2 slots2, Rr h1 V1 → LWS D cT adF (lA s) s.heap h0 h1 V1 u aM a0 H2 locs2 → u 1 = ad 1 → lv_has ls 4 [(0, .ref b), (1, .ref (u 1)), (2, .ref a0), (3, .int x3)] → cells2 = xc h1 + 35 → slots2 = xs h1 + SLM → W p l e room_1 s m #[Value.ref b] below meth c H2 locs2 cells2 slots2 Q (F0 m 1337 ls [])) : W p l e room_1 s m #[Value.ref b] below meth c H locs cells slots Q (F0 m 744 ls []) := by
  have hn1 : 1 ≤ xn h := hob.1
  have hk1 : xk h 1 = 1 := hob.2
  obtain ⟨r, h1, V1, e1, e2, hR1, hc1, hs1⟩ := hop
  obtain ⟨hcz1, hcz2⟩ := hcz
  have hm1 := (WF_X0_best (Z := ((p, l, e, room_1, s, m, #[Value.ref b], below, meth, c), (D, cT, adF, ad, lA s), ((0, h), h))) (Nat.le_refl 132) 1 (sv (x3 + 1).toNatClampNeg).toInt (sv (x3 + 2).toNatClampNeg).toInt h).1 (r, h1) e1
  dsimp only [xfh] at hm1
  refine lv_aload_n X.1 X.2.1 dL_law_744 rfl (lv_at hl 1 rfl) ?_
  refine lv_aload_n X.1 X.2.1 dL_law_745 rfl (lv_at hl 0 rfl) ?_
  refine lv_iload_n X.1 X.2.1 dL_law_746 rfl (lv_at hl 3 rfl) ?_
  refine lv_iconst (v := 1) X.1 X.2.1 dL_law_747 (by decide) ?_
  refine lv_iadd X.1 X.2.1 dL_law_748 ?_
  refine va_sld X.1 X.2.1 hxs hbl hbA hS.2.2.2.2.2.2.1 (hin 1 (by decide) (by decide)) dL_law_749 ?_
  refine lv_aload_n X.1 X.2.1 dL_law_750 rfl (lv_at hl 0 rfl) ?_
  refine lv_iload_n X.1 X.2.1 dL_law_751 rfl (lv_at hl 3 rfl) ?_
  refine lv_iconst (v := 2) X.1 X.2.1 dL_law_752 (by decide) ?_
  refine lv_iadd X.1 X.2.1 dL_law_753 ?_
  refine va_sld X.1 X.2.1 hxs hbl hbA hS.2.2.2.2.2.2.1 (hin 2 (by decide) (by decide)) dL_law_754 ?_
  refine lawX_l (args := [(0, (sv (x3 + 1).toNatClampNeg).toInt), (0, (sv (x3 + 2).toNatClampNeg).toInt)]) (r := r) (h' := h1) (rest := []) X hS hn1 hk1 (fun hp => lawX_run (n := 2) X hS (SF_X0_best l (Nat.le_refl 132) 1 (sv (x3 + 1).toNatClampNeg).toInt (sv (x3 + 2).toNatClampNeg).toInt h hS.2.2.2.2.2.2.2.1 (okXs.c (okX.r (by omega)) (okXs.c (okX.i (i32_in _)) (okXs.c (okX.i (i32_in _)) okXs.nil))) (r, h1) e1) (lw_V q1142 q1143 q1144 q124 q1145) ⟨rfl, by decide +kernel, by decide +kernel, by decide +kernel⟩ rfl (by decide) (by decide) hl.1 (by simp [cX, I32_of]) (Nat.le_of_ble_eq_true rfl) dL_law_755 ⟨by omega, by omega⟩ hp) ?_
  intro u H1 locs1 hS hu hr
  rw [← hu] at hl
  refine lv_aload_n X.1 X.2.1 dL_law_758 rfl (lv_at hl 2 rfl) ?_
  refine lv_aload_n X.1 X.2.1 dL_law_759 rfl (lv_at hl 0 rfl) ?_
  refine lv_iload_n X.1 X.2.1 dL_law_760 rfl (lv_at hl 3 rfl) ?_
  refine lv_iconst (v := 1) X.1 X.2.1 dL_law_761 (by decide) ?_
  refine lv_iadd X.1 X.2.1 dL_law_762 ?_
  refine va_sld X.1 X.2.1 hxs hbl hbA hS.2.2.2.2.2.2.1 (hin 1 (by decide) (by decide)) dL_law_763 ?_
  refine lv_aload_n X.1 X.2.1 dL_law_764 rfl (lv_at hl 0 rfl) ?_
  refine lv_iload_n X.1 X.2.1 dL_law_765 rfl (lv_at hl 3 rfl) ?_
  refine lv_iconst (v := 2) X.1 X.2.1 dL_law_766 (by decide) ?_
  refine lv_iadd X.1 X.2.1 dL_law_767 ?_
  refine va_sld X.1 X.2.1 hxs hbl hbA hS.2.2.2.2.2.2.1 (hin 2 (by decide) (by decide)) dL_law_768 ?_
  refine lawM_l (args := [(0, (sv (x3 + 1).toNatClampNeg).toInt), (0, (sv (x3 + 2).toNatClampNeg).toInt)]) (n := 2) (rest := [.long (I64 r)]) X hS (WM_best l (Nat.le_refl 130) (sv (x3 + 1).toNatClampNeg).toInt (sv (x3 + 2).toNatClampNeg).toInt V hS.2.2.2.2.2.2.2.2.1 ((oks.c (okA.i (i32_in _)) (oks.c (okA.i (i32_in _)) oks.nil))) (r, V1) e2) (lw_V q2179 q2180 q2181 q131 q2182) ⟨rfl, by decide +kernel, by decide +kernel, by decide +kernel⟩ rfl (by decide) (by decide) hl.1 (by simp [cA, I32_of]) (Nat.le_of_ble_eq_true rfl) dL_law_769 ⟨by omega, by omega⟩ ?_
  intro H2 locs2 hS hr2
  refine W.lcmp X.1 X.2.1 dL_law_772 ?_
  refine lv_if_eq (tgt := 1337) X.1 X.2.1 dL_law_773 (by decide) (fun _ => ?_) (fun hc => absurd ((lg_cmp_eq _ _).mpr rfl) hc)
  exact kk h1 V1 u H2 locs2 _ _ hR1 hS hu hl (by omega) (by omega)
theorem lc_19 {p : Program} {l : Launch} {e : Env} {s : State} {m : MethodId} {b : Nat} {below : List Frame} {meth : Method} {c : Code} {D : va_G} {cT : Nat → ClassId} {adF : Int → Nat} {h0 h : XH} {V : VV} {ad : Int → Nat} {aM : Nat → Nat} {a0 : Nat} {H : Heap} {locs : List Loc} {ls : Array Slot} {cells slots : Nat} {Q : State → Prop} {L : Nat} {sv : Nat → Int32} {x3 : Int32} {Rr : XH → VV → Prop} (hst : l.stackTraces = false) (X : LWX p s m b c D cT adF h0) (hS : LWS D cT adF (lA s) s.heap h0 h V ad aM a0 H locs) (hob : 1 ≤ xn h ∧ xk h 1 = 1) (hxs : va_X b L sv s s.heap) (hbl : b < s.heap.size) (hbA : ¬ lA s b) (hin : ∀ j : Int32, 1 ≤ j → j ≤ 5 → vp_in (x3 + j) L)
    (hop : opOK (F_X0_level 1 (sv (x3 + 1).toNatClampNeg).toInt (sv (x3 + 2).toNatClampNeg).toInt h) (M_level (sv (x3 + 1).toNatClampNeg).toInt (sv (x3 + 2).toNatClampNeg).toInt V) Rr) (hcz : cells = xc h + 35 ∧ slots = xs h + SLM) (hl : lv_has ls 4 [(0, .ref b), (1, .ref (ad 1)), (2, .ref a0), (3, .int x3)])
    (kk : ∀ h1 V1 u H2 locs2 cells2 slots2, Rr h1 V1 → LWS D cT adF (lA s) s.heap h0 h1 V1 u aM a0 H2 locs2 → u 1 = ad 1 → lv_has ls 4 [(0, .ref b), (1, .ref (u 1)), (2, .ref a0), (3, .int x3)] → cells2 = xc h1 + 35 → slots2 = xs h1 + SLM → W p l e room_1 s m #[Value.ref b] below meth c H2 locs2 cells2 slots2 Q (F0 m 1337 ls [])) : W p l e room_1 s m #[Value.ref b] below meth c H locs cells slots Q (F0 m 778 ls []) := by
  have hn1 : 1 ≤ xn h := hob.1
  have hk1 : xk h 1 = 1 := hob.2
  obtain ⟨r, h1, V1, e1, e2, hR1, hc1, hs1⟩ := hop
  obtain ⟨hcz1, hcz2⟩ := hcz
  have hm1 := (WF_X0_level (Z := ((p, l, e, room_1, s, m, #[Value.ref b], below, meth, c), (D, cT, adF, ad, lA s), ((0, h), h))) (Nat.le_refl 132) 1 (sv (x3 + 1).toNatClampNeg).toInt (sv (x3 + 2).toNatClampNeg).toInt h).1 (r, h1) e1
  dsimp only [xfh] at hm1
  refine lv_aload_n X.1 X.2.1 dL_law_778 rfl (lv_at hl 1 rfl) ?_
  refine lv_aload_n X.1 X.2.1 dL_law_779 rfl (lv_at hl 0 rfl) ?_
  refine lv_iload_n X.1 X.2.1 dL_law_780 rfl (lv_at hl 3 rfl) ?_
  refine lv_iconst (v := 1) X.1 X.2.1 dL_law_781 (by decide) ?_
  refine lv_iadd X.1 X.2.1 dL_law_782 ?_
  refine va_sld X.1 X.2.1 hxs hbl hbA hS.2.2.2.2.2.2.1 (hin 1 (by decide) (by decide)) dL_law_783 ?_
  refine lv_aload_n X.1 X.2.1 dL_law_784 rfl (lv_at hl 0 rfl) ?_
  refine lv_iload_n X.1 X.2.1 dL_law_785 rfl (lv_at hl 3 rfl) ?_
  refine lv_iconst (v := 2) X.1 X.2.1 dL_law_786 (by decide) ?_
  refine lv_iadd X.1 X.2.1 dL_law_787 ?_
  refine va_sld X.1 X.2.1 hxs hbl hbA hS.2.2.2.2.2.2.1 (hin 2 (by decide) (by decide)) dL_law_788 ?_
  refine lawX_i (args := [(0, (sv (x3 + 1).toNatClampNeg).toInt), (0, (sv (x3 + 2).toNatClampNeg).toInt)]) (r := r) (h' := h1) (rest := []) X hS hn1 hk1 (fun hp => lawX_run (n := 2) X hS (SF_X0_level l (Nat.le_refl 132) 1 (sv (x3 + 1).toNatClampNeg).toInt (sv (x3 + 2).toNatClampNeg).toInt h hS.2.2.2.2.2.2.2.1 (okXs.c (okX.r (by omega)) (okXs.c (okX.i (i32_in _)) (okXs.c (okX.i (i32_in _)) okXs.nil))) (r, h1) e1) (lw_V q1235 q1236 q1237 q124 q1238) ⟨rfl, by decide +kernel, by decide +kernel, by decide +kernel⟩ rfl (by decide) (by decide) hl.1 (by simp [cX, I32_of]) (Nat.le_of_ble_eq_true rfl) dL_law_789 ⟨by omega, by omega⟩ hp) ?_
  intro u H1 locs1 hS hu hr
  rw [← hu] at hl
  refine lv_aload_n X.1 X.2.1 dL_law_792 rfl (lv_at hl 2 rfl) ?_
  refine lv_aload_n X.1 X.2.1 dL_law_793 rfl (lv_at hl 0 rfl) ?_
  refine lv_iload_n X.1 X.2.1 dL_law_794 rfl (lv_at hl 3 rfl) ?_
  refine lv_iconst (v := 1) X.1 X.2.1 dL_law_795 (by decide) ?_
  refine lv_iadd X.1 X.2.1 dL_law_796 ?_
  refine va_sld X.1 X.2.1 hxs hbl hbA hS.2.2.2.2.2.2.1 (hin 1 (by decide) (by decide)) dL_law_797 ?_
  refine lv_aload_n X.1 X.2.1 dL_law_798 rfl (lv_at hl 0 rfl) ?_
  refine lv_iload_n X.1 X.2.1 dL_law_799 rfl (lv_at hl 3 rfl) ?_
  refine lv_iconst (v := 2) X.1 X.2.1 dL_law_800 (by decide) ?_
  refine lv_iadd X.1 X.2.1 dL_law_801 ?_
  refine va_sld X.1 X.2.1 hxs hbl hbA hS.2.2.2.2.2.2.1 (hin 2 (by decide) (by decide)) dL_law_802 ?_
  refine lawM_i (args := [(0, (sv (x3 + 1).toNatClampNeg).toInt), (0, (sv (x3 + 2).toNatClampNeg).toInt)]) (n := 2) (rest := [.int (I32 r)]) X hS (WM_level l (Nat.le_refl 131) (sv (x3 + 1).toNatClampNeg).toInt (sv (x3 + 2).toNatClampNeg).toInt V hS.2.2.2.2.2.2.2.2.1 ((oks.c (okA.i (i32_in _)) (oks.c (okA.i (i32_in _)) oks.nil))) (r, V1) e2) (lw_V q2213 q2214 q2215 q131 q2216) ⟨rfl, by decide +kernel, by decide +kernel, by decide +kernel⟩ rfl (by decide) (by decide) hl.1 (by simp [cA, I32_of]) (Nat.le_of_ble_eq_true rfl) dL_law_803 ⟨by omega, by omega⟩ ?_
  intro H2 locs2 hS hr2
  refine lv_icmp_eq (tgt := 1337) X.1 X.2.1 dL_law_806 (by decide) (fun _ => ?_) (fun hc => absurd rfl hc)
  exact kk h1 V1 u H2 locs2 _ _ hR1 hS hu hl (by omega) (by omega)
theorem lc_20 {p : Program} {l : Launch} {e : Env} {s : State} {m : MethodId} {b : Nat} {below : List Frame} {meth : Method} {c : Code} {D : va_G} {cT : Nat → ClassId} {adF : Int → Nat} {h0 h : XH} {V : VV} {ad : Int → Nat} {aM : Nat → Nat} {a0 : Nat} {H : Heap} {locs : List Loc} {ls : Array Slot} {cells slots : Nat} {Q : State → Prop} {L : Nat} {sv : Nat → Int32} {x3 : Int32} {Rr : XH → VV → Prop} (hst : l.stackTraces = false) (X : LWX p s m b c D cT adF h0) (hS : LWS D cT adF (lA s) s.heap h0 h V ad aM a0 H locs) (hob : 1 ≤ xn h ∧ xk h 1 = 1) (hxs : va_X b L sv s s.heap) (hbl : b < s.heap.size) (hbA : ¬ lA s b) (hin : ∀ j : Int32, 1 ≤ j → j ≤ 5 → vp_in (x3 + j) L)
    (hop : opOK (F_X0_enough 1 (sv (x3 + 1).toNatClampNeg).toInt h) (M_enough (sv (x3 + 1).toNatClampNeg).toInt V) Rr) (hcz : cells = xc h + 35 ∧ slots = xs h + SLM) (hl : lv_has ls 4 [(0, .ref b), (1, .ref (ad 1)), (2, .ref a0), (3, .int x3)])
    (kk : ∀ h1 V1 u H2 locs2 cells2 slots2, Rr h1 V1 → LWS D cT adF (lA s) s.heap h0 h1 V1 u aM a0 H2 locs2 → u 1 = ad 1 → lv_has ls 4 [(0, .ref b), (1, .ref (u 1)), (2, .ref a0), (3, .int x3)] → cells2 = xc h1 + 35 → slots2 = xs h1 + SLM → W p l e room_1 s m #[Value.ref b] below meth c H2 locs2 cells2 slots2 Q (F0 m 1337 ls [])) : W p l e room_1 s m #[Value.ref b] below meth c H locs cells slots Q (F0 m 811 ls []) := by
  have hn1 : 1 ≤ xn h := hob.1
  have hk1 : xk h 1 = 1 := hob.2
  obtain ⟨r, h1, V1, e1, e2, hR1, hc1, hs1⟩ := hop
  obtain ⟨hcz1, hcz2⟩ := hcz
  have hm1 := (WF_X0_enough (Z := ((p, l, e, room_1, s, m, #[Value.ref b], below, meth, c), (D, cT, adF, ad, lA s), ((0, h), h))) (Nat.le_refl 132) 1 (sv (x3 + 1).toNatClampNeg).toInt h).1 (r, h1) e1
  dsimp only [xfh] at hm1
  refine lv_aload_n X.1 X.2.1 dL_law_811 rfl (lv_at hl 1 rfl) ?_
  refine lv_aload_n X.1 X.2.1 dL_law_812 rfl (lv_at hl 0 rfl) ?_
  refine lv_iload_n X.1 X.2.1 dL_law_813 rfl (lv_at hl 3 rfl) ?_
  refine lv_iconst (v := 1) X.1 X.2.1 dL_law_814 (by decide) ?_
  refine lv_iadd X.1 X.2.1 dL_law_815 ?_
  refine va_sld X.1 X.2.1 hxs hbl hbA hS.2.2.2.2.2.2.1 (hin 1 (by decide) (by decide)) dL_law_816 ?_
  refine lawX_i (args := [(0, (sv (x3 + 1).toNatClampNeg).toInt)]) (r := r) (h' := h1) (rest := []) X hS hn1 hk1 (fun hp => lawX_run (n := 1) X hS (SF_X0_enough l (Nat.le_refl 132) 1 (sv (x3 + 1).toNatClampNeg).toInt h hS.2.2.2.2.2.2.2.1 (okXs.c (okX.r (by omega)) (okXs.c (okX.i (i32_in _)) okXs.nil)) (r, h1) e1) (lw_V q1256 q1257 q1258 q124 q1259) ⟨rfl, by decide +kernel, by decide +kernel, by decide +kernel⟩ rfl (by decide) (by decide) hl.1 (by simp [cX, I32_of]) (Nat.le_of_ble_eq_true rfl) dL_law_817 ⟨by omega, by omega⟩ hp) ?_
  intro u H1 locs1 hS hu hr
  rw [← hu] at hl
  refine lv_aload_n X.1 X.2.1 dL_law_820 rfl (lv_at hl 2 rfl) ?_
  refine lv_aload_n X.1 X.2.1 dL_law_821 rfl (lv_at hl 0 rfl) ?_
  refine lv_iload_n X.1 X.2.1 dL_law_822 rfl (lv_at hl 3 rfl) ?_
  refine lv_iconst (v := 1) X.1 X.2.1 dL_law_823 (by decide) ?_
  refine lv_iadd X.1 X.2.1 dL_law_824 ?_
  refine va_sld X.1 X.2.1 hxs hbl hbA hS.2.2.2.2.2.2.1 (hin 1 (by decide) (by decide)) dL_law_825 ?_
  refine lawM_i (args := [(0, (sv (x3 + 1).toNatClampNeg).toInt)]) (n := 1) (rest := [.int (I32 r)]) X hS (WM_enough l (Nat.le_refl 129) (sv (x3 + 1).toNatClampNeg).toInt V hS.2.2.2.2.2.2.2.2.1 ((oks.c (okA.i (i32_in _)) oks.nil)) (r, V1) e2) (lw_V q2225 q2226 q2227 q131 q2228) ⟨rfl, by decide +kernel, by decide +kernel, by decide +kernel⟩ rfl (by decide) (by decide) hl.1 (by simp [cA, I32_of]) (Nat.le_of_ble_eq_true rfl) dL_law_826 ⟨by omega, by omega⟩ ?_
  intro H2 locs2 hS hr2
  refine lv_icmp_eq (tgt := 1337) X.1 X.2.1 dL_law_829 (by decide) (fun _ => ?_) (fun hc => absurd rfl hc)
  exact kk h1 V1 u H2 locs2 _ _ hR1 hS hu hl (by omega) (by omega)
theorem lc_21 {p : Program} {l : Launch} {e : Env} {s : State} {m : MethodId} {b : Nat} {below : List Frame} {meth : Method} {c : Code} {D : va_G} {cT : Nat → ClassId} {adF : Int → Nat} {h0 h : XH} {V : VV} {ad : Int → Nat} {aM : Nat → Nat} {a0 : Nat} {H : Heap} {locs : List Loc} {ls : Array Slot} {cells slots : Nat} {Q : State → Prop} {L : Nat} {sv : Nat → Int32} {x3 : Int32} {Rr : XH → VV → Prop} (hst : l.stackTraces = false) (X : LWX p s m b c D cT adF h0) (hS : LWS D cT adF (lA s) s.heap h0 h V ad aM a0 H locs) (hob : 1 ≤ xn h ∧ xk h 1 = 1) (hxs : va_X b L sv s s.heap) (hbl : b < s.heap.size) (hbA : ¬ lA s b) (hin : ∀ j : Int32, 1 ≤ j → j ≤ 5 → vp_in (x3 + j) L)
    (hop : opOK (F_X0_lesson 1 (sv (x3 + 1).toNatClampNeg).toInt (sv (x3 + 2).toNatClampNeg).toInt h) (M_lesson (sv (x3 + 1).toNatClampNeg).toInt (sv (x3 + 2).toNatClampNeg).toInt V) Rr) (hcz : cells = xc h + 35 ∧ slots = xs h + SLM) (hl : lv_has ls 4 [(0, .ref b), (1, .ref (ad 1)), (2, .ref a0), (3, .int x3)])
    (kk : ∀ h1 V1 u H2 locs2 cells2 slots2, Rr h1 V1 → LWS D cT adF (lA s) s.heap h0 h1 V1 u aM a0 H2 locs2 → u 1 = ad 1 → lv_has ls 4 [(0, .ref b), (1, .ref (u 1)), (2, .ref a0), (3, .int x3)] → cells2 = xc h1 + 35 → slots2 = xs h1 + SLM → W p l e room_1 s m #[Value.ref b] below meth c H2 locs2 cells2 slots2 Q (F0 m 1337 ls [])) : W p l e room_1 s m #[Value.ref b] below meth c H locs cells slots Q (F0 m 834 ls []) := by
  have hn1 : 1 ≤ xn h := hob.1
  have hk1 : xk h 1 = 1 := hob.2
  obtain ⟨r, h1, V1, e1, e2, hR1, hc1, hs1⟩ := hop
  obtain ⟨hcz1, hcz2⟩ := hcz
  have hm1 := (WF_X0_lesson (Z := ((p, l, e, room_1, s, m, #[Value.ref b], below, meth, c), (D, cT, adF, ad, lA s), ((0, h), h))) (Nat.le_refl 7) 1 (sv (x3 + 1).toNatClampNeg).toInt (sv (x3 + 2).toNatClampNeg).toInt h).1 (r, h1) e1
  dsimp only [xfh] at hm1
  refine lv_aload_n X.1 X.2.1 dL_law_834 rfl (lv_at hl 1 rfl) ?_
  refine lv_aload_n X.1 X.2.1 dL_law_835 rfl (lv_at hl 0 rfl) ?_
  refine lv_iload_n X.1 X.2.1 dL_law_836 rfl (lv_at hl 3 rfl) ?_
  refine lv_iconst (v := 1) X.1 X.2.1 dL_law_837 (by decide) ?_
  refine lv_iadd X.1 X.2.1 dL_law_838 ?_
  refine va_sld X.1 X.2.1 hxs hbl hbA hS.2.2.2.2.2.2.1 (hin 1 (by decide) (by decide)) dL_law_839 ?_
  refine lv_aload_n X.1 X.2.1 dL_law_840 rfl (lv_at hl 0 rfl) ?_
  refine lv_iload_n X.1 X.2.1 dL_law_841 rfl (lv_at hl 3 rfl) ?_
  refine lv_iconst (v := 2) X.1 X.2.1 dL_law_842 (by decide) ?_
  refine lv_iadd X.1 X.2.1 dL_law_843 ?_
  refine va_sld X.1 X.2.1 hxs hbl hbA hS.2.2.2.2.2.2.1 (hin 2 (by decide) (by decide)) dL_law_844 ?_
  refine lawX_i (args := [(0, (sv (x3 + 1).toNatClampNeg).toInt), (0, (sv (x3 + 2).toNatClampNeg).toInt)]) (r := r) (h' := h1) (rest := []) X hS hn1 hk1 (fun hp => lawX_run (n := 2) X hS (SF_X0_lesson l (Nat.le_refl 7) 1 (sv (x3 + 1).toNatClampNeg).toInt (sv (x3 + 2).toNatClampNeg).toInt h hS.2.2.2.2.2.2.2.1 (okXs.c (okX.r (by omega)) (okXs.c (okX.i (i32_in _)) (okXs.c (okX.i (i32_in _)) okXs.nil))) (r, h1) e1) (lw_V q1260 q1261 q1262 q124 q1263) ⟨rfl, by decide +kernel, by decide +kernel, by decide +kernel⟩ rfl (by decide) (by decide) hl.1 (by simp [cX, I32_of]) (Nat.le_of_ble_eq_true rfl) dL_law_845 ⟨by omega, by omega⟩ hp) ?_
  intro u H1 locs1 hS hu hr
  rw [← hu] at hl
  refine lv_aload_n X.1 X.2.1 dL_law_848 rfl (lv_at hl 2 rfl) ?_
  refine lv_aload_n X.1 X.2.1 dL_law_849 rfl (lv_at hl 0 rfl) ?_
  refine lv_iload_n X.1 X.2.1 dL_law_850 rfl (lv_at hl 3 rfl) ?_
  refine lv_iconst (v := 1) X.1 X.2.1 dL_law_851 (by decide) ?_
  refine lv_iadd X.1 X.2.1 dL_law_852 ?_
  refine va_sld X.1 X.2.1 hxs hbl hbA hS.2.2.2.2.2.2.1 (hin 1 (by decide) (by decide)) dL_law_853 ?_
  refine lv_aload_n X.1 X.2.1 dL_law_854 rfl (lv_at hl 0 rfl) ?_
  refine lv_iload_n X.1 X.2.1 dL_law_855 rfl (lv_at hl 3 rfl) ?_
  refine lv_iconst (v := 2) X.1 X.2.1 dL_law_856 (by decide) ?_
  refine lv_iadd X.1 X.2.1 dL_law_857 ?_
  refine va_sld X.1 X.2.1 hxs hbl hbA hS.2.2.2.2.2.2.1 (hin 2 (by decide) (by decide)) dL_law_858 ?_
  refine lawM_i (args := [(0, (sv (x3 + 1).toNatClampNeg).toInt), (0, (sv (x3 + 2).toNatClampNeg).toInt)]) (n := 2) (rest := [.int (I32 r)]) X hS (WM_lesson l (Nat.le_refl 3) (sv (x3 + 1).toNatClampNeg).toInt (sv (x3 + 2).toNatClampNeg).toInt V hS.2.2.2.2.2.2.2.2.1 ((oks.c (okA.i (i32_in _)) (oks.c (okA.i (i32_in _)) oks.nil))) (r, V1) e2) (lw_V q2229 q2230 q2231 q131 q2232) ⟨rfl, by decide +kernel, by decide +kernel, by decide +kernel⟩ rfl (by decide) (by decide) hl.1 (by simp [cA, I32_of]) (Nat.le_of_ble_eq_true rfl) dL_law_859 ⟨by omega, by omega⟩ ?_
  intro H2 locs2 hS hr2
  refine lv_icmp_eq (tgt := 1337) X.1 X.2.1 dL_law_862 (by decide) (fun _ => ?_) (fun hc => absurd rfl hc)
  exact kk h1 V1 u H2 locs2 _ _ hR1 hS hu hl (by omega) (by omega)
