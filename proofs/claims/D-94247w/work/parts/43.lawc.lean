/-! printed by tools/genlaw.py: the law's cases -/
set_option maxRecDepth 100000
set_option maxHeartbeats 1000000
theorem lc_22 {p : Program} {l : Launch} {e : Env} {s : State} {m : MethodId} {b : Nat} {below : List Frame} {meth : Method} {c : Code} {D : va_G} {cT : Nat → ClassId} {adF : Int → Nat} {h0 h : XH} {V : VV} {ad : Int → Nat} {aM : Nat → Nat} {a0 : Nat} {H : Heap} {locs : List Loc} {ls : Array Slot} {cells slots : Nat} {Q : State → Prop} {L : Nat} {sv : Nat → Int32} {x3 : Int32} {Rr : XH → VV → Prop} (hst : l.stackTraces = false) (X : LWX p s m b c D cT adF h0) (hS : LWS D cT adF (lA s) s.heap h0 h V ad aM a0 H locs) (hob : 1 ≤ xn h ∧ xk h 1 = 1) (hxs : va_X b L sv s s.heap) (hbl : b < s.heap.size) (hbA : ¬ lA s b) (hin : ∀ j : Int32, 1 ≤ j → j ≤ 5 → vp_in (x3 + j) L)
    (hop : opOK (F_X0_clear 1 h) (M_clear V) Rr) (hcz : cells = xc h + 35 ∧ slots = xs h + SLM) (hl : lv_has ls 4 [(0, .ref b), (1, .ref (ad 1)), (2, .ref a0), (3, .int x3)])
    (kk : ∀ h1 V1 u H2 locs2 cells2 slots2, Rr h1 V1 → LWS D cT adF (lA s) s.heap h0 h1 V1 u aM a0 H2 locs2 → u 1 = ad 1 → lv_has ls 4 [(0, .ref b), (1, .ref (u 1)), (2, .ref a0), (3, .int x3)] → cells2 = xc h1 + 35 → slots2 = xs h1 + SLM → W p l e room_1 s m #[Value.ref b] below meth c H2 locs2 cells2 slots2 Q (F0 m 1337 ls [])) : W p l e room_1 s m #[Value.ref b] below meth c H locs cells slots Q (F0 m 867 ls []) := by
  have hn1 : 1 ≤ xn h := hob.1
  have hk1 : xk h 1 = 1 := hob.2
  obtain ⟨r, h1, V1, e1, e2, hR1, hc1, hs1⟩ := hop
  obtain ⟨hcz1, hcz2⟩ := hcz
  have hm1 := (WF_X0_clear (Z := ((p, l, e, room_1, s, m, #[Value.ref b], below, meth, c), (D, cT, adF, ad, lA s), ((0, h), h))) (Nat.le_refl 2) 1 h).1 (r, h1) e1
  dsimp only [xfh] at hm1
  refine lv_aload_n X.1 X.2.1 dL_law_867 rfl (lv_at hl 1 rfl) ?_
  refine lawX_i (args := []) (r := r) (h' := h1) (rest := []) X hS hn1 hk1 (fun hp => lawX_run (n := 0) X hS (SF_X0_clear l (Nat.le_refl 2) 1 h hS.2.2.2.2.2.2.2.1 (okXs.c (okX.r (by omega))  okXs.nil) (r, h1) e1) (lw_V q1280 q1281 q1282 q124 q1283) ⟨rfl, by decide +kernel, by decide +kernel, by decide +kernel⟩ rfl (by decide) (by decide) hl.1 (by simp [cX, I32_of]) (Nat.le_of_ble_eq_true rfl) dL_law_868 ⟨by omega, by omega⟩ hp) ?_
  intro u H1 locs1 hS hu hr
  rw [← hu] at hl
  refine lv_aload_n X.1 X.2.1 dL_law_871 rfl (lv_at hl 2 rfl) ?_
  refine lawM_i (args := []) (n := 0) (rest := [.int (I32 r)]) X hS (WM_clear l (Nat.le_refl 1) V hS.2.2.2.2.2.2.2.2.1 oks.nil (r, V1) e2) (lw_V q2233 q2234 q2235 q131 q2236) ⟨rfl, by decide +kernel, by decide +kernel, by decide +kernel⟩ rfl (by decide) (by decide) hl.1 (by simp [cA, I32_of]) (Nat.le_of_ble_eq_true rfl) dL_law_872 ⟨by omega, by omega⟩ ?_
  intro H2 locs2 hS hr2
  refine lv_icmp_eq (tgt := 1337) X.1 X.2.1 dL_law_875 (by decide) (fun _ => ?_) (fun hc => absurd rfl hc)
  exact kk h1 V1 u H2 locs2 _ _ hR1 hS hu hl (by omega) (by omega)
theorem lc_23 {p : Program} {l : Launch} {e : Env} {s : State} {m : MethodId} {b : Nat} {below : List Frame} {meth : Method} {c : Code} {D : va_G} {cT : Nat → ClassId} {adF : Int → Nat} {h0 h : XH} {V : VV} {ad : Int → Nat} {aM : Nat → Nat} {a0 : Nat} {H : Heap} {locs : List Loc} {ls : Array Slot} {cells slots : Nat} {Q : State → Prop} {L : Nat} {sv : Nat → Int32} {x3 : Int32} {Rr : XH → VV → Prop} (hst : l.stackTraces = false) (X : LWX p s m b c D cT adF h0) (hS : LWS D cT adF (lA s) s.heap h0 h V ad aM a0 H locs) (hob : 1 ≤ xn h ∧ xk h 1 = 1) (hxs : va_X b L sv s s.heap) (hbl : b < s.heap.size) (hbA : ¬ lA s b) (hin : ∀ j : Int32, 1 ≤ j → j ≤ 5 → vp_in (x3 + j) L)
    (hop : opOK (F_X0_behind 1 (sv (x3 + 1).toNatClampNeg).toInt (sv (x3 + 2).toNatClampNeg).toInt h) (M_behind (sv (x3 + 1).toNatClampNeg).toInt (sv (x3 + 2).toNatClampNeg).toInt V) Rr) (hcz : cells = xc h + 35 ∧ slots = xs h + SLM) (hl : lv_has ls 4 [(0, .ref b), (1, .ref (ad 1)), (2, .ref a0), (3, .int x3)])
    (kk : ∀ h1 V1 u H2 locs2 cells2 slots2, Rr h1 V1 → LWS D cT adF (lA s) s.heap h0 h1 V1 u aM a0 H2 locs2 → u 1 = ad 1 → lv_has ls 4 [(0, .ref b), (1, .ref (u 1)), (2, .ref a0), (3, .int x3)] → cells2 = xc h1 + 35 → slots2 = xs h1 + SLM → W p l e room_1 s m #[Value.ref b] below meth c H2 locs2 cells2 slots2 Q (F0 m 1337 ls [])) : W p l e room_1 s m #[Value.ref b] below meth c H locs cells slots Q (F0 m 880 ls []) := by
  have hn1 : 1 ≤ xn h := hob.1
  have hk1 : xk h 1 = 1 := hob.2
  obtain ⟨r, h1, V1, e1, e2, hR1, hc1, hs1⟩ := hop
  obtain ⟨hcz1, hcz2⟩ := hcz
  have hm1 := (WF_X0_behind (Z := ((p, l, e, room_1, s, m, #[Value.ref b], below, meth, c), (D, cT, adF, ad, lA s), ((0, h), h))) (Nat.le_refl 129) 1 (sv (x3 + 1).toNatClampNeg).toInt (sv (x3 + 2).toNatClampNeg).toInt h).1 (r, h1) e1
  dsimp only [xfh] at hm1
  refine lv_aload_n X.1 X.2.1 dL_law_880 rfl (lv_at hl 1 rfl) ?_
  refine lv_aload_n X.1 X.2.1 dL_law_881 rfl (lv_at hl 0 rfl) ?_
  refine lv_iload_n X.1 X.2.1 dL_law_882 rfl (lv_at hl 3 rfl) ?_
  refine lv_iconst (v := 1) X.1 X.2.1 dL_law_883 (by decide) ?_
  refine lv_iadd X.1 X.2.1 dL_law_884 ?_
  refine va_sld X.1 X.2.1 hxs hbl hbA hS.2.2.2.2.2.2.1 (hin 1 (by decide) (by decide)) dL_law_885 ?_
  refine lv_aload_n X.1 X.2.1 dL_law_886 rfl (lv_at hl 0 rfl) ?_
  refine lv_iload_n X.1 X.2.1 dL_law_887 rfl (lv_at hl 3 rfl) ?_
  refine lv_iconst (v := 2) X.1 X.2.1 dL_law_888 (by decide) ?_
  refine lv_iadd X.1 X.2.1 dL_law_889 ?_
  refine va_sld X.1 X.2.1 hxs hbl hbA hS.2.2.2.2.2.2.1 (hin 2 (by decide) (by decide)) dL_law_890 ?_
  refine lawX_i (args := [(0, (sv (x3 + 1).toNatClampNeg).toInt), (0, (sv (x3 + 2).toNatClampNeg).toInt)]) (r := r) (h' := h1) (rest := []) X hS hn1 hk1 (fun hp => lawX_run (n := 2) X hS (SF_X0_behind l (Nat.le_refl 129) 1 (sv (x3 + 1).toNatClampNeg).toInt (sv (x3 + 2).toNatClampNeg).toInt h hS.2.2.2.2.2.2.2.1 (okXs.c (okX.r (by omega)) (okXs.c (okX.i (i32_in _)) (okXs.c (okX.i (i32_in _)) okXs.nil))) (r, h1) e1) (lw_V q1288 q1289 q1290 q124 q1291) ⟨rfl, by decide +kernel, by decide +kernel, by decide +kernel⟩ rfl (by decide) (by decide) hl.1 (by simp [cX, I32_of]) (Nat.le_of_ble_eq_true rfl) dL_law_891 ⟨by omega, by omega⟩ hp) ?_
  intro u H1 locs1 hS hu hr
  rw [← hu] at hl
  refine lv_aload_n X.1 X.2.1 dL_law_894 rfl (lv_at hl 2 rfl) ?_
  refine lv_aload_n X.1 X.2.1 dL_law_895 rfl (lv_at hl 0 rfl) ?_
  refine lv_iload_n X.1 X.2.1 dL_law_896 rfl (lv_at hl 3 rfl) ?_
  refine lv_iconst (v := 1) X.1 X.2.1 dL_law_897 (by decide) ?_
  refine lv_iadd X.1 X.2.1 dL_law_898 ?_
  refine va_sld X.1 X.2.1 hxs hbl hbA hS.2.2.2.2.2.2.1 (hin 1 (by decide) (by decide)) dL_law_899 ?_
  refine lv_aload_n X.1 X.2.1 dL_law_900 rfl (lv_at hl 0 rfl) ?_
  refine lv_iload_n X.1 X.2.1 dL_law_901 rfl (lv_at hl 3 rfl) ?_
  refine lv_iconst (v := 2) X.1 X.2.1 dL_law_902 (by decide) ?_
  refine lv_iadd X.1 X.2.1 dL_law_903 ?_
  refine va_sld X.1 X.2.1 hxs hbl hbA hS.2.2.2.2.2.2.1 (hin 2 (by decide) (by decide)) dL_law_904 ?_
  refine lawM_i (args := [(0, (sv (x3 + 1).toNatClampNeg).toInt), (0, (sv (x3 + 2).toNatClampNeg).toInt)]) (n := 2) (rest := [.int (I32 r)]) X hS (WM_behind l (Nat.le_refl 129) (sv (x3 + 1).toNatClampNeg).toInt (sv (x3 + 2).toNatClampNeg).toInt V hS.2.2.2.2.2.2.2.2.1 ((oks.c (okA.i (i32_in _)) (oks.c (okA.i (i32_in _)) oks.nil))) (r, V1) e2) (lw_V q2237 q2238 q2239 q131 q2240) ⟨rfl, by decide +kernel, by decide +kernel, by decide +kernel⟩ rfl (by decide) (by decide) hl.1 (by simp [cA, I32_of]) (Nat.le_of_ble_eq_true rfl) dL_law_905 ⟨by omega, by omega⟩ ?_
  intro H2 locs2 hS hr2
  refine lv_icmp_eq (tgt := 1337) X.1 X.2.1 dL_law_908 (by decide) (fun _ => ?_) (fun hc => absurd rfl hc)
  exact kk h1 V1 u H2 locs2 _ _ hR1 hS hu hl (by omega) (by omega)
theorem lc_24 {p : Program} {l : Launch} {e : Env} {s : State} {m : MethodId} {b : Nat} {below : List Frame} {meth : Method} {c : Code} {D : va_G} {cT : Nat → ClassId} {adF : Int → Nat} {h0 h : XH} {V : VV} {ad : Int → Nat} {aM : Nat → Nat} {a0 : Nat} {H : Heap} {locs : List Loc} {ls : Array Slot} {cells slots : Nat} {Q : State → Prop} {L : Nat} {sv : Nat → Int32} {x3 : Int32} {Rr : XH → VV → Prop} (hst : l.stackTraces = false) (X : LWX p s m b c D cT adF h0) (hS : LWS D cT adF (lA s) s.heap h0 h V ad aM a0 H locs) (hob : 1 ≤ xn h ∧ xk h 1 = 1) (hxs : va_X b L sv s s.heap) (hbl : b < s.heap.size) (hbA : ¬ lA s b) (hin : ∀ j : Int32, 1 ≤ j → j ≤ 5 → vp_in (x3 + j) L)
    (hop : opOK (F_X0_judge 1 (sv (x3 + 1).toNatClampNeg).toInt h) (M_judge (sv (x3 + 1).toNatClampNeg).toInt V) Rr) (hcz : cells = xc h + 35 ∧ slots = xs h + SLM) (hl : lv_has ls 4 [(0, .ref b), (1, .ref (ad 1)), (2, .ref a0), (3, .int x3)])
    (kk : ∀ h1 V1 u H2 locs2 cells2 slots2, Rr h1 V1 → LWS D cT adF (lA s) s.heap h0 h1 V1 u aM a0 H2 locs2 → u 1 = ad 1 → lv_has ls 4 [(0, .ref b), (1, .ref (u 1)), (2, .ref a0), (3, .int x3)] → cells2 = xc h1 + 35 → slots2 = xs h1 + SLM → W p l e room_1 s m #[Value.ref b] below meth c H2 locs2 cells2 slots2 Q (F0 m 1337 ls [])) : W p l e room_1 s m #[Value.ref b] below meth c H locs cells slots Q (F0 m 913 ls []) := by
  have hn1 : 1 ≤ xn h := hob.1
  have hk1 : xk h 1 = 1 := hob.2
  obtain ⟨r, h1, V1, e1, e2, hR1, hc1, hs1⟩ := hop
  obtain ⟨hcz1, hcz2⟩ := hcz
  have hm1 := (WF_X0_judge (Z := ((p, l, e, room_1, s, m, #[Value.ref b], below, meth, c), (D, cT, adF, ad, lA s), ((0, h), h))) (Nat.le_refl 129) 1 (sv (x3 + 1).toNatClampNeg).toInt h).1 (r, h1) e1
  dsimp only [xfh] at hm1
  refine lv_aload_n X.1 X.2.1 dL_law_913 rfl (lv_at hl 1 rfl) ?_
  refine lv_aload_n X.1 X.2.1 dL_law_914 rfl (lv_at hl 0 rfl) ?_
  refine lv_iload_n X.1 X.2.1 dL_law_915 rfl (lv_at hl 3 rfl) ?_
  refine lv_iconst (v := 1) X.1 X.2.1 dL_law_916 (by decide) ?_
  refine lv_iadd X.1 X.2.1 dL_law_917 ?_
  refine va_sld X.1 X.2.1 hxs hbl hbA hS.2.2.2.2.2.2.1 (hin 1 (by decide) (by decide)) dL_law_918 ?_
  refine lawX_i (args := [(0, (sv (x3 + 1).toNatClampNeg).toInt)]) (r := r) (h' := h1) (rest := []) X hS hn1 hk1 (fun hp => lawX_run (n := 1) X hS (SF_X0_judge l (Nat.le_refl 129) 1 (sv (x3 + 1).toNatClampNeg).toInt h hS.2.2.2.2.2.2.2.1 (okXs.c (okX.r (by omega)) (okXs.c (okX.i (i32_in _)) okXs.nil)) (r, h1) e1) (lw_V q1345 q1346 q1347 q124 q1348) ⟨rfl, by decide +kernel, by decide +kernel, by decide +kernel⟩ rfl (by decide) (by decide) hl.1 (by simp [cX, I32_of]) (Nat.le_of_ble_eq_true rfl) dL_law_919 ⟨by omega, by omega⟩ hp) ?_
  intro u H1 locs1 hS hu hr
  rw [← hu] at hl
  refine lv_aload_n X.1 X.2.1 dL_law_922 rfl (lv_at hl 2 rfl) ?_
  refine lv_aload_n X.1 X.2.1 dL_law_923 rfl (lv_at hl 0 rfl) ?_
  refine lv_iload_n X.1 X.2.1 dL_law_924 rfl (lv_at hl 3 rfl) ?_
  refine lv_iconst (v := 1) X.1 X.2.1 dL_law_925 (by decide) ?_
  refine lv_iadd X.1 X.2.1 dL_law_926 ?_
  refine va_sld X.1 X.2.1 hxs hbl hbA hS.2.2.2.2.2.2.1 (hin 1 (by decide) (by decide)) dL_law_927 ?_
  refine lawM_i (args := [(0, (sv (x3 + 1).toNatClampNeg).toInt)]) (n := 1) (rest := [.int (I32 r)]) X hS (WM_judge l (Nat.le_refl 129) (sv (x3 + 1).toNatClampNeg).toInt V hS.2.2.2.2.2.2.2.2.1 ((oks.c (okA.i (i32_in _)) oks.nil)) (r, V1) e2) (lw_V q2253 q2254 q2255 q131 q2256) ⟨rfl, by decide +kernel, by decide +kernel, by decide +kernel⟩ rfl (by decide) (by decide) hl.1 (by simp [cA, I32_of]) (Nat.le_of_ble_eq_true rfl) dL_law_928 ⟨by omega, by omega⟩ ?_
  intro H2 locs2 hS hr2
  refine lv_icmp_eq (tgt := 1337) X.1 X.2.1 dL_law_931 (by decide) (fun _ => ?_) (fun hc => absurd rfl hc)
  exact kk h1 V1 u H2 locs2 _ _ hR1 hS hu hl (by omega) (by omega)
theorem lc_25 {p : Program} {l : Launch} {e : Env} {s : State} {m : MethodId} {b : Nat} {below : List Frame} {meth : Method} {c : Code} {D : va_G} {cT : Nat → ClassId} {adF : Int → Nat} {h0 h : XH} {V : VV} {ad : Int → Nat} {aM : Nat → Nat} {a0 : Nat} {H : Heap} {locs : List Loc} {ls : Array Slot} {cells slots : Nat} {Q : State → Prop} {L : Nat} {sv : Nat → Int32} {x3 : Int32} {Rr : XH → VV → Prop} (hst : l.stackTraces = false) (X : LWX p s m b c D cT adF h0) (hS : LWS D cT adF (lA s) s.heap h0 h V ad aM a0 H locs) (hob : 1 ≤ xn h ∧ xk h 1 = 1) (hxs : va_X b L sv s s.heap) (hbl : b < s.heap.size) (hbA : ¬ lA s b) (hin : ∀ j : Int32, 1 ≤ j → j ≤ 5 → vp_in (x3 + j) L)
    (hop : opOK (F_X0_learn 1 h) (M_learn V) Rr) (hcz : cells = xc h + 35 ∧ slots = xs h + SLM) (hl : lv_has ls 4 [(0, .ref b), (1, .ref (ad 1)), (2, .ref a0), (3, .int x3)])
    (kk : ∀ h1 V1 u H2 locs2 cells2 slots2, Rr h1 V1 → LWS D cT adF (lA s) s.heap h0 h1 V1 u aM a0 H2 locs2 → u 1 = ad 1 → lv_has ls 4 [(0, .ref b), (1, .ref (u 1)), (2, .ref a0), (3, .int x3)] → cells2 = xc h1 + 35 → slots2 = xs h1 + SLM → W p l e room_1 s m #[Value.ref b] below meth c H2 locs2 cells2 slots2 Q (F0 m 1337 ls [])) : W p l e room_1 s m #[Value.ref b] below meth c H locs cells slots Q (F0 m 936 ls []) := by
  have hn1 : 1 ≤ xn h := hob.1
  have hk1 : xk h 1 = 1 := hob.2
  obtain ⟨r, h1, V1, e1, e2, hR1, hc1, hs1⟩ := hop
  obtain ⟨hcz1, hcz2⟩ := hcz
  have hm1 := (WF_X0_learn (Z := ((p, l, e, room_1, s, m, #[Value.ref b], below, meth, c), (D, cT, adF, ad, lA s), ((0, h), h))) (Nat.le_refl 129) 1 h).1 (r, h1) e1
  dsimp only [xfh] at hm1
  refine lv_aload_n X.1 X.2.1 dL_law_936 rfl (lv_at hl 1 rfl) ?_
  refine lawX_i (args := []) (r := r) (h' := h1) (rest := []) X hS hn1 hk1 (fun hp => lawX_run (n := 0) X hS (SF_X0_learn l (Nat.le_refl 129) 1 h hS.2.2.2.2.2.2.2.1 (okXs.c (okX.r (by omega))  okXs.nil) (r, h1) e1) (lw_V q1349 q1350 q1351 q124 q1352) ⟨rfl, by decide +kernel, by decide +kernel, by decide +kernel⟩ rfl (by decide) (by decide) hl.1 (by simp [cX, I32_of]) (Nat.le_of_ble_eq_true rfl) dL_law_937 ⟨by omega, by omega⟩ hp) ?_
  intro u H1 locs1 hS hu hr
  rw [← hu] at hl
  refine lv_aload_n X.1 X.2.1 dL_law_940 rfl (lv_at hl 2 rfl) ?_
  refine lawM_i (args := []) (n := 0) (rest := [.int (I32 r)]) X hS (WM_learn l (Nat.le_refl 129) V hS.2.2.2.2.2.2.2.2.1 oks.nil (r, V1) e2) (lw_V q2257 q2258 q2259 q131 q2260) ⟨rfl, by decide +kernel, by decide +kernel, by decide +kernel⟩ rfl (by decide) (by decide) hl.1 (by simp [cA, I32_of]) (Nat.le_of_ble_eq_true rfl) dL_law_941 ⟨by omega, by omega⟩ ?_
  intro H2 locs2 hS hr2
  refine lv_icmp_eq (tgt := 1337) X.1 X.2.1 dL_law_944 (by decide) (fun _ => ?_) (fun hc => absurd rfl hc)
  exact kk h1 V1 u H2 locs2 _ _ hR1 hS hu hl (by omega) (by omega)
theorem lc_26 {p : Program} {l : Launch} {e : Env} {s : State} {m : MethodId} {b : Nat} {below : List Frame} {meth : Method} {c : Code} {D : va_G} {cT : Nat → ClassId} {adF : Int → Nat} {h0 h : XH} {V : VV} {ad : Int → Nat} {aM : Nat → Nat} {a0 : Nat} {H : Heap} {locs : List Loc} {ls : Array Slot} {cells slots : Nat} {Q : State → Prop} {L : Nat} {sv : Nat → Int32} {x3 : Int32} {Rr : XH → VV → Prop} (hst : l.stackTraces = false) (X : LWX p s m b c D cT adF h0) (hS : LWS D cT adF (lA s) s.heap h0 h V ad aM a0 H locs) (hob : 1 ≤ xn h ∧ xk h 1 = 1) (hxs : va_X b L sv s s.heap) (hbl : b < s.heap.size) (hbA : ¬ lA s b) (hin : ∀ j : Int32, 1 ≤ j → j ≤ 5 → vp_in (x3 + j) L)
    (hop : opOK (F_X0_backward 1 (sv (x3 + 1).toNatClampNeg).toInt (sv (x3 + 2).toNatClampNeg).toInt h) (M_backward (sv (x3 + 1).toNatClampNeg).toInt (sv (x3 + 2).toNatClampNeg).toInt V) Rr) (hcz : cells = xc h + 35 ∧ slots = xs h + SLM) (hl : lv_has ls 4 [(0, .ref b), (1, .ref (ad 1)), (2, .ref a0), (3, .int x3)])
    (kk : ∀ h1 V1 u H2 locs2 cells2 slots2, Rr h1 V1 → LWS D cT adF (lA s) s.heap h0 h1 V1 u aM a0 H2 locs2 → u 1 = ad 1 → lv_has ls 4 [(0, .ref b), (1, .ref (u 1)), (2, .ref a0), (3, .int x3)] → cells2 = xc h1 + 35 → slots2 = xs h1 + SLM → W p l e room_1 s m #[Value.ref b] below meth c H2 locs2 cells2 slots2 Q (F0 m 1337 ls [])) : W p l e room_1 s m #[Value.ref b] below meth c H locs cells slots Q (F0 m 949 ls []) := by
  have hn1 : 1 ≤ xn h := hob.1
  have hk1 : xk h 1 = 1 := hob.2
  obtain ⟨r, h1, V1, e1, e2, hR1, hc1, hs1⟩ := hop
  obtain ⟨hcz1, hcz2⟩ := hcz
  have hm1 := (WF_X0_backward (Z := ((p, l, e, room_1, s, m, #[Value.ref b], below, meth, c), (D, cT, adF, ad, lA s), ((0, h), h))) (Nat.le_refl 133) 1 (sv (x3 + 1).toNatClampNeg).toInt (sv (x3 + 2).toNatClampNeg).toInt h).1 (r, h1) e1
  dsimp only [xfh] at hm1
  refine lv_aload_n X.1 X.2.1 dL_law_949 rfl (lv_at hl 1 rfl) ?_
  refine lv_aload_n X.1 X.2.1 dL_law_950 rfl (lv_at hl 0 rfl) ?_
  refine lv_iload_n X.1 X.2.1 dL_law_951 rfl (lv_at hl 3 rfl) ?_
  refine lv_iconst (v := 1) X.1 X.2.1 dL_law_952 (by decide) ?_
  refine lv_iadd X.1 X.2.1 dL_law_953 ?_
  refine va_sld X.1 X.2.1 hxs hbl hbA hS.2.2.2.2.2.2.1 (hin 1 (by decide) (by decide)) dL_law_954 ?_
  refine lv_aload_n X.1 X.2.1 dL_law_955 rfl (lv_at hl 0 rfl) ?_
  refine lv_iload_n X.1 X.2.1 dL_law_956 rfl (lv_at hl 3 rfl) ?_
  refine lv_iconst (v := 2) X.1 X.2.1 dL_law_957 (by decide) ?_
  refine lv_iadd X.1 X.2.1 dL_law_958 ?_
  refine va_sld X.1 X.2.1 hxs hbl hbA hS.2.2.2.2.2.2.1 (hin 2 (by decide) (by decide)) dL_law_959 ?_
  refine lawX_i (args := [(0, (sv (x3 + 1).toNatClampNeg).toInt), (0, (sv (x3 + 2).toNatClampNeg).toInt)]) (r := r) (h' := h1) (rest := []) X hS hn1 hk1 (fun hp => lawX_run (n := 2) X hS (SF_X0_backward l (Nat.le_refl 133) 1 (sv (x3 + 1).toNatClampNeg).toInt (sv (x3 + 2).toNatClampNeg).toInt h hS.2.2.2.2.2.2.2.1 (okXs.c (okX.r (by omega)) (okXs.c (okX.i (i32_in _)) (okXs.c (okX.i (i32_in _)) okXs.nil))) (r, h1) e1) (lw_V q1353 q1354 q1355 q124 q1356) ⟨rfl, by decide +kernel, by decide +kernel, by decide +kernel⟩ rfl (by decide) (by decide) hl.1 (by simp [cX, I32_of]) (Nat.le_of_ble_eq_true rfl) dL_law_960 ⟨by omega, by omega⟩ hp) ?_
  intro u H1 locs1 hS hu hr
  rw [← hu] at hl
  refine lv_aload_n X.1 X.2.1 dL_law_963 rfl (lv_at hl 2 rfl) ?_
  refine lv_aload_n X.1 X.2.1 dL_law_964 rfl (lv_at hl 0 rfl) ?_
  refine lv_iload_n X.1 X.2.1 dL_law_965 rfl (lv_at hl 3 rfl) ?_
  refine lv_iconst (v := 1) X.1 X.2.1 dL_law_966 (by decide) ?_
  refine lv_iadd X.1 X.2.1 dL_law_967 ?_
  refine va_sld X.1 X.2.1 hxs hbl hbA hS.2.2.2.2.2.2.1 (hin 1 (by decide) (by decide)) dL_law_968 ?_
  refine lv_aload_n X.1 X.2.1 dL_law_969 rfl (lv_at hl 0 rfl) ?_
  refine lv_iload_n X.1 X.2.1 dL_law_970 rfl (lv_at hl 3 rfl) ?_
  refine lv_iconst (v := 2) X.1 X.2.1 dL_law_971 (by decide) ?_
  refine lv_iadd X.1 X.2.1 dL_law_972 ?_
  refine va_sld X.1 X.2.1 hxs hbl hbA hS.2.2.2.2.2.2.1 (hin 2 (by decide) (by decide)) dL_law_973 ?_
  refine lawM_i (args := [(0, (sv (x3 + 1).toNatClampNeg).toInt), (0, (sv (x3 + 2).toNatClampNeg).toInt)]) (n := 2) (rest := [.int (I32 r)]) X hS (WM_backward l (Nat.le_refl 132) (sv (x3 + 1).toNatClampNeg).toInt (sv (x3 + 2).toNatClampNeg).toInt V hS.2.2.2.2.2.2.2.2.1 ((oks.c (okA.i (i32_in _)) (oks.c (okA.i (i32_in _)) oks.nil))) (r, V1) e2) (lw_V q2261 q2262 q2263 q131 q2264) ⟨rfl, by decide +kernel, by decide +kernel, by decide +kernel⟩ rfl (by decide) (by decide) hl.1 (by simp [cA, I32_of]) (Nat.le_of_ble_eq_true rfl) dL_law_974 ⟨by omega, by omega⟩ ?_
  intro H2 locs2 hS hr2
  refine lv_icmp_eq (tgt := 1337) X.1 X.2.1 dL_law_977 (by decide) (fun _ => ?_) (fun hc => absurd rfl hc)
  exact kk h1 V1 u H2 locs2 _ _ hR1 hS hu hl (by omega) (by omega)
theorem lc_27 {p : Program} {l : Launch} {e : Env} {s : State} {m : MethodId} {b : Nat} {below : List Frame} {meth : Method} {c : Code} {D : va_G} {cT : Nat → ClassId} {adF : Int → Nat} {h0 h : XH} {V : VV} {ad : Int → Nat} {aM : Nat → Nat} {a0 : Nat} {H : Heap} {locs : List Loc} {ls : Array Slot} {cells slots : Nat} {Q : State → Prop} {L : Nat} {sv : Nat → Int32} {x3 : Int32} {Rr : XH → VV → Prop} (hst : l.stackTraces = false) (X : LWX p s m b c D cT adF h0) (hS : LWS D cT adF (lA s) s.heap h0 h V ad aM a0 H locs) (hob : 1 ≤ xn h ∧ xk h 1 = 1) (hxs : va_X b L sv s s.heap) (hbl : b < s.heap.size) (hbA : ¬ lA s b) (hin : ∀ j : Int32, 1 ≤ j → j ≤ 5 → vp_in (x3 + j) L)
    (hop : opOK (F_X0_friend 1 (sv (x3 + 1).toNatClampNeg).toInt (sv (x3 + 2).toNatClampNeg).toInt h) (M_friend (sv (x3 + 1).toNatClampNeg).toInt (sv (x3 + 2).toNatClampNeg).toInt V) Rr) (hcz : cells = xc h + 35 ∧ slots = xs h + SLM) (hl : lv_has ls 4 [(0, .ref b), (1, .ref (ad 1)), (2, .ref a0), (3, .int x3)])
    (kk : ∀ h1 V1 u H2 locs2 cells2 slots2, Rr h1 V1 → LWS D cT adF (lA s) s.heap h0 h1 V1 u aM a0 H2 locs2 → u 1 = ad 1 → lv_has ls 4 [(0, .ref b), (1, .ref (u 1)), (2, .ref a0), (3, .int x3)] → cells2 = xc h1 + 35 → slots2 = xs h1 + SLM → W p l e room_1 s m #[Value.ref b] below meth c H2 locs2 cells2 slots2 Q (F0 m 1337 ls [])) : W p l e room_1 s m #[Value.ref b] below meth c H locs cells slots Q (F0 m 982 ls []) := by
  have hn1 : 1 ≤ xn h := hob.1
  have hk1 : xk h 1 = 1 := hob.2
  obtain ⟨r, h1, V1, e1, e2, hR1, hc1, hs1⟩ := hop
  obtain ⟨hcz1, hcz2⟩ := hcz
  have hm1 := (WF_X0_friend (Z := ((p, l, e, room_1, s, m, #[Value.ref b], below, meth, c), (D, cT, adF, ad, lA s), ((0, h), h))) (Nat.le_refl 2) 1 (sv (x3 + 1).toNatClampNeg).toInt (sv (x3 + 2).toNatClampNeg).toInt h).1 (r, h1) e1
  dsimp only [xfh] at hm1
  refine lv_aload_n X.1 X.2.1 dL_law_982 rfl (lv_at hl 1 rfl) ?_
  refine lv_aload_n X.1 X.2.1 dL_law_983 rfl (lv_at hl 0 rfl) ?_
  refine lv_iload_n X.1 X.2.1 dL_law_984 rfl (lv_at hl 3 rfl) ?_
  refine lv_iconst (v := 1) X.1 X.2.1 dL_law_985 (by decide) ?_
  refine lv_iadd X.1 X.2.1 dL_law_986 ?_
  refine va_sld X.1 X.2.1 hxs hbl hbA hS.2.2.2.2.2.2.1 (hin 1 (by decide) (by decide)) dL_law_987 ?_
  refine lv_aload_n X.1 X.2.1 dL_law_988 rfl (lv_at hl 0 rfl) ?_
  refine lv_iload_n X.1 X.2.1 dL_law_989 rfl (lv_at hl 3 rfl) ?_
  refine lv_iconst (v := 2) X.1 X.2.1 dL_law_990 (by decide) ?_
  refine lv_iadd X.1 X.2.1 dL_law_991 ?_
  refine va_sld X.1 X.2.1 hxs hbl hbA hS.2.2.2.2.2.2.1 (hin 2 (by decide) (by decide)) dL_law_992 ?_
  refine lawX_i (args := [(0, (sv (x3 + 1).toNatClampNeg).toInt), (0, (sv (x3 + 2).toNatClampNeg).toInt)]) (r := r) (h' := h1) (rest := []) X hS hn1 hk1 (fun hp => lawX_run (n := 2) X hS (SF_X0_friend l (Nat.le_refl 2) 1 (sv (x3 + 1).toNatClampNeg).toInt (sv (x3 + 2).toNatClampNeg).toInt h hS.2.2.2.2.2.2.2.1 (okXs.c (okX.r (by omega)) (okXs.c (okX.i (i32_in _)) (okXs.c (okX.i (i32_in _)) okXs.nil))) (r, h1) e1) (lw_V q1385 q1386 q1387 q124 q1388) ⟨rfl, by decide +kernel, by decide +kernel, by decide +kernel⟩ rfl (by decide) (by decide) hl.1 (by simp [cX, I32_of]) (Nat.le_of_ble_eq_true rfl) dL_law_993 ⟨by omega, by omega⟩ hp) ?_
  intro u H1 locs1 hS hu hr
  rw [← hu] at hl
  refine lv_aload_n X.1 X.2.1 dL_law_996 rfl (lv_at hl 2 rfl) ?_
  refine lv_aload_n X.1 X.2.1 dL_law_997 rfl (lv_at hl 0 rfl) ?_
  refine lv_iload_n X.1 X.2.1 dL_law_998 rfl (lv_at hl 3 rfl) ?_
  refine lv_iconst (v := 1) X.1 X.2.1 dL_law_999 (by decide) ?_
  refine lv_iadd X.1 X.2.1 dL_law_1000 ?_
  refine va_sld X.1 X.2.1 hxs hbl hbA hS.2.2.2.2.2.2.1 (hin 1 (by decide) (by decide)) dL_law_1001 ?_
  refine lv_aload_n X.1 X.2.1 dL_law_1002 rfl (lv_at hl 0 rfl) ?_
  refine lv_iload_n X.1 X.2.1 dL_law_1003 rfl (lv_at hl 3 rfl) ?_
  refine lv_iconst (v := 2) X.1 X.2.1 dL_law_1004 (by decide) ?_
  refine lv_iadd X.1 X.2.1 dL_law_1005 ?_
  refine va_sld X.1 X.2.1 hxs hbl hbA hS.2.2.2.2.2.2.1 (hin 2 (by decide) (by decide)) dL_law_1006 ?_
  refine lawM_i (args := [(0, (sv (x3 + 1).toNatClampNeg).toInt), (0, (sv (x3 + 2).toNatClampNeg).toInt)]) (n := 2) (rest := [.int (I32 r)]) X hS (WM_friend l (Nat.le_refl 3) (sv (x3 + 1).toNatClampNeg).toInt (sv (x3 + 2).toNatClampNeg).toInt V hS.2.2.2.2.2.2.2.2.1 ((oks.c (okA.i (i32_in _)) (oks.c (okA.i (i32_in _)) oks.nil))) (r, V1) e2) (lw_V q2273 q2274 q2275 q131 q2276) ⟨rfl, by decide +kernel, by decide +kernel, by decide +kernel⟩ rfl (by decide) (by decide) hl.1 (by simp [cA, I32_of]) (Nat.le_of_ble_eq_true rfl) dL_law_1007 ⟨by omega, by omega⟩ ?_
  intro H2 locs2 hS hr2
  refine lv_icmp_eq (tgt := 1337) X.1 X.2.1 dL_law_1010 (by decide) (fun _ => ?_) (fun hc => absurd rfl hc)
  exact kk h1 V1 u H2 locs2 _ _ hR1 hS hu hl (by omega) (by omega)
theorem lc_28 {p : Program} {l : Launch} {e : Env} {s : State} {m : MethodId} {b : Nat} {below : List Frame} {meth : Method} {c : Code} {D : va_G} {cT : Nat → ClassId} {adF : Int → Nat} {h0 h : XH} {V : VV} {ad : Int → Nat} {aM : Nat → Nat} {a0 : Nat} {H : Heap} {locs : List Loc} {ls : Array Slot} {cells slots : Nat} {Q : State → Prop} {L : Nat} {sv : Nat → Int32} {x3 : Int32} {Rr : XH → VV → Prop} (hst : l.stackTraces = false) (X : LWX p s m b c D cT adF h0) (hS : LWS D cT adF (lA s) s.heap h0 h V ad aM a0 H locs) (hob : 1 ≤ xn h ∧ xk h 1 = 1) (hxs : va_X b L sv s s.heap) (hbl : b < s.heap.size) (hbA : ¬ lA s b) (hin : ∀ j : Int32, 1 ≤ j → j ≤ 5 → vp_in (x3 + j) L)
    (hop : opOK (F_X0_share 1 (sv (x3 + 1).toNatClampNeg).toInt h) (M_share (sv (x3 + 1).toNatClampNeg).toInt V) Rr) (hcz : cells = xc h + 35 ∧ slots = xs h + SLM) (hl : lv_has ls 4 [(0, .ref b), (1, .ref (ad 1)), (2, .ref a0), (3, .int x3)])
    (kk : ∀ h1 V1 u H2 locs2 cells2 slots2, Rr h1 V1 → LWS D cT adF (lA s) s.heap h0 h1 V1 u aM a0 H2 locs2 → u 1 = ad 1 → lv_has ls 4 [(0, .ref b), (1, .ref (u 1)), (2, .ref a0), (3, .int x3)] → cells2 = xc h1 + 35 → slots2 = xs h1 + SLM → W p l e room_1 s m #[Value.ref b] below meth c H2 locs2 cells2 slots2 Q (F0 m 1337 ls [])) : W p l e room_1 s m #[Value.ref b] below meth c H locs cells slots Q (F0 m 1015 ls []) := by
  have hn1 : 1 ≤ xn h := hob.1
  have hk1 : xk h 1 = 1 := hob.2
  obtain ⟨r, h1, V1, e1, e2, hR1, hc1, hs1⟩ := hop
  obtain ⟨hcz1, hcz2⟩ := hcz
  have hm1 := (WF_X0_share (Z := ((p, l, e, room_1, s, m, #[Value.ref b], below, meth, c), (D, cT, adF, ad, lA s), ((0, h), h))) (Nat.le_refl 128) 1 (sv (x3 + 1).toNatClampNeg).toInt h).1 (r, h1) e1
  dsimp only [xfh] at hm1
  refine lv_aload_n X.1 X.2.1 dL_law_1015 rfl (lv_at hl 1 rfl) ?_
  refine lv_aload_n X.1 X.2.1 dL_law_1016 rfl (lv_at hl 0 rfl) ?_
  refine lv_iload_n X.1 X.2.1 dL_law_1017 rfl (lv_at hl 3 rfl) ?_
  refine lv_iconst (v := 1) X.1 X.2.1 dL_law_1018 (by decide) ?_
  refine lv_iadd X.1 X.2.1 dL_law_1019 ?_
  refine va_sld X.1 X.2.1 hxs hbl hbA hS.2.2.2.2.2.2.1 (hin 1 (by decide) (by decide)) dL_law_1020 ?_
  refine lawX_i (args := [(0, (sv (x3 + 1).toNatClampNeg).toInt)]) (r := r) (h' := h1) (rest := []) X hS hn1 hk1 (fun hp => lawX_run (n := 1) X hS (SF_X0_share l (Nat.le_refl 128) 1 (sv (x3 + 1).toNatClampNeg).toInt h hS.2.2.2.2.2.2.2.1 (okXs.c (okX.r (by omega)) (okXs.c (okX.i (i32_in _)) okXs.nil)) (r, h1) e1) (lw_V q1389 q1390 q1391 q124 q1392) ⟨rfl, by decide +kernel, by decide +kernel, by decide +kernel⟩ rfl (by decide) (by decide) hl.1 (by simp [cX, I32_of]) (Nat.le_of_ble_eq_true rfl) dL_law_1021 ⟨by omega, by omega⟩ hp) ?_
  intro u H1 locs1 hS hu hr
  rw [← hu] at hl
  refine lv_aload_n X.1 X.2.1 dL_law_1024 rfl (lv_at hl 2 rfl) ?_
  refine lv_aload_n X.1 X.2.1 dL_law_1025 rfl (lv_at hl 0 rfl) ?_
  refine lv_iload_n X.1 X.2.1 dL_law_1026 rfl (lv_at hl 3 rfl) ?_
  refine lv_iconst (v := 1) X.1 X.2.1 dL_law_1027 (by decide) ?_
  refine lv_iadd X.1 X.2.1 dL_law_1028 ?_
  refine va_sld X.1 X.2.1 hxs hbl hbA hS.2.2.2.2.2.2.1 (hin 1 (by decide) (by decide)) dL_law_1029 ?_
  refine lawM_i (args := [(0, (sv (x3 + 1).toNatClampNeg).toInt)]) (n := 1) (rest := [.int (I32 r)]) X hS (WM_share l (Nat.le_refl 127) (sv (x3 + 1).toNatClampNeg).toInt V hS.2.2.2.2.2.2.2.2.1 ((oks.c (okA.i (i32_in _)) oks.nil)) (r, V1) e2) (lw_V q2277 q2278 q2279 q131 q2280) ⟨rfl, by decide +kernel, by decide +kernel, by decide +kernel⟩ rfl (by decide) (by decide) hl.1 (by simp [cA, I32_of]) (Nat.le_of_ble_eq_true rfl) dL_law_1030 ⟨by omega, by omega⟩ ?_
  intro H2 locs2 hS hr2
  refine lv_icmp_eq (tgt := 1337) X.1 X.2.1 dL_law_1033 (by decide) (fun _ => ?_) (fun hc => absurd rfl hc)
  exact kk h1 V1 u H2 locs2 _ _ hR1 hS hu hl (by omega) (by omega)
theorem lc_29 {p : Program} {l : Launch} {e : Env} {s : State} {m : MethodId} {b : Nat} {below : List Frame} {meth : Method} {c : Code} {D : va_G} {cT : Nat → ClassId} {adF : Int → Nat} {h0 h : XH} {V : VV} {ad : Int → Nat} {aM : Nat → Nat} {a0 : Nat} {H : Heap} {locs : List Loc} {ls : Array Slot} {cells slots : Nat} {Q : State → Prop} {L : Nat} {sv : Nat → Int32} {x3 : Int32} {Rr : XH → VV → Prop} (hst : l.stackTraces = false) (X : LWX p s m b c D cT adF h0) (hS : LWS D cT adF (lA s) s.heap h0 h V ad aM a0 H locs) (hob : 1 ≤ xn h ∧ xk h 1 = 1) (hxs : va_X b L sv s s.heap) (hbl : b < s.heap.size) (hbA : ¬ lA s b) (hin : ∀ j : Int32, 1 ≤ j → j ≤ 5 → vp_in (x3 + j) L)
    (hop : opOK (F_X0_ill 1 (sv (x3 + 1).toNatClampNeg).toInt (sv (x3 + 2).toNatClampNeg).toInt h) (M_ill (sv (x3 + 1).toNatClampNeg).toInt (sv (x3 + 2).toNatClampNeg).toInt V) Rr) (hcz : cells = xc h + 35 ∧ slots = xs h + SLM) (hl : lv_has ls 4 [(0, .ref b), (1, .ref (ad 1)), (2, .ref a0), (3, .int x3)])
    (kk : ∀ h1 V1 u H2 locs2 cells2 slots2, Rr h1 V1 → LWS D cT adF (lA s) s.heap h0 h1 V1 u aM a0 H2 locs2 → u 1 = ad 1 → lv_has ls 4 [(0, .ref b), (1, .ref (u 1)), (2, .ref a0), (3, .int x3)] → cells2 = xc h1 + 35 → slots2 = xs h1 + SLM → W p l e room_1 s m #[Value.ref b] below meth c H2 locs2 cells2 slots2 Q (F0 m 1337 ls [])) : W p l e room_1 s m #[Value.ref b] below meth c H locs cells slots Q (F0 m 1038 ls []) := by
  have hn1 : 1 ≤ xn h := hob.1
  have hk1 : xk h 1 = 1 := hob.2
  obtain ⟨r, h1, V1, e1, e2, hR1, hc1, hs1⟩ := hop
  obtain ⟨hcz1, hcz2⟩ := hcz
  have hm1 := (WF_X0_ill (Z := ((p, l, e, room_1, s, m, #[Value.ref b], below, meth, c), (D, cT, adF, ad, lA s), ((0, h), h))) (Nat.le_refl 132) 1 (sv (x3 + 1).toNatClampNeg).toInt (sv (x3 + 2).toNatClampNeg).toInt h).1 (r, h1) e1
  dsimp only [xfh] at hm1
  refine lv_aload_n X.1 X.2.1 dL_law_1038 rfl (lv_at hl 1 rfl) ?_
  refine lv_aload_n X.1 X.2.1 dL_law_1039 rfl (lv_at hl 0 rfl) ?_
  refine lv_iload_n X.1 X.2.1 dL_law_1040 rfl (lv_at hl 3 rfl) ?_
  refine lv_iconst (v := 1) X.1 X.2.1 dL_law_1041 (by decide) ?_
  refine lv_iadd X.1 X.2.1 dL_law_1042 ?_
  refine va_sld X.1 X.2.1 hxs hbl hbA hS.2.2.2.2.2.2.1 (hin 1 (by decide) (by decide)) dL_law_1043 ?_
  refine lv_aload_n X.1 X.2.1 dL_law_1044 rfl (lv_at hl 0 rfl) ?_
  refine lv_iload_n X.1 X.2.1 dL_law_1045 rfl (lv_at hl 3 rfl) ?_
  refine lv_iconst (v := 2) X.1 X.2.1 dL_law_1046 (by decide) ?_
  refine lv_iadd X.1 X.2.1 dL_law_1047 ?_
  refine va_sld X.1 X.2.1 hxs hbl hbA hS.2.2.2.2.2.2.1 (hin 2 (by decide) (by decide)) dL_law_1048 ?_
  refine lawX_i (args := [(0, (sv (x3 + 1).toNatClampNeg).toInt), (0, (sv (x3 + 2).toNatClampNeg).toInt)]) (r := r) (h' := h1) (rest := []) X hS hn1 hk1 (fun hp => lawX_run (n := 2) X hS (SF_X0_ill l (Nat.le_refl 132) 1 (sv (x3 + 1).toNatClampNeg).toInt (sv (x3 + 2).toNatClampNeg).toInt h hS.2.2.2.2.2.2.2.1 (okXs.c (okX.r (by omega)) (okXs.c (okX.i (i32_in _)) (okXs.c (okX.i (i32_in _)) okXs.nil))) (r, h1) e1) (lw_V q1442 q1443 q1444 q124 q1445) ⟨rfl, by decide +kernel, by decide +kernel, by decide +kernel⟩ rfl (by decide) (by decide) hl.1 (by simp [cX, I32_of]) (Nat.le_of_ble_eq_true rfl) dL_law_1049 ⟨by omega, by omega⟩ hp) ?_
  intro u H1 locs1 hS hu hr
  rw [← hu] at hl
  refine lv_aload_n X.1 X.2.1 dL_law_1052 rfl (lv_at hl 2 rfl) ?_
  refine lv_aload_n X.1 X.2.1 dL_law_1053 rfl (lv_at hl 0 rfl) ?_
  refine lv_iload_n X.1 X.2.1 dL_law_1054 rfl (lv_at hl 3 rfl) ?_
  refine lv_iconst (v := 1) X.1 X.2.1 dL_law_1055 (by decide) ?_
  refine lv_iadd X.1 X.2.1 dL_law_1056 ?_
  refine va_sld X.1 X.2.1 hxs hbl hbA hS.2.2.2.2.2.2.1 (hin 1 (by decide) (by decide)) dL_law_1057 ?_
  refine lv_aload_n X.1 X.2.1 dL_law_1058 rfl (lv_at hl 0 rfl) ?_
  refine lv_iload_n X.1 X.2.1 dL_law_1059 rfl (lv_at hl 3 rfl) ?_
  refine lv_iconst (v := 2) X.1 X.2.1 dL_law_1060 (by decide) ?_
  refine lv_iadd X.1 X.2.1 dL_law_1061 ?_
  refine va_sld X.1 X.2.1 hxs hbl hbA hS.2.2.2.2.2.2.1 (hin 2 (by decide) (by decide)) dL_law_1062 ?_
  refine lawM_i (args := [(0, (sv (x3 + 1).toNatClampNeg).toInt), (0, (sv (x3 + 2).toNatClampNeg).toInt)]) (n := 2) (rest := [.int (I32 r)]) X hS (WM_ill l (Nat.le_refl 130) (sv (x3 + 1).toNatClampNeg).toInt (sv (x3 + 2).toNatClampNeg).toInt V hS.2.2.2.2.2.2.2.2.1 ((oks.c (okA.i (i32_in _)) (oks.c (okA.i (i32_in _)) oks.nil))) (r, V1) e2) (lw_V q2285 q2286 q2287 q131 q2288) ⟨rfl, by decide +kernel, by decide +kernel, by decide +kernel⟩ rfl (by decide) (by decide) hl.1 (by simp [cA, I32_of]) (Nat.le_of_ble_eq_true rfl) dL_law_1063 ⟨by omega, by omega⟩ ?_
  intro H2 locs2 hS hr2
  refine lv_icmp_eq (tgt := 1337) X.1 X.2.1 dL_law_1066 (by decide) (fun _ => ?_) (fun hc => absurd rfl hc)
  exact kk h1 V1 u H2 locs2 _ _ hR1 hS hu hl (by omega) (by omega)
theorem lc_30 {p : Program} {l : Launch} {e : Env} {s : State} {m : MethodId} {b : Nat} {below : List Frame} {meth : Method} {c : Code} {D : va_G} {cT : Nat → ClassId} {adF : Int → Nat} {h0 h : XH} {V : VV} {ad : Int → Nat} {aM : Nat → Nat} {a0 : Nat} {H : Heap} {locs : List Loc} {ls : Array Slot} {cells slots : Nat} {Q : State → Prop} {L : Nat} {sv : Nat → Int32} {x3 : Int32} {Rr : XH → VV → Prop} (hst : l.stackTraces = false) (X : LWX p s m b c D cT adF h0) (hS : LWS D cT adF (lA s) s.heap h0 h V ad aM a0 H locs) (hob : 1 ≤ xn h ∧ xk h 1 = 1) (hxs : va_X b L sv s s.heap) (hbl : b < s.heap.size) (hbA : ¬ lA s b) (hin : ∀ j : Int32, 1 ≤ j → j ≤ 5 → vp_in (x3 + j) L)
    (hop : opOK (F_X0_year 1 (sv (x3 + 1).toNatClampNeg).toInt h) (M_year (sv (x3 + 1).toNatClampNeg).toInt V) Rr) (hcz : cells = xc h + 35 ∧ slots = xs h + SLM) (hl : lv_has ls 4 [(0, .ref b), (1, .ref (ad 1)), (2, .ref a0), (3, .int x3)])
    (kk : ∀ h1 V1 u H2 locs2 cells2 slots2, Rr h1 V1 → LWS D cT adF (lA s) s.heap h0 h1 V1 u aM a0 H2 locs2 → u 1 = ad 1 → lv_has ls 4 [(0, .ref b), (1, .ref (u 1)), (2, .ref a0), (3, .int x3)] → cells2 = xc h1 + 35 → slots2 = xs h1 + SLM → W p l e room_1 s m #[Value.ref b] below meth c H2 locs2 cells2 slots2 Q (F0 m 1337 ls [])) : W p l e room_1 s m #[Value.ref b] below meth c H locs cells slots Q (F0 m 1071 ls []) := by
  have hn1 : 1 ≤ xn h := hob.1
  have hk1 : xk h 1 = 1 := hob.2
  obtain ⟨r, h1, V1, e1, e2, hR1, hc1, hs1⟩ := hop
  obtain ⟨hcz1, hcz2⟩ := hcz
  have hm1 := (WF_X0_year (Z := ((p, l, e, room_1, s, m, #[Value.ref b], below, meth, c), (D, cT, adF, ad, lA s), ((0, h), h))) (Nat.le_refl 4) 1 (sv (x3 + 1).toNatClampNeg).toInt h).1 (r, h1) e1
  dsimp only [xfh] at hm1
  refine lv_aload_n X.1 X.2.1 dL_law_1071 rfl (lv_at hl 1 rfl) ?_
  refine lv_aload_n X.1 X.2.1 dL_law_1072 rfl (lv_at hl 0 rfl) ?_
  refine lv_iload_n X.1 X.2.1 dL_law_1073 rfl (lv_at hl 3 rfl) ?_
  refine lv_iconst (v := 1) X.1 X.2.1 dL_law_1074 (by decide) ?_
  refine lv_iadd X.1 X.2.1 dL_law_1075 ?_
  refine va_sld X.1 X.2.1 hxs hbl hbA hS.2.2.2.2.2.2.1 (hin 1 (by decide) (by decide)) dL_law_1076 ?_
  refine lawX_i (args := [(0, (sv (x3 + 1).toNatClampNeg).toInt)]) (r := r) (h' := h1) (rest := []) X hS hn1 hk1 (fun hp => lawX_run (n := 1) X hS (SF_X0_year l (Nat.le_refl 4) 1 (sv (x3 + 1).toNatClampNeg).toInt h hS.2.2.2.2.2.2.2.1 (okXs.c (okX.r (by omega)) (okXs.c (okX.i (i32_in _)) okXs.nil)) (r, h1) e1) (lw_V q1447 q1448 q1449 q124 q1450) ⟨rfl, by decide +kernel, by decide +kernel, by decide +kernel⟩ rfl (by decide) (by decide) hl.1 (by simp [cX, I32_of]) (Nat.le_of_ble_eq_true rfl) dL_law_1077 ⟨by omega, by omega⟩ hp) ?_
  intro u H1 locs1 hS hu hr
  rw [← hu] at hl
  refine lv_aload_n X.1 X.2.1 dL_law_1080 rfl (lv_at hl 2 rfl) ?_
  refine lv_aload_n X.1 X.2.1 dL_law_1081 rfl (lv_at hl 0 rfl) ?_
  refine lv_iload_n X.1 X.2.1 dL_law_1082 rfl (lv_at hl 3 rfl) ?_
  refine lv_iconst (v := 1) X.1 X.2.1 dL_law_1083 (by decide) ?_
  refine lv_iadd X.1 X.2.1 dL_law_1084 ?_
  refine va_sld X.1 X.2.1 hxs hbl hbA hS.2.2.2.2.2.2.1 (hin 1 (by decide) (by decide)) dL_law_1085 ?_
  refine lawM_i (args := [(0, (sv (x3 + 1).toNatClampNeg).toInt)]) (n := 1) (rest := [.int (I32 r)]) X hS (WM_year l (Nat.le_refl 2) (sv (x3 + 1).toNatClampNeg).toInt V hS.2.2.2.2.2.2.2.2.1 ((oks.c (okA.i (i32_in _)) oks.nil)) (r, V1) e2) (lw_V q2289 q2290 q2291 q131 q2292) ⟨rfl, by decide +kernel, by decide +kernel, by decide +kernel⟩ rfl (by decide) (by decide) hl.1 (by simp [cA, I32_of]) (Nat.le_of_ble_eq_true rfl) dL_law_1086 ⟨by omega, by omega⟩ ?_
  intro H2 locs2 hS hr2
  refine lv_icmp_eq (tgt := 1337) X.1 X.2.1 dL_law_1089 (by decide) (fun _ => ?_) (fun hc => absurd rfl hc)
  exact kk h1 V1 u H2 locs2 _ _ hR1 hS hu hl (by omega) (by omega)
theorem lc_31 {p : Program} {l : Launch} {e : Env} {s : State} {m : MethodId} {b : Nat} {below : List Frame} {meth : Method} {c : Code} {D : va_G} {cT : Nat → ClassId} {adF : Int → Nat} {h0 h : XH} {V : VV} {ad : Int → Nat} {aM : Nat → Nat} {a0 : Nat} {H : Heap} {locs : List Loc} {ls : Array Slot} {cells slots : Nat} {Q : State → Prop} {L : Nat} {sv : Nat → Int32} {x3 : Int32} {Rr : XH → VV → Prop} (hst : l.stackTraces = false) (X : LWX p s m b c D cT adF h0) (hS : LWS D cT adF (lA s) s.heap h0 h V ad aM a0 H locs) (hob : 1 ≤ xn h ∧ xk h 1 = 1) (hxs : va_X b L sv s s.heap) (hbl : b < s.heap.size) (hbA : ¬ lA s b) (hin : ∀ j : Int32, 1 ≤ j → j ≤ 5 → vp_in (x3 + j) L)
    (hop : opOK (F_X0_row 1 h) (M_row V) Rr) (hcz : cells = xc h + 35 ∧ slots = xs h + SLM) (hl : lv_has ls 4 [(0, .ref b), (1, .ref (ad 1)), (2, .ref a0), (3, .int x3)])
    (kk : ∀ h1 V1 u H2 locs2 cells2 slots2, Rr h1 V1 → LWS D cT adF (lA s) s.heap h0 h1 V1 u aM a0 H2 locs2 → u 1 = ad 1 → lv_has ls 4 [(0, .ref b), (1, .ref (u 1)), (2, .ref a0), (3, .int x3)] → cells2 = xc h1 + 35 → slots2 = xs h1 + SLM → W p l e room_1 s m #[Value.ref b] below meth c H2 locs2 cells2 slots2 Q (F0 m 1337 ls [])) : W p l e room_1 s m #[Value.ref b] below meth c H locs cells slots Q (F0 m 1094 ls []) := by
  have hn1 : 1 ≤ xn h := hob.1
  have hk1 : xk h 1 = 1 := hob.2
  obtain ⟨r, h1, V1, e1, e2, hR1, hc1, hs1⟩ := hop
  obtain ⟨hcz1, hcz2⟩ := hcz
  have hm1 := (WF_X0_row (Z := ((p, l, e, room_1, s, m, #[Value.ref b], below, meth, c), (D, cT, adF, ad, lA s), ((0, h), h))) (Nat.le_refl 171) 1 h).1 (r, h1) e1
  dsimp only [xfh] at hm1
  refine lv_aload_n X.1 X.2.1 dL_law_1094 rfl (lv_at hl 1 rfl) ?_
  refine lawX_i (args := []) (r := r) (h' := h1) (rest := []) X hS hn1 hk1 (fun hp => lawX_runW (n := 0) X hS (SF_X0_row l (Nat.le_refl 171) 1 h hS.2.2.2.2.2.2.2.1 (okXs.c (okX.r (by omega))  okXs.nil) hst (r, h1) e1) (lw_VW q1455 q1456 q1457 q124 q1458) ⟨rfl, by decide +kernel, by decide +kernel, by decide +kernel⟩ rfl (by decide) (by decide) hl.1 (by simp [cX, I32_of]) (Nat.le_of_ble_eq_true rfl) dL_law_1095 ⟨by omega, by omega⟩ hp) ?_
  intro u H1 locs1 hS hu hr
  rw [← hu] at hl
  refine lv_aload_n X.1 X.2.1 dL_law_1098 rfl (lv_at hl 2 rfl) ?_
  refine lawM_i (args := []) (n := 0) (rest := [.int (I32 r)]) X hS (WM_row l (Nat.le_refl 2) V hS.2.2.2.2.2.2.2.2.1 oks.nil (r, V1) e2) (lw_V q2293 q2294 q2295 q131 q2296) ⟨rfl, by decide +kernel, by decide +kernel, by decide +kernel⟩ rfl (by decide) (by decide) hl.1 (by simp [cA, I32_of]) (Nat.le_of_ble_eq_true rfl) dL_law_1099 ⟨by omega, by omega⟩ ?_
  intro H2 locs2 hS hr2
  refine lv_icmp_eq (tgt := 1337) X.1 X.2.1 dL_law_1102 (by decide) (fun _ => ?_) (fun hc => absurd rfl hc)
  exact kk h1 V1 u H2 locs2 _ _ hR1 hS hu hl (by omega) (by omega)
theorem lc_32 {p : Program} {l : Launch} {e : Env} {s : State} {m : MethodId} {b : Nat} {below : List Frame} {meth : Method} {c : Code} {D : va_G} {cT : Nat → ClassId} {adF : Int → Nat} {h0 h : XH} {V : VV} {ad : Int → Nat} {aM : Nat → Nat} {a0 : Nat} {H : Heap} {locs : List Loc} {ls : Array Slot} {cells slots : Nat} {Q : State → Prop} {L : Nat} {sv : Nat → Int32} {x3 : Int32} {Rr : XH → VV → Prop} (hst : l.stackTraces = false) (X : LWX p s m b c D cT adF h0) (hS : LWS D cT adF (lA s) s.heap h0 h V ad aM a0 H locs) (hob : 1 ≤ xn h ∧ xk h 1 = 1) (hxs : va_X b L sv s s.heap) (hbl : b < s.heap.size) (hbA : ¬ lA s b) (hin : ∀ j : Int32, 1 ≤ j → j ≤ 5 → vp_in (x3 + j) L)
    (hop : opOK (F_X0_lost 1 h) (M_lost V) Rr) (hcz : cells = xc h + 35 ∧ slots = xs h + SLM) (hl : lv_has ls 4 [(0, .ref b), (1, .ref (ad 1)), (2, .ref a0), (3, .int x3)])
    (kk : ∀ h1 V1 u H2 locs2 cells2 slots2, Rr h1 V1 → LWS D cT adF (lA s) s.heap h0 h1 V1 u aM a0 H2 locs2 → u 1 = ad 1 → lv_has ls 4 [(0, .ref b), (1, .ref (u 1)), (2, .ref a0), (3, .int x3)] → cells2 = xc h1 + 35 → slots2 = xs h1 + SLM → W p l e room_1 s m #[Value.ref b] below meth c H2 locs2 cells2 slots2 Q (F0 m 1337 ls [])) : W p l e room_1 s m #[Value.ref b] below meth c H locs cells slots Q (F0 m 1107 ls []) := by
  have hn1 : 1 ≤ xn h := hob.1
  have hk1 : xk h 1 = 1 := hob.2
  obtain ⟨r, h1, V1, e1, e2, hR1, hc1, hs1⟩ := hop
  obtain ⟨hcz1, hcz2⟩ := hcz
  have hm1 := (WF_X0_lost (Z := ((p, l, e, room_1, s, m, #[Value.ref b], below, meth, c), (D, cT, adF, ad, lA s), ((0, h), h))) (Nat.le_refl 1) 1 h).1 (r, h1) e1
  dsimp only [xfh] at hm1
  refine lv_aload_n X.1 X.2.1 dL_law_1107 rfl (lv_at hl 1 rfl) ?_
  refine lawX_i (args := []) (r := r) (h' := h1) (rest := []) X hS hn1 hk1 (fun hp => lawX_run (n := 0) X hS (SF_X0_lost l (Nat.le_refl 1) 1 h hS.2.2.2.2.2.2.2.1 (okXs.c (okX.r (by omega))  okXs.nil) (r, h1) e1) (lw_V q1497 q1498 q1499 q124 q1500) ⟨rfl, by decide +kernel, by decide +kernel, by decide +kernel⟩ rfl (by decide) (by decide) hl.1 (by simp [cX, I32_of]) (Nat.le_of_ble_eq_true rfl) dL_law_1108 ⟨by omega, by omega⟩ hp) ?_
  intro u H1 locs1 hS hu hr
  rw [← hu] at hl
  refine lv_aload_n X.1 X.2.1 dL_law_1111 rfl (lv_at hl 2 rfl) ?_
  refine lawM_i (args := []) (n := 0) (rest := [.int (I32 r)]) X hS (WM_lost l (Nat.le_refl 1) V hS.2.2.2.2.2.2.2.2.1 oks.nil (r, V1) e2) (lw_V q2297 q2298 q2299 q131 q2300) ⟨rfl, by decide +kernel, by decide +kernel, by decide +kernel⟩ rfl (by decide) (by decide) hl.1 (by simp [cA, I32_of]) (Nat.le_of_ble_eq_true rfl) dL_law_1112 ⟨by omega, by omega⟩ ?_
  intro H2 locs2 hS hr2
  refine lv_icmp_eq (tgt := 1337) X.1 X.2.1 dL_law_1115 (by decide) (fun _ => ?_) (fun hc => absurd rfl hc)
  exact kk h1 V1 u H2 locs2 _ _ hR1 hS hu hl (by omega) (by omega)
