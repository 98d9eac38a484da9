/-! printed by tools/genlaw.py: the law's cases -/
set_option maxRecDepth 100000
set_option maxHeartbeats 1000000
theorem lc_0 {p : Program} {l : Launch} {e : Env} {s : State} {m : MethodId} {b : Nat} {below : List Frame} {meth : Method} {c : Code} {D : va_G} {cT : Nat → ClassId} {adF : Int → Nat} {h0 h : XH} {V : VV} {ad : Int → Nat} {aM : Nat → Nat} {a0 : Nat} {H : Heap} {locs : List Loc} {ls : Array Slot} {cells slots : Nat} {Q : State → Prop} {L : Nat} {sv : Nat → Int32} {x3 : Int32} {Rr : XH → VV → Prop} (hst : l.stackTraces = false) (X : LWX p s m b c D cT adF h0) (hS : LWS D cT adF (lA s) s.heap h0 h V ad aM a0 H locs) (hob : 1 ≤ xn h ∧ xk h 1 = 1) (hxs : va_X b L sv s s.heap) (hbl : b < s.heap.size) (hbA : ¬ lA s b) (hin : ∀ j : Int32, 1 ≤ j → j ≤ 5 → vp_in (x3 + j) L)
    (hop : opOK (F_X0_question 1 (sv (x3 + 1).toNatClampNeg).toInt (sv (x3 + 2).toNatClampNeg).toInt h) (M_question (sv (x3 + 1).toNatClampNeg).toInt (sv (x3 + 2).toNatClampNeg).toInt V) Rr) (hcz : cells = xc h + 35 ∧ slots = xs h + SLM) (hl : lv_has ls 4 [(0, .ref b), (1, .ref (ad 1)), (2, .ref a0), (3, .int x3)])
    (kk : ∀ h1 V1 u H2 locs2 cells2 slots2, Rr h1 V1 → LWS D cT adF (lA s) s.heap h0 h1 V1 u aM a0 H2 locs2 → u 1 = ad 1 → lv_has ls 4 [(0, .ref b), (1, .ref (u 1)), (2, .ref a0), (3, .int x3)] → cells2 = xc h1 + 35 → slots2 = xs h1 + SLM → W p l e room_1 s m #[Value.ref b] below meth c H2 locs2 cells2 slots2 Q (F0 m 1337 ls [])) : W p l e room_1 s m #[Value.ref b] below meth c H locs cells slots Q (F0 m 216 ls []) := by
  have hn1 : 1 ≤ xn h := hob.1
  have hk1 : xk h 1 = 1 := hob.2
  obtain ⟨r, h1, V1, e1, e2, hR1, hc1, hs1⟩ := hop
  obtain ⟨hcz1, hcz2⟩ := hcz
  have hm1 := (WF_X0_question (Z := ((p, l, e, room_1, s, m, #[Value.ref b], below, meth, c), (D, cT, adF, ad, lA s), ((0, h), h))) (Nat.le_refl 7) 1 (sv (x3 + 1).toNatClampNeg).toInt (sv (x3 + 2).toNatClampNeg).toInt h).1 (r, h1) e1
  dsimp only [xfh] at hm1
  refine lv_aload_n X.1 X.2.1 dL_law_216 rfl (lv_at hl 1 rfl) ?_
  refine lv_aload_n X.1 X.2.1 dL_law_217 rfl (lv_at hl 0 rfl) ?_
  refine lv_iload_n X.1 X.2.1 dL_law_218 rfl (lv_at hl 3 rfl) ?_
  refine lv_iconst (v := 1) X.1 X.2.1 dL_law_219 (by decide) ?_
  refine lv_iadd X.1 X.2.1 dL_law_220 ?_
  refine va_sld X.1 X.2.1 hxs hbl hbA hS.2.2.2.2.2.2.1 (hin 1 (by decide) (by decide)) dL_law_221 ?_
  refine lv_aload_n X.1 X.2.1 dL_law_222 rfl (lv_at hl 0 rfl) ?_
  refine lv_iload_n X.1 X.2.1 dL_law_223 rfl (lv_at hl 3 rfl) ?_
  refine lv_iconst (v := 2) X.1 X.2.1 dL_law_224 (by decide) ?_
  refine lv_iadd X.1 X.2.1 dL_law_225 ?_
  refine va_sld X.1 X.2.1 hxs hbl hbA hS.2.2.2.2.2.2.1 (hin 2 (by decide) (by decide)) dL_law_226 ?_
  refine lawX_i (args := [(0, (sv (x3 + 1).toNatClampNeg).toInt), (0, (sv (x3 + 2).toNatClampNeg).toInt)]) (r := r) (h' := h1) (rest := []) X hS hn1 hk1 (fun hp => lawX_run (n := 2) X hS (SF_X0_question l (Nat.le_refl 7) 1 (sv (x3 + 1).toNatClampNeg).toInt (sv (x3 + 2).toNatClampNeg).toInt h hS.2.2.2.2.2.2.2.1 (okXs.c (okX.r (by omega)) (okXs.c (okX.i (i32_in _)) (okXs.c (okX.i (i32_in _)) okXs.nil))) (r, h1) e1) (lw_V q353 q354 q355 q124 q356) ⟨rfl, by decide +kernel, by decide +kernel, by decide +kernel⟩ rfl (by decide) (by decide) hl.1 (by simp [cX, I32_of]) (Nat.le_of_ble_eq_true rfl) dL_law_227 ⟨by omega, by omega⟩ hp) ?_
  intro u H1 locs1 hS hu hr
  rw [← hu] at hl
  refine lv_aload_n X.1 X.2.1 dL_law_230 rfl (lv_at hl 2 rfl) ?_
  refine lv_aload_n X.1 X.2.1 dL_law_231 rfl (lv_at hl 0 rfl) ?_
  refine lv_iload_n X.1 X.2.1 dL_law_232 rfl (lv_at hl 3 rfl) ?_
  refine lv_iconst (v := 1) X.1 X.2.1 dL_law_233 (by decide) ?_
  refine lv_iadd X.1 X.2.1 dL_law_234 ?_
  refine va_sld X.1 X.2.1 hxs hbl hbA hS.2.2.2.2.2.2.1 (hin 1 (by decide) (by decide)) dL_law_235 ?_
  refine lv_aload_n X.1 X.2.1 dL_law_236 rfl (lv_at hl 0 rfl) ?_
  refine lv_iload_n X.1 X.2.1 dL_law_237 rfl (lv_at hl 3 rfl) ?_
  refine lv_iconst (v := 2) X.1 X.2.1 dL_law_238 (by decide) ?_
  refine lv_iadd X.1 X.2.1 dL_law_239 ?_
  refine va_sld X.1 X.2.1 hxs hbl hbA hS.2.2.2.2.2.2.1 (hin 2 (by decide) (by decide)) dL_law_240 ?_
  refine lawM_i (args := [(0, (sv (x3 + 1).toNatClampNeg).toInt), (0, (sv (x3 + 2).toNatClampNeg).toInt)]) (n := 2) (rest := [.int (I32 r)]) X hS (WM_question l (Nat.le_refl 2) (sv (x3 + 1).toNatClampNeg).toInt (sv (x3 + 2).toNatClampNeg).toInt V hS.2.2.2.2.2.2.2.2.1 ((oks.c (okA.i (i32_in _)) (oks.c (okA.i (i32_in _)) oks.nil))) (r, V1) e2) (lw_V q1895 q1896 q1897 q131 q1898) ⟨rfl, by decide +kernel, by decide +kernel, by decide +kernel⟩ rfl (by decide) (by decide) hl.1 (by simp [cA, I32_of]) (Nat.le_of_ble_eq_true rfl) dL_law_241 ⟨by omega, by omega⟩ ?_
  intro H2 locs2 hS hr2
  refine lv_icmp_eq (tgt := 1337) X.1 X.2.1 dL_law_244 (by decide) (fun _ => ?_) (fun hc => absurd rfl hc)
  exact kk h1 V1 u H2 locs2 _ _ hR1 hS hu hl (by omega) (by omega)
theorem lc_1 {p : Program} {l : Launch} {e : Env} {s : State} {m : MethodId} {b : Nat} {below : List Frame} {meth : Method} {c : Code} {D : va_G} {cT : Nat → ClassId} {adF : Int → Nat} {h0 h : XH} {V : VV} {ad : Int → Nat} {aM : Nat → Nat} {a0 : Nat} {H : Heap} {locs : List Loc} {ls : Array Slot} {cells slots : Nat} {Q : State → Prop} {L : Nat} {sv : Nat → Int32} {x3 : Int32} {Rr : XH → VV → Prop} (hst : l.stackTraces = false) (X : LWX p s m b c D cT adF h0) (hS : LWS D cT adF (lA s) s.heap h0 h V ad aM a0 H locs) (hob : 1 ≤ xn h ∧ xk h 1 = 1) (hxs : va_X b L sv s s.heap) (hbl : b < s.heap.size) (hbA : ¬ lA s b) (hin : ∀ j : Int32, 1 ≤ j → j ≤ 5 → vp_in (x3 + j) L)
    (hop : opOK (F_X0_knowB 1 (sv (x3 + 1).toNatClampNeg).toInt (sv (x3 + 2).toNatClampNeg).toInt (sv (x3 + 3).toNatClampNeg).toInt h) (M_know (sv (x3 + 1).toNatClampNeg).toInt (sv (x3 + 2).toNatClampNeg).toInt (sv (x3 + 3).toNatClampNeg).toInt V) Rr) (hcz : cells = xc h + 35 ∧ slots = xs h + SLM) (hl : lv_has ls 4 [(0, .ref b), (1, .ref (ad 1)), (2, .ref a0), (3, .int x3)])
    (kk : ∀ h1 V1 u H2 locs2 cells2 slots2, Rr h1 V1 → LWS D cT adF (lA s) s.heap h0 h1 V1 u aM a0 H2 locs2 → u 1 = ad 1 → lv_has ls 4 [(0, .ref b), (1, .ref (u 1)), (2, .ref a0), (3, .int x3)] → cells2 = xc h1 + 35 → slots2 = xs h1 + SLM → W p l e room_1 s m #[Value.ref b] below meth c H2 locs2 cells2 slots2 Q (F0 m 1337 ls [])) : W p l e room_1 s m #[Value.ref b] below meth c H locs cells slots Q (F0 m 249 ls []) := by
  have hn1 : 1 ≤ xn h := hob.1
  have hk1 : xk h 1 = 1 := hob.2
  obtain ⟨r, h1, V1, e1, e2, hR1, hc1, hs1⟩ := hop
  obtain ⟨hcz1, hcz2⟩ := hcz
  have hm1 := (WF_X0_knowB (Z := ((p, l, e, room_1, s, m, #[Value.ref b], below, meth, c), (D, cT, adF, ad, lA s), ((0, h), h))) (Nat.le_refl 6) 1 (sv (x3 + 1).toNatClampNeg).toInt (sv (x3 + 2).toNatClampNeg).toInt (sv (x3 + 3).toNatClampNeg).toInt h).1 (r, h1) e1
  dsimp only [xfh] at hm1
  refine lv_aload_n X.1 X.2.1 dL_law_249 rfl (lv_at hl 1 rfl) ?_
  refine lv_aload_n X.1 X.2.1 dL_law_250 rfl (lv_at hl 0 rfl) ?_
  refine lv_iload_n X.1 X.2.1 dL_law_251 rfl (lv_at hl 3 rfl) ?_
  refine lv_iconst (v := 1) X.1 X.2.1 dL_law_252 (by decide) ?_
  refine lv_iadd X.1 X.2.1 dL_law_253 ?_
  refine va_sld X.1 X.2.1 hxs hbl hbA hS.2.2.2.2.2.2.1 (hin 1 (by decide) (by decide)) dL_law_254 ?_
  refine lv_aload_n X.1 X.2.1 dL_law_255 rfl (lv_at hl 0 rfl) ?_
  refine lv_iload_n X.1 X.2.1 dL_law_256 rfl (lv_at hl 3 rfl) ?_
  refine lv_iconst (v := 2) X.1 X.2.1 dL_law_257 (by decide) ?_
  refine lv_iadd X.1 X.2.1 dL_law_258 ?_
  refine va_sld X.1 X.2.1 hxs hbl hbA hS.2.2.2.2.2.2.1 (hin 2 (by decide) (by decide)) dL_law_259 ?_
  refine lv_aload_n X.1 X.2.1 dL_law_260 rfl (lv_at hl 0 rfl) ?_
  refine lv_iload_n X.1 X.2.1 dL_law_261 rfl (lv_at hl 3 rfl) ?_
  refine lv_iconst (v := 3) X.1 X.2.1 dL_law_262 (by decide) ?_
  refine lv_iadd X.1 X.2.1 dL_law_263 ?_
  refine va_sld X.1 X.2.1 hxs hbl hbA hS.2.2.2.2.2.2.1 (hin 3 (by decide) (by decide)) dL_law_264 ?_
  refine lawX_i (args := [(0, (sv (x3 + 1).toNatClampNeg).toInt), (0, (sv (x3 + 2).toNatClampNeg).toInt), (0, (sv (x3 + 3).toNatClampNeg).toInt)]) (r := r) (h' := h1) (rest := []) X hS hn1 hk1 (fun hp => lawX_run (n := 3) X hS (SF_X0_knowB l (Nat.le_refl 6) 1 (sv (x3 + 1).toNatClampNeg).toInt (sv (x3 + 2).toNatClampNeg).toInt (sv (x3 + 3).toNatClampNeg).toInt h hS.2.2.2.2.2.2.2.1 (okXs.c (okX.r (by omega)) (okXs.c (okX.i (i32_in _)) (okXs.c (okX.i (i32_in _)) (okXs.c (okX.i (i32_in _)) okXs.nil)))) (r, h1) e1) (lw_V q487 q488 q489 q124 q490) ⟨rfl, by decide +kernel, by decide +kernel, by decide +kernel⟩ rfl (by decide) (by decide) hl.1 (by simp [cX, I32_of]) (Nat.le_of_ble_eq_true rfl) dL_law_265 ⟨by omega, by omega⟩ hp) ?_
  intro u H1 locs1 hS hu hr
  rw [← hu] at hl
  refine lv_aload_n X.1 X.2.1 dL_law_268 rfl (lv_at hl 2 rfl) ?_
  refine lv_aload_n X.1 X.2.1 dL_law_269 rfl (lv_at hl 0 rfl) ?_
  refine lv_iload_n X.1 X.2.1 dL_law_270 rfl (lv_at hl 3 rfl) ?_
  refine lv_iconst (v := 1) X.1 X.2.1 dL_law_271 (by decide) ?_
  refine lv_iadd X.1 X.2.1 dL_law_272 ?_
  refine va_sld X.1 X.2.1 hxs hbl hbA hS.2.2.2.2.2.2.1 (hin 1 (by decide) (by decide)) dL_law_273 ?_
  refine lv_aload_n X.1 X.2.1 dL_law_274 rfl (lv_at hl 0 rfl) ?_
  refine lv_iload_n X.1 X.2.1 dL_law_275 rfl (lv_at hl 3 rfl) ?_
  refine lv_iconst (v := 2) X.1 X.2.1 dL_law_276 (by decide) ?_
  refine lv_iadd X.1 X.2.1 dL_law_277 ?_
  refine va_sld X.1 X.2.1 hxs hbl hbA hS.2.2.2.2.2.2.1 (hin 2 (by decide) (by decide)) dL_law_278 ?_
  refine lv_aload_n X.1 X.2.1 dL_law_279 rfl (lv_at hl 0 rfl) ?_
  refine lv_iload_n X.1 X.2.1 dL_law_280 rfl (lv_at hl 3 rfl) ?_
  refine lv_iconst (v := 3) X.1 X.2.1 dL_law_281 (by decide) ?_
  refine lv_iadd X.1 X.2.1 dL_law_282 ?_
  refine va_sld X.1 X.2.1 hxs hbl hbA hS.2.2.2.2.2.2.1 (hin 3 (by decide) (by decide)) dL_law_283 ?_
  refine lawM_i (args := [(0, (sv (x3 + 1).toNatClampNeg).toInt), (0, (sv (x3 + 2).toNatClampNeg).toInt), (0, (sv (x3 + 3).toNatClampNeg).toInt)]) (n := 3) (rest := [.int (I32 r)]) X hS (WM_know l (Nat.le_refl 3) (sv (x3 + 1).toNatClampNeg).toInt (sv (x3 + 2).toNatClampNeg).toInt (sv (x3 + 3).toNatClampNeg).toInt V hS.2.2.2.2.2.2.2.2.1 ((oks.c (okA.i (i32_in _)) (oks.c (okA.i (i32_in _)) (oks.c (okA.i (i32_in _)) oks.nil)))) (r, V1) e2) (lw_V q1903 q1904 q1905 q131 q1906) ⟨rfl, by decide +kernel, by decide +kernel, by decide +kernel⟩ rfl (by decide) (by decide) hl.1 (by simp [cA, I32_of]) (Nat.le_of_ble_eq_true rfl) dL_law_284 ⟨by omega, by omega⟩ ?_
  intro H2 locs2 hS hr2
  refine lv_icmp_eq (tgt := 1337) X.1 X.2.1 dL_law_287 (by decide) (fun _ => ?_) (fun hc => absurd rfl hc)
  exact kk h1 V1 u H2 locs2 _ _ hR1 hS hu hl (by omega) (by omega)
theorem lc_2 {p : Program} {l : Launch} {e : Env} {s : State} {m : MethodId} {b : Nat} {below : List Frame} {meth : Method} {c : Code} {D : va_G} {cT : Nat → ClassId} {adF : Int → Nat} {h0 h : XH} {V : VV} {ad : Int → Nat} {aM : Nat → Nat} {a0 : Nat} {H : Heap} {locs : List Loc} {ls : Array Slot} {cells slots : Nat} {Q : State → Prop} {L : Nat} {sv : Nat → Int32} {x3 : Int32} {Rr : XH → VV → Prop} (hst : l.stackTraces = false) (X : LWX p s m b c D cT adF h0) (hS : LWS D cT adF (lA s) s.heap h0 h V ad aM a0 H locs) (hob : 1 ≤ xn h ∧ xk h 1 = 1) (hxs : va_X b L sv s s.heap) (hbl : b < s.heap.size) (hbA : ¬ lA s b) (hin : ∀ j : Int32, 1 ≤ j → j ≤ 5 → vp_in (x3 + j) L)
    (hop : opOK (F_X0_of 1 (sv (x3 + 1).toNatClampNeg).toInt (sv (x3 + 2).toNatClampNeg).toInt h) (M_of (sv (x3 + 1).toNatClampNeg).toInt (sv (x3 + 2).toNatClampNeg).toInt V) Rr) (hcz : cells = xc h + 35 ∧ slots = xs h + SLM) (hl : lv_has ls 4 [(0, .ref b), (1, .ref (ad 1)), (2, .ref a0), (3, .int x3)])
    (kk : ∀ h1 V1 u H2 locs2 cells2 slots2, Rr h1 V1 → LWS D cT adF (lA s) s.heap h0 h1 V1 u aM a0 H2 locs2 → u 1 = ad 1 → lv_has ls 4 [(0, .ref b), (1, .ref (u 1)), (2, .ref a0), (3, .int x3)] → cells2 = xc h1 + 35 → slots2 = xs h1 + SLM → W p l e room_1 s m #[Value.ref b] below meth c H2 locs2 cells2 slots2 Q (F0 m 1337 ls [])) : W p l e room_1 s m #[Value.ref b] below meth c H locs cells slots Q (F0 m 292 ls []) := by
  have hn1 : 1 ≤ xn h := hob.1
  have hk1 : xk h 1 = 1 := hob.2
  obtain ⟨r, h1, V1, e1, e2, hR1, hc1, hs1⟩ := hop
  obtain ⟨hcz1, hcz2⟩ := hcz
  have hm1 := (WF_X0_of (Z := ((p, l, e, room_1, s, m, #[Value.ref b], below, meth, c), (D, cT, adF, ad, lA s), ((0, h), h))) (Nat.le_refl 5) 1 (sv (x3 + 1).toNatClampNeg).toInt (sv (x3 + 2).toNatClampNeg).toInt h).1 (r, h1) e1
  dsimp only [xfh] at hm1
  refine lv_aload_n X.1 X.2.1 dL_law_292 rfl (lv_at hl 1 rfl) ?_
  refine lv_aload_n X.1 X.2.1 dL_law_293 rfl (lv_at hl 0 rfl) ?_
  refine lv_iload_n X.1 X.2.1 dL_law_294 rfl (lv_at hl 3 rfl) ?_
  refine lv_iconst (v := 1) X.1 X.2.1 dL_law_295 (by decide) ?_
  refine lv_iadd X.1 X.2.1 dL_law_296 ?_
  refine va_sld X.1 X.2.1 hxs hbl hbA hS.2.2.2.2.2.2.1 (hin 1 (by decide) (by decide)) dL_law_297 ?_
  refine lv_aload_n X.1 X.2.1 dL_law_298 rfl (lv_at hl 0 rfl) ?_
  refine lv_iload_n X.1 X.2.1 dL_law_299 rfl (lv_at hl 3 rfl) ?_
  refine lv_iconst (v := 2) X.1 X.2.1 dL_law_300 (by decide) ?_
  refine lv_iadd X.1 X.2.1 dL_law_301 ?_
  refine va_sld X.1 X.2.1 hxs hbl hbA hS.2.2.2.2.2.2.1 (hin 2 (by decide) (by decide)) dL_law_302 ?_
  refine lawX_i (args := [(0, (sv (x3 + 1).toNatClampNeg).toInt), (0, (sv (x3 + 2).toNatClampNeg).toInt)]) (r := r) (h' := h1) (rest := []) X hS hn1 hk1 (fun hp => lawX_run (n := 2) X hS (SF_X0_of l (Nat.le_refl 5) 1 (sv (x3 + 1).toNatClampNeg).toInt (sv (x3 + 2).toNatClampNeg).toInt h hS.2.2.2.2.2.2.2.1 (okXs.c (okX.r (by omega)) (okXs.c (okX.i (i32_in _)) (okXs.c (okX.i (i32_in _)) okXs.nil))) (r, h1) e1) (lw_V q514 q511 q512 q124 q513) ⟨rfl, by decide +kernel, by decide +kernel, by decide +kernel⟩ rfl (by decide) (by decide) hl.1 (by simp [cX, I32_of]) (Nat.le_of_ble_eq_true rfl) dL_law_303 ⟨by omega, by omega⟩ hp) ?_
  intro u H1 locs1 hS hu hr
  rw [← hu] at hl
  refine lv_aload_n X.1 X.2.1 dL_law_306 rfl (lv_at hl 2 rfl) ?_
  refine lv_aload_n X.1 X.2.1 dL_law_307 rfl (lv_at hl 0 rfl) ?_
  refine lv_iload_n X.1 X.2.1 dL_law_308 rfl (lv_at hl 3 rfl) ?_
  refine lv_iconst (v := 1) X.1 X.2.1 dL_law_309 (by decide) ?_
  refine lv_iadd X.1 X.2.1 dL_law_310 ?_
  refine va_sld X.1 X.2.1 hxs hbl hbA hS.2.2.2.2.2.2.1 (hin 1 (by decide) (by decide)) dL_law_311 ?_
  refine lv_aload_n X.1 X.2.1 dL_law_312 rfl (lv_at hl 0 rfl) ?_
  refine lv_iload_n X.1 X.2.1 dL_law_313 rfl (lv_at hl 3 rfl) ?_
  refine lv_iconst (v := 2) X.1 X.2.1 dL_law_314 (by decide) ?_
  refine lv_iadd X.1 X.2.1 dL_law_315 ?_
  refine va_sld X.1 X.2.1 hxs hbl hbA hS.2.2.2.2.2.2.1 (hin 2 (by decide) (by decide)) dL_law_316 ?_
  refine lawM_i (args := [(0, (sv (x3 + 1).toNatClampNeg).toInt), (0, (sv (x3 + 2).toNatClampNeg).toInt)]) (n := 2) (rest := [.int (I32 r)]) X hS (WM_of l (Nat.le_refl 3) (sv (x3 + 1).toNatClampNeg).toInt (sv (x3 + 2).toNatClampNeg).toInt V hS.2.2.2.2.2.2.2.2.1 ((oks.c (okA.i (i32_in _)) (oks.c (okA.i (i32_in _)) oks.nil))) (r, V1) e2) (lw_V q1915 q1916 q1917 q131 q1918) ⟨rfl, by decide +kernel, by decide +kernel, by decide +kernel⟩ rfl (by decide) (by decide) hl.1 (by simp [cA, I32_of]) (Nat.le_of_ble_eq_true rfl) dL_law_317 ⟨by omega, by omega⟩ ?_
  intro H2 locs2 hS hr2
  refine lv_icmp_eq (tgt := 1337) X.1 X.2.1 dL_law_320 (by decide) (fun _ => ?_) (fun hc => absurd rfl hc)
  exact kk h1 V1 u H2 locs2 _ _ hR1 hS hu hl (by omega) (by omega)
theorem lc_3 {p : Program} {l : Launch} {e : Env} {s : State} {m : MethodId} {b : Nat} {below : List Frame} {meth : Method} {c : Code} {D : va_G} {cT : Nat → ClassId} {adF : Int → Nat} {h0 h : XH} {V : VV} {ad : Int → Nat} {aM : Nat → Nat} {a0 : Nat} {H : Heap} {locs : List Loc} {ls : Array Slot} {cells slots : Nat} {Q : State → Prop} {L : Nat} {sv : Nat → Int32} {x3 : Int32} {Rr : XH → VV → Prop} (hst : l.stackTraces = false) (X : LWX p s m b c D cT adF h0) (hS : LWS D cT adF (lA s) s.heap h0 h V ad aM a0 H locs) (hob : 1 ≤ xn h ∧ xk h 1 = 1) (hxs : va_X b L sv s s.heap) (hbl : b < s.heap.size) (hbA : ¬ lA s b) (hin : ∀ j : Int32, 1 ≤ j → j ≤ 5 → vp_in (x3 + j) L)
    (hop : opOK (F_X0_terms 1 (sv (x3 + 1).toNatClampNeg).toInt (sv (x3 + 2).toNatClampNeg).toInt h) (M_terms (sv (x3 + 1).toNatClampNeg).toInt (sv (x3 + 2).toNatClampNeg).toInt V) Rr) (hcz : cells = xc h + 35 ∧ slots = xs h + SLM) (hl : lv_has ls 4 [(0, .ref b), (1, .ref (ad 1)), (2, .ref a0), (3, .int x3)])
    (kk : ∀ h1 V1 u H2 locs2 cells2 slots2, Rr h1 V1 → LWS D cT adF (lA s) s.heap h0 h1 V1 u aM a0 H2 locs2 → u 1 = ad 1 → lv_has ls 4 [(0, .ref b), (1, .ref (u 1)), (2, .ref a0), (3, .int x3)] → cells2 = xc h1 + 35 → slots2 = xs h1 + SLM → W p l e room_1 s m #[Value.ref b] below meth c H2 locs2 cells2 slots2 Q (F0 m 1337 ls [])) : W p l e room_1 s m #[Value.ref b] below meth c H locs cells slots Q (F0 m 325 ls []) := by
  have hn1 : 1 ≤ xn h := hob.1
  have hk1 : xk h 1 = 1 := hob.2
  obtain ⟨r, h1, V1, e1, e2, hR1, hc1, hs1⟩ := hop
  obtain ⟨hcz1, hcz2⟩ := hcz
  have hm1 := (WF_X0_terms (Z := ((p, l, e, room_1, s, m, #[Value.ref b], below, meth, c), (D, cT, adF, ad, lA s), ((0, h), h))) (Nat.le_refl 3) 1 (sv (x3 + 1).toNatClampNeg).toInt (sv (x3 + 2).toNatClampNeg).toInt h).1 (r, h1) e1
  dsimp only [xfh] at hm1
  refine lv_aload_n X.1 X.2.1 dL_law_325 rfl (lv_at hl 1 rfl) ?_
  refine lv_aload_n X.1 X.2.1 dL_law_326 rfl (lv_at hl 0 rfl) ?_
  refine lv_iload_n X.1 X.2.1 dL_law_327 rfl (lv_at hl 3 rfl) ?_
  refine lv_iconst (v := 1) X.1 X.2.1 dL_law_328 (by decide) ?_
  refine lv_iadd X.1 X.2.1 dL_law_329 ?_
  refine va_sld X.1 X.2.1 hxs hbl hbA hS.2.2.2.2.2.2.1 (hin 1 (by decide) (by decide)) dL_law_330 ?_
  refine lv_aload_n X.1 X.2.1 dL_law_331 rfl (lv_at hl 0 rfl) ?_
  refine lv_iload_n X.1 X.2.1 dL_law_332 rfl (lv_at hl 3 rfl) ?_
  refine lv_iconst (v := 2) X.1 X.2.1 dL_law_333 (by decide) ?_
  refine lv_iadd X.1 X.2.1 dL_law_334 ?_
  refine va_sld X.1 X.2.1 hxs hbl hbA hS.2.2.2.2.2.2.1 (hin 2 (by decide) (by decide)) dL_law_335 ?_
  refine lawX_i (args := [(0, (sv (x3 + 1).toNatClampNeg).toInt), (0, (sv (x3 + 2).toNatClampNeg).toInt)]) (r := r) (h' := h1) (rest := []) X hS hn1 hk1 (fun hp => lawX_run (n := 2) X hS (SF_X0_terms l (Nat.le_refl 3) 1 (sv (x3 + 1).toNatClampNeg).toInt (sv (x3 + 2).toNatClampNeg).toInt h hS.2.2.2.2.2.2.2.1 (okXs.c (okX.r (by omega)) (okXs.c (okX.i (i32_in _)) (okXs.c (okX.i (i32_in _)) okXs.nil))) (r, h1) e1) (lw_V q515 q516 q517 q124 q518) ⟨rfl, by decide +kernel, by decide +kernel, by decide +kernel⟩ rfl (by decide) (by decide) hl.1 (by simp [cX, I32_of]) (Nat.le_of_ble_eq_true rfl) dL_law_336 ⟨by omega, by omega⟩ hp) ?_
  intro u H1 locs1 hS hu hr
  rw [← hu] at hl
  refine lv_aload_n X.1 X.2.1 dL_law_339 rfl (lv_at hl 2 rfl) ?_
  refine lv_aload_n X.1 X.2.1 dL_law_340 rfl (lv_at hl 0 rfl) ?_
  refine lv_iload_n X.1 X.2.1 dL_law_341 rfl (lv_at hl 3 rfl) ?_
  refine lv_iconst (v := 1) X.1 X.2.1 dL_law_342 (by decide) ?_
  refine lv_iadd X.1 X.2.1 dL_law_343 ?_
  refine va_sld X.1 X.2.1 hxs hbl hbA hS.2.2.2.2.2.2.1 (hin 1 (by decide) (by decide)) dL_law_344 ?_
  refine lv_aload_n X.1 X.2.1 dL_law_345 rfl (lv_at hl 0 rfl) ?_
  refine lv_iload_n X.1 X.2.1 dL_law_346 rfl (lv_at hl 3 rfl) ?_
  refine lv_iconst (v := 2) X.1 X.2.1 dL_law_347 (by decide) ?_
  refine lv_iadd X.1 X.2.1 dL_law_348 ?_
  refine va_sld X.1 X.2.1 hxs hbl hbA hS.2.2.2.2.2.2.1 (hin 2 (by decide) (by decide)) dL_law_349 ?_
  refine lawM_i (args := [(0, (sv (x3 + 1).toNatClampNeg).toInt), (0, (sv (x3 + 2).toNatClampNeg).toInt)]) (n := 2) (rest := [.int (I32 r)]) X hS (WM_terms l (Nat.le_refl 3) (sv (x3 + 1).toNatClampNeg).toInt (sv (x3 + 2).toNatClampNeg).toInt V hS.2.2.2.2.2.2.2.2.1 ((oks.c (okA.i (i32_in _)) (oks.c (okA.i (i32_in _)) oks.nil))) (r, V1) e2) (lw_V q1923 q1924 q1925 q131 q1926) ⟨rfl, by decide +kernel, by decide +kernel, by decide +kernel⟩ rfl (by decide) (by decide) hl.1 (by simp [cA, I32_of]) (Nat.le_of_ble_eq_true rfl) dL_law_350 ⟨by omega, by omega⟩ ?_
  intro H2 locs2 hS hr2
  refine lv_icmp_eq (tgt := 1337) X.1 X.2.1 dL_law_353 (by decide) (fun _ => ?_) (fun hc => absurd rfl hc)
  exact kk h1 V1 u H2 locs2 _ _ hR1 hS hu hl (by omega) (by omega)
theorem lc_4 {p : Program} {l : Launch} {e : Env} {s : State} {m : MethodId} {b : Nat} {below : List Frame} {meth : Method} {c : Code} {D : va_G} {cT : Nat → ClassId} {adF : Int → Nat} {h0 h : XH} {V : VV} {ad : Int → Nat} {aM : Nat → Nat} {a0 : Nat} {H : Heap} {locs : List Loc} {ls : Array Slot} {cells slots : Nat} {Q : State → Prop} {L : Nat} {sv : Nat → Int32} {x3 : Int32} {Rr : XH → VV → Prop} (hst : l.stackTraces = false) (X : LWX p s m b c D cT adF h0) (hS : LWS D cT adF (lA s) s.heap h0 h V ad aM a0 H locs) (hob : 1 ≤ xn h ∧ xk h 1 = 1) (hxs : va_X b L sv s s.heap) (hbl : b < s.heap.size) (hbA : ¬ lA s b) (hin : ∀ j : Int32, 1 ≤ j → j ≤ 5 → vp_in (x3 + j) L)
    (hop : opOK (F_X0_feed 1 (sv (x3 + 1).toNatClampNeg).toInt (sv (x3 + 2).toNatClampNeg).toInt (sv (x3 + 3).toNatClampNeg).toInt (sv (x3 + 4).toNatClampNeg).toInt (sv (x3 + 5).toNatClampNeg).toInt h) (M_feed (sv (x3 + 1).toNatClampNeg).toInt (sv (x3 + 2).toNatClampNeg).toInt (sv (x3 + 3).toNatClampNeg).toInt (sv (x3 + 4).toNatClampNeg).toInt (sv (x3 + 5).toNatClampNeg).toInt V) Rr) (hcz : cells = xc h + 35 ∧ slots = xs h + SLM) (hl : lv_has ls 4 [(0, .ref b), (1, .ref (ad 1)), (2, .ref a0), (3, .int x3)])
    (kk : ∀ h1 V1 u H2 locs2 cells2 slots2, Rr h1 V1 → LWS D cT adF (lA s) s.heap h0 h1 V1 u aM a0 H2 locs2 → u 1 = ad 1 → lv_has ls 4 [(0, .ref b), (1, .ref (u 1)), (2, .ref a0), (3, .int x3)] → cells2 = xc h1 + 35 → slots2 = xs h1 + SLM → W p l e room_1 s m #[Value.ref b] below meth c H2 locs2 cells2 slots2 Q (F0 m 1337 ls [])) : W p l e room_1 s m #[Value.ref b] below meth c H locs cells slots Q (F0 m 358 ls []) := by
  have hn1 : 1 ≤ xn h := hob.1
  have hk1 : xk h 1 = 1 := hob.2
  obtain ⟨r, h1, V1, e1, e2, hR1, hc1, hs1⟩ := hop
  obtain ⟨hcz1, hcz2⟩ := hcz
  have hm1 := (WF_X0_feed (Z := ((p, l, e, room_1, s, m, #[Value.ref b], below, meth, c), (D, cT, adF, ad, lA s), ((0, h), h))) (Nat.le_refl 2) 1 (sv (x3 + 1).toNatClampNeg).toInt (sv (x3 + 2).toNatClampNeg).toInt (sv (x3 + 3).toNatClampNeg).toInt (sv (x3 + 4).toNatClampNeg).toInt (sv (x3 + 5).toNatClampNeg).toInt h).1 (r, h1) e1
  dsimp only [xfh] at hm1
  refine lv_aload_n X.1 X.2.1 dL_law_358 rfl (lv_at hl 1 rfl) ?_
  refine lv_aload_n X.1 X.2.1 dL_law_359 rfl (lv_at hl 0 rfl) ?_
  refine lv_iload_n X.1 X.2.1 dL_law_360 rfl (lv_at hl 3 rfl) ?_
  refine lv_iconst (v := 1) X.1 X.2.1 dL_law_361 (by decide) ?_
  refine lv_iadd X.1 X.2.1 dL_law_362 ?_
  refine va_sld X.1 X.2.1 hxs hbl hbA hS.2.2.2.2.2.2.1 (hin 1 (by decide) (by decide)) dL_law_363 ?_
  refine lv_aload_n X.1 X.2.1 dL_law_364 rfl (lv_at hl 0 rfl) ?_
  refine lv_iload_n X.1 X.2.1 dL_law_365 rfl (lv_at hl 3 rfl) ?_
  refine lv_iconst (v := 2) X.1 X.2.1 dL_law_366 (by decide) ?_
  refine lv_iadd X.1 X.2.1 dL_law_367 ?_
  refine va_sld X.1 X.2.1 hxs hbl hbA hS.2.2.2.2.2.2.1 (hin 2 (by decide) (by decide)) dL_law_368 ?_
  refine lv_aload_n X.1 X.2.1 dL_law_369 rfl (lv_at hl 0 rfl) ?_
  refine lv_iload_n X.1 X.2.1 dL_law_370 rfl (lv_at hl 3 rfl) ?_
  refine lv_iconst (v := 3) X.1 X.2.1 dL_law_371 (by decide) ?_
  refine lv_iadd X.1 X.2.1 dL_law_372 ?_
  refine va_sld X.1 X.2.1 hxs hbl hbA hS.2.2.2.2.2.2.1 (hin 3 (by decide) (by decide)) dL_law_373 ?_
  refine lv_aload_n X.1 X.2.1 dL_law_374 rfl (lv_at hl 0 rfl) ?_
  refine lv_iload_n X.1 X.2.1 dL_law_375 rfl (lv_at hl 3 rfl) ?_
  refine lv_iconst (v := 4) X.1 X.2.1 dL_law_376 (by decide) ?_
  refine lv_iadd X.1 X.2.1 dL_law_377 ?_
  refine va_sld X.1 X.2.1 hxs hbl hbA hS.2.2.2.2.2.2.1 (hin 4 (by decide) (by decide)) dL_law_378 ?_
  refine lv_aload_n X.1 X.2.1 dL_law_379 rfl (lv_at hl 0 rfl) ?_
  refine lv_iload_n X.1 X.2.1 dL_law_380 rfl (lv_at hl 3 rfl) ?_
  refine lv_iconst (v := 5) X.1 X.2.1 dL_law_381 (by decide) ?_
  refine lv_iadd X.1 X.2.1 dL_law_382 ?_
  refine va_sld X.1 X.2.1 hxs hbl hbA hS.2.2.2.2.2.2.1 (hin 5 (by decide) (by decide)) dL_law_383 ?_
  refine lawX_i (args := [(0, (sv (x3 + 1).toNatClampNeg).toInt), (0, (sv (x3 + 2).toNatClampNeg).toInt), (0, (sv (x3 + 3).toNatClampNeg).toInt), (0, (sv (x3 + 4).toNatClampNeg).toInt), (0, (sv (x3 + 5).toNatClampNeg).toInt)]) (r := r) (h' := h1) (rest := []) X hS hn1 hk1 (fun hp => lawX_run (n := 5) X hS (SF_X0_feed l (Nat.le_refl 2) 1 (sv (x3 + 1).toNatClampNeg).toInt (sv (x3 + 2).toNatClampNeg).toInt (sv (x3 + 3).toNatClampNeg).toInt (sv (x3 + 4).toNatClampNeg).toInt (sv (x3 + 5).toNatClampNeg).toInt h hS.2.2.2.2.2.2.2.1 (okXs.c (okX.r (by omega)) (okXs.c (okX.i (i32_in _)) (okXs.c (okX.i (i32_in _)) (okXs.c (okX.i (i32_in _)) (okXs.c (okX.i (i32_in _)) (okXs.c (okX.i (i32_in _)) okXs.nil)))))) (r, h1) e1) (lw_V q338 q339 q340 q124 q341) ⟨rfl, by decide +kernel, by decide +kernel, by decide +kernel⟩ rfl (by decide) (by decide) hl.1 (by simp [cX, I32_of]) (Nat.le_of_ble_eq_true rfl) dL_law_384 ⟨by omega, by omega⟩ hp) ?_
  intro u H1 locs1 hS hu hr
  rw [← hu] at hl
  refine lv_aload_n X.1 X.2.1 dL_law_387 rfl (lv_at hl 2 rfl) ?_
  refine lv_aload_n X.1 X.2.1 dL_law_388 rfl (lv_at hl 0 rfl) ?_
  refine lv_iload_n X.1 X.2.1 dL_law_389 rfl (lv_at hl 3 rfl) ?_
  refine lv_iconst (v := 1) X.1 X.2.1 dL_law_390 (by decide) ?_
  refine lv_iadd X.1 X.2.1 dL_law_391 ?_
  refine va_sld X.1 X.2.1 hxs hbl hbA hS.2.2.2.2.2.2.1 (hin 1 (by decide) (by decide)) dL_law_392 ?_
  refine lv_aload_n X.1 X.2.1 dL_law_393 rfl (lv_at hl 0 rfl) ?_
  refine lv_iload_n X.1 X.2.1 dL_law_394 rfl (lv_at hl 3 rfl) ?_
  refine lv_iconst (v := 2) X.1 X.2.1 dL_law_395 (by decide) ?_
  refine lv_iadd X.1 X.2.1 dL_law_396 ?_
  refine va_sld X.1 X.2.1 hxs hbl hbA hS.2.2.2.2.2.2.1 (hin 2 (by decide) (by decide)) dL_law_397 ?_
  refine lv_aload_n X.1 X.2.1 dL_law_398 rfl (lv_at hl 0 rfl) ?_
  refine lv_iload_n X.1 X.2.1 dL_law_399 rfl (lv_at hl 3 rfl) ?_
  refine lv_iconst (v := 3) X.1 X.2.1 dL_law_400 (by decide) ?_
  refine lv_iadd X.1 X.2.1 dL_law_401 ?_
  refine va_sld X.1 X.2.1 hxs hbl hbA hS.2.2.2.2.2.2.1 (hin 3 (by decide) (by decide)) dL_law_402 ?_
  refine lv_aload_n X.1 X.2.1 dL_law_403 rfl (lv_at hl 0 rfl) ?_
  refine lv_iload_n X.1 X.2.1 dL_law_404 rfl (lv_at hl 3 rfl) ?_
  refine lv_iconst (v := 4) X.1 X.2.1 dL_law_405 (by decide) ?_
  refine lv_iadd X.1 X.2.1 dL_law_406 ?_
  refine va_sld X.1 X.2.1 hxs hbl hbA hS.2.2.2.2.2.2.1 (hin 4 (by decide) (by decide)) dL_law_407 ?_
  refine lv_aload_n X.1 X.2.1 dL_law_408 rfl (lv_at hl 0 rfl) ?_
  refine lv_iload_n X.1 X.2.1 dL_law_409 rfl (lv_at hl 3 rfl) ?_
  refine lv_iconst (v := 5) X.1 X.2.1 dL_law_410 (by decide) ?_
  refine lv_iadd X.1 X.2.1 dL_law_411 ?_
  refine va_sld X.1 X.2.1 hxs hbl hbA hS.2.2.2.2.2.2.1 (hin 5 (by decide) (by decide)) dL_law_412 ?_
  refine lawM_i (args := [(0, (sv (x3 + 1).toNatClampNeg).toInt), (0, (sv (x3 + 2).toNatClampNeg).toInt), (0, (sv (x3 + 3).toNatClampNeg).toInt), (0, (sv (x3 + 4).toNatClampNeg).toInt), (0, (sv (x3 + 5).toNatClampNeg).toInt)]) (n := 5) (rest := [.int (I32 r)]) X hS (WM_feed l (Nat.le_refl 1) (sv (x3 + 1).toNatClampNeg).toInt (sv (x3 + 2).toNatClampNeg).toInt (sv (x3 + 3).toNatClampNeg).toInt (sv (x3 + 4).toNatClampNeg).toInt (sv (x3 + 5).toNatClampNeg).toInt V hS.2.2.2.2.2.2.2.2.1 ((oks.c (okA.i (i32_in _)) (oks.c (okA.i (i32_in _)) (oks.c (okA.i (i32_in _)) (oks.c (okA.i (i32_in _)) (oks.c (okA.i (i32_in _)) oks.nil)))))) (r, V1) e2) (lw_V q1933 q1934 q1935 q131 q1936) ⟨rfl, by decide +kernel, by decide +kernel, by decide +kernel⟩ rfl (by decide) (by decide) hl.1 (by simp [cA, I32_of]) (Nat.le_of_ble_eq_true rfl) dL_law_413 ⟨by omega, by omega⟩ ?_
  intro H2 locs2 hS hr2
  refine lv_icmp_eq (tgt := 1337) X.1 X.2.1 dL_law_416 (by decide) (fun _ => ?_) (fun hc => absurd rfl hc)
  exact kk h1 V1 u H2 locs2 _ _ hR1 hS hu hl (by omega) (by omega)
theorem lc_5 {p : Program} {l : Launch} {e : Env} {s : State} {m : MethodId} {b : Nat} {below : List Frame} {meth : Method} {c : Code} {D : va_G} {cT : Nat → ClassId} {adF : Int → Nat} {h0 h : XH} {V : VV} {ad : Int → Nat} {aM : Nat → Nat} {a0 : Nat} {H : Heap} {locs : List Loc} {ls : Array Slot} {cells slots : Nat} {Q : State → Prop} {L : Nat} {sv : Nat → Int32} {x3 : Int32} {Rr : XH → VV → Prop} (hst : l.stackTraces = false) (X : LWX p s m b c D cT adF h0) (hS : LWS D cT adF (lA s) s.heap h0 h V ad aM a0 H locs) (hob : 1 ≤ xn h ∧ xk h 1 = 1) (hxs : va_X b L sv s s.heap) (hbl : b < s.heap.size) (hbA : ¬ lA s b) (hin : ∀ j : Int32, 1 ≤ j → j ≤ 5 → vp_in (x3 + j) L)
    (hop : opOK (F_X0_end 1 (sv (x3 + 1).toNatClampNeg).toInt h) (M_end (sv (x3 + 1).toNatClampNeg).toInt V) Rr) (hcz : cells = xc h + 35 ∧ slots = xs h + SLM) (hl : lv_has ls 4 [(0, .ref b), (1, .ref (ad 1)), (2, .ref a0), (3, .int x3)])
    (kk : ∀ h1 V1 u H2 locs2 cells2 slots2, Rr h1 V1 → LWS D cT adF (lA s) s.heap h0 h1 V1 u aM a0 H2 locs2 → u 1 = ad 1 → lv_has ls 4 [(0, .ref b), (1, .ref (u 1)), (2, .ref a0), (3, .int x3)] → cells2 = xc h1 + 35 → slots2 = xs h1 + SLM → W p l e room_1 s m #[Value.ref b] below meth c H2 locs2 cells2 slots2 Q (F0 m 1337 ls [])) : W p l e room_1 s m #[Value.ref b] below meth c H locs cells slots Q (F0 m 421 ls []) := by
  have hn1 : 1 ≤ xn h := hob.1
  have hk1 : xk h 1 = 1 := hob.2
  obtain ⟨r, h1, V1, e1, e2, hR1, hc1, hs1⟩ := hop
  obtain ⟨hcz1, hcz2⟩ := hcz
  have hm1 := (WF_X0_end (Z := ((p, l, e, room_1, s, m, #[Value.ref b], below, meth, c), (D, cT, adF, ad, lA s), ((0, h), h))) (Nat.le_refl 2) 1 (sv (x3 + 1).toNatClampNeg).toInt h).1 (r, h1) e1
  dsimp only [xfh] at hm1
  refine lv_aload_n X.1 X.2.1 dL_law_421 rfl (lv_at hl 1 rfl) ?_
  refine lv_aload_n X.1 X.2.1 dL_law_422 rfl (lv_at hl 0 rfl) ?_
  refine lv_iload_n X.1 X.2.1 dL_law_423 rfl (lv_at hl 3 rfl) ?_
  refine lv_iconst (v := 1) X.1 X.2.1 dL_law_424 (by decide) ?_
  refine lv_iadd X.1 X.2.1 dL_law_425 ?_
  refine va_sld X.1 X.2.1 hxs hbl hbA hS.2.2.2.2.2.2.1 (hin 1 (by decide) (by decide)) dL_law_426 ?_
  refine lawX_i (args := [(0, (sv (x3 + 1).toNatClampNeg).toInt)]) (r := r) (h' := h1) (rest := []) X hS hn1 hk1 (fun hp => lawX_run (n := 1) X hS (SF_X0_end l (Nat.le_refl 2) 1 (sv (x3 + 1).toNatClampNeg).toInt h hS.2.2.2.2.2.2.2.1 (okXs.c (okX.r (by omega)) (okXs.c (okX.i (i32_in _)) okXs.nil)) (r, h1) e1) (lw_V q346 q347 q348 q124 q349) ⟨rfl, by decide +kernel, by decide +kernel, by decide +kernel⟩ rfl (by decide) (by decide) hl.1 (by simp [cX, I32_of]) (Nat.le_of_ble_eq_true rfl) dL_law_427 ⟨by omega, by omega⟩ hp) ?_
  intro u H1 locs1 hS hu hr
  rw [← hu] at hl
  refine lv_aload_n X.1 X.2.1 dL_law_430 rfl (lv_at hl 2 rfl) ?_
  refine lv_aload_n X.1 X.2.1 dL_law_431 rfl (lv_at hl 0 rfl) ?_
  refine lv_iload_n X.1 X.2.1 dL_law_432 rfl (lv_at hl 3 rfl) ?_
  refine lv_iconst (v := 1) X.1 X.2.1 dL_law_433 (by decide) ?_
  refine lv_iadd X.1 X.2.1 dL_law_434 ?_
  refine va_sld X.1 X.2.1 hxs hbl hbA hS.2.2.2.2.2.2.1 (hin 1 (by decide) (by decide)) dL_law_435 ?_
  refine lawM_i (args := [(0, (sv (x3 + 1).toNatClampNeg).toInt)]) (n := 1) (rest := [.int (I32 r)]) X hS (WM_end l (Nat.le_refl 2) (sv (x3 + 1).toNatClampNeg).toInt V hS.2.2.2.2.2.2.2.2.1 ((oks.c (okA.i (i32_in _)) oks.nil)) (r, V1) e2) (lw_V q1937 q1938 q1939 q131 q1940) ⟨rfl, by decide +kernel, by decide +kernel, by decide +kernel⟩ rfl (by decide) (by decide) hl.1 (by simp [cA, I32_of]) (Nat.le_of_ble_eq_true rfl) dL_law_436 ⟨by omega, by omega⟩ ?_
  intro H2 locs2 hS hr2
  refine lv_icmp_eq (tgt := 1337) X.1 X.2.1 dL_law_439 (by decide) (fun _ => ?_) (fun hc => absurd rfl hc)
  exact kk h1 V1 u H2 locs2 _ _ hR1 hS hu hl (by omega) (by omega)
theorem lc_6 {p : Program} {l : Launch} {e : Env} {s : State} {m : MethodId} {b : Nat} {below : List Frame} {meth : Method} {c : Code} {D : va_G} {cT : Nat → ClassId} {adF : Int → Nat} {h0 h : XH} {V : VV} {ad : Int → Nat} {aM : Nat → Nat} {a0 : Nat} {H : Heap} {locs : List Loc} {ls : Array Slot} {cells slots : Nat} {Q : State → Prop} {L : Nat} {sv : Nat → Int32} {x3 : Int32} {Rr : XH → VV → Prop} (hst : l.stackTraces = false) (X : LWX p s m b c D cT adF h0) (hS : LWS D cT adF (lA s) s.heap h0 h V ad aM a0 H locs) (hob : 1 ≤ xn h ∧ xk h 1 = 1) (hxs : va_X b L sv s s.heap) (hbl : b < s.heap.size) (hbA : ¬ lA s b) (hin : ∀ j : Int32, 1 ≤ j → j ≤ 5 → vp_in (x3 + j) L)
    (hop : opOK (F_X0_paper 1 h) (M_paper V) Rr) (hcz : cells = xc h + 35 ∧ slots = xs h + SLM) (hl : lv_has ls 4 [(0, .ref b), (1, .ref (ad 1)), (2, .ref a0), (3, .int x3)])
    (kk : ∀ h1 V1 u H2 locs2 cells2 slots2, Rr h1 V1 → LWS D cT adF (lA s) s.heap h0 h1 V1 u aM a0 H2 locs2 → u 1 = ad 1 → lv_has ls 4 [(0, .ref b), (1, .ref (u 1)), (2, .ref a0), (3, .int x3)] → cells2 = xc h1 + 35 → slots2 = xs h1 + SLM → W p l e room_1 s m #[Value.ref b] below meth c H2 locs2 cells2 slots2 Q (F0 m 1337 ls [])) : W p l e room_1 s m #[Value.ref b] below meth c H locs cells slots Q (F0 m 444 ls []) := by
  have hn1 : 1 ≤ xn h := hob.1
  have hk1 : xk h 1 = 1 := hob.2
  obtain ⟨r, h1, V1, e1, e2, hR1, hc1, hs1⟩ := hop
  obtain ⟨hcz1, hcz2⟩ := hcz
  have hm1 := (WF_X0_paper (Z := ((p, l, e, room_1, s, m, #[Value.ref b], below, meth, c), (D, cT, adF, ad, lA s), ((0, h), h))) (Nat.le_refl 71) 1 h).1 (r, h1) e1
  dsimp only [xfh] at hm1
  refine lv_aload_n X.1 X.2.1 dL_law_444 rfl (lv_at hl 1 rfl) ?_
  refine lawX_i (args := []) (r := r) (h' := h1) (rest := []) X hS hn1 hk1 (fun hp => lawX_runW (n := 0) X hS (SF_X0_paper l (Nat.le_refl 71) 1 h hS.2.2.2.2.2.2.2.1 (okXs.c (okX.r (by omega))  okXs.nil) hst (r, h1) e1) (lw_VW q527 q528 q529 q124 q530) ⟨rfl, by decide +kernel, by decide +kernel, by decide +kernel⟩ rfl (by decide) (by decide) hl.1 (by simp [cX, I32_of]) (Nat.le_of_ble_eq_true rfl) dL_law_445 ⟨by omega, by omega⟩ hp) ?_
  intro u H1 locs1 hS hu hr
  rw [← hu] at hl
  refine lv_aload_n X.1 X.2.1 dL_law_448 rfl (lv_at hl 2 rfl) ?_
  refine lawM_i (args := []) (n := 0) (rest := [.int (I32 r)]) X hS (WM_paper l (Nat.le_refl 128) V hS.2.2.2.2.2.2.2.2.1 oks.nil (r, V1) e2) (lw_V q1941 q1942 q1943 q131 q1944) ⟨rfl, by decide +kernel, by decide +kernel, by decide +kernel⟩ rfl (by decide) (by decide) hl.1 (by simp [cA, I32_of]) (Nat.le_of_ble_eq_true rfl) dL_law_449 ⟨by omega, by omega⟩ ?_
  intro H2 locs2 hS hr2
  refine lv_icmp_eq (tgt := 1337) X.1 X.2.1 dL_law_452 (by decide) (fun _ => ?_) (fun hc => absurd rfl hc)
  exact kk h1 V1 u H2 locs2 _ _ hR1 hS hu hl (by omega) (by omega)
theorem lc_7 {p : Program} {l : Launch} {e : Env} {s : State} {m : MethodId} {b : Nat} {below : List Frame} {meth : Method} {c : Code} {D : va_G} {cT : Nat → ClassId} {adF : Int → Nat} {h0 h : XH} {V : VV} {ad : Int → Nat} {aM : Nat → Nat} {a0 : Nat} {H : Heap} {locs : List Loc} {ls : Array Slot} {cells slots : Nat} {Q : State → Prop} {L : Nat} {sv : Nat → Int32} {x3 : Int32} {Rr : XH → VV → Prop} (hst : l.stackTraces = false) (X : LWX p s m b c D cT adF h0) (hS : LWS D cT adF (lA s) s.heap h0 h V ad aM a0 H locs) (hob : 1 ≤ xn h ∧ xk h 1 = 1) (hxs : va_X b L sv s s.heap) (hbl : b < s.heap.size) (hbA : ¬ lA s b) (hin : ∀ j : Int32, 1 ≤ j → j ≤ 5 → vp_in (x3 + j) L)
    (hop : opOK (F_X0_fault 1 h) (M_fault V) Rr) (hcz : cells = xc h + 35 ∧ slots = xs h + SLM) (hl : lv_has ls 4 [(0, .ref b), (1, .ref (ad 1)), (2, .ref a0), (3, .int x3)])
    (kk : ∀ h1 V1 u H2 locs2 cells2 slots2, Rr h1 V1 → LWS D cT adF (lA s) s.heap h0 h1 V1 u aM a0 H2 locs2 → u 1 = ad 1 → lv_has ls 4 [(0, .ref b), (1, .ref (u 1)), (2, .ref a0), (3, .int x3)] → cells2 = xc h1 + 35 → slots2 = xs h1 + SLM → W p l e room_1 s m #[Value.ref b] below meth c H2 locs2 cells2 slots2 Q (F0 m 1337 ls [])) : W p l e room_1 s m #[Value.ref b] below meth c H locs cells slots Q (F0 m 457 ls []) := by
  have hn1 : 1 ≤ xn h := hob.1
  have hk1 : xk h 1 = 1 := hob.2
  obtain ⟨r, h1, V1, e1, e2, hR1, hc1, hs1⟩ := hop
  obtain ⟨hcz1, hcz2⟩ := hcz
  have hm1 := (WF_X0_fault (Z := ((p, l, e, room_1, s, m, #[Value.ref b], below, meth, c), (D, cT, adF, ad, lA s), ((0, h), h))) (Nat.le_refl 1) 1 h).1 (r, h1) e1
  dsimp only [xfh] at hm1
  refine lv_aload_n X.1 X.2.1 dL_law_457 rfl (lv_at hl 1 rfl) ?_
  refine lawX_i (args := []) (r := r) (h' := h1) (rest := []) X hS hn1 hk1 (fun hp => lawX_run (n := 0) X hS (SF_X0_fault l (Nat.le_refl 1) 1 h hS.2.2.2.2.2.2.2.1 (okXs.c (okX.r (by omega))  okXs.nil) (r, h1) e1) (lw_V q893 q894 q895 q124 q896) ⟨rfl, by decide +kernel, by decide +kernel, by decide +kernel⟩ rfl (by decide) (by decide) hl.1 (by simp [cX, I32_of]) (Nat.le_of_ble_eq_true rfl) dL_law_458 ⟨by omega, by omega⟩ hp) ?_
  intro u H1 locs1 hS hu hr
  rw [← hu] at hl
  refine lv_aload_n X.1 X.2.1 dL_law_461 rfl (lv_at hl 2 rfl) ?_
  refine lawM_i (args := []) (n := 0) (rest := [.int (I32 r)]) X hS (WM_fault l (Nat.le_refl 1) V hS.2.2.2.2.2.2.2.2.1 oks.nil (r, V1) e2) (lw_V q2015 q2016 q2017 q131 q2018) ⟨rfl, by decide +kernel, by decide +kernel, by decide +kernel⟩ rfl (by decide) (by decide) hl.1 (by simp [cA, I32_of]) (Nat.le_of_ble_eq_true rfl) dL_law_462 ⟨by omega, by omega⟩ ?_
  intro H2 locs2 hS hr2
  refine lv_icmp_eq (tgt := 1337) X.1 X.2.1 dL_law_465 (by decide) (fun _ => ?_) (fun hc => absurd rfl hc)
  exact kk h1 V1 u H2 locs2 _ _ hR1 hS hu hl (by omega) (by omega)
theorem lc_8 {p : Program} {l : Launch} {e : Env} {s : State} {m : MethodId} {b : Nat} {below : List Frame} {meth : Method} {c : Code} {D : va_G} {cT : Nat → ClassId} {adF : Int → Nat} {h0 h : XH} {V : VV} {ad : Int → Nat} {aM : Nat → Nat} {a0 : Nat} {H : Heap} {locs : List Loc} {ls : Array Slot} {cells slots : Nat} {Q : State → Prop} {L : Nat} {sv : Nat → Int32} {x3 : Int32} {Rr : XH → VV → Prop} (hst : l.stackTraces = false) (X : LWX p s m b c D cT adF h0) (hS : LWS D cT adF (lA s) s.heap h0 h V ad aM a0 H locs) (hob : 1 ≤ xn h ∧ xk h 1 = 1) (hxs : va_X b L sv s s.heap) (hbl : b < s.heap.size) (hbA : ¬ lA s b) (hin : ∀ j : Int32, 1 ≤ j → j ≤ 5 → vp_in (x3 + j) L)
    (hop : opOK (F_X0_use 1 (sv (x3 + 1).toNatClampNeg).toInt h) (M_use (sv (x3 + 1).toNatClampNeg).toInt V) Rr) (hcz : cells = xc h + 35 ∧ slots = xs h + SLM) (hl : lv_has ls 4 [(0, .ref b), (1, .ref (ad 1)), (2, .ref a0), (3, .int x3)])
    (kk : ∀ h1 V1 u H2 locs2 cells2 slots2, Rr h1 V1 → LWS D cT adF (lA s) s.heap h0 h1 V1 u aM a0 H2 locs2 → u 1 = ad 1 → lv_has ls 4 [(0, .ref b), (1, .ref (u 1)), (2, .ref a0), (3, .int x3)] → cells2 = xc h1 + 35 → slots2 = xs h1 + SLM → W p l e room_1 s m #[Value.ref b] below meth c H2 locs2 cells2 slots2 Q (F0 m 1337 ls [])) : W p l e room_1 s m #[Value.ref b] below meth c H locs cells slots Q (F0 m 470 ls []) := by
  have hn1 : 1 ≤ xn h := hob.1
  have hk1 : xk h 1 = 1 := hob.2
  obtain ⟨r, h1, V1, e1, e2, hR1, hc1, hs1⟩ := hop
  obtain ⟨hcz1, hcz2⟩ := hcz
  have hm1 := (WF_X0_use (Z := ((p, l, e, room_1, s, m, #[Value.ref b], below, meth, c), (D, cT, adF, ad, lA s), ((0, h), h))) (Nat.le_refl 3) 1 (sv (x3 + 1).toNatClampNeg).toInt h).1 (r, h1) e1
  dsimp only [xfh] at hm1
  refine lv_aload_n X.1 X.2.1 dL_law_470 rfl (lv_at hl 1 rfl) ?_
  refine lv_aload_n X.1 X.2.1 dL_law_471 rfl (lv_at hl 0 rfl) ?_
  refine lv_iload_n X.1 X.2.1 dL_law_472 rfl (lv_at hl 3 rfl) ?_
  refine lv_iconst (v := 1) X.1 X.2.1 dL_law_473 (by decide) ?_
  refine lv_iadd X.1 X.2.1 dL_law_474 ?_
  refine va_sld X.1 X.2.1 hxs hbl hbA hS.2.2.2.2.2.2.1 (hin 1 (by decide) (by decide)) dL_law_475 ?_
  refine lawX_i (args := [(0, (sv (x3 + 1).toNatClampNeg).toInt)]) (r := r) (h' := h1) (rest := []) X hS hn1 hk1 (fun hp => lawX_run (n := 1) X hS (SF_X0_use l (Nat.le_refl 3) 1 (sv (x3 + 1).toNatClampNeg).toInt h hS.2.2.2.2.2.2.2.1 (okXs.c (okX.r (by omega)) (okXs.c (okX.i (i32_in _)) okXs.nil)) (r, h1) e1) (lw_V q897 q898 q899 q124 q900) ⟨rfl, by decide +kernel, by decide +kernel, by decide +kernel⟩ rfl (by decide) (by decide) hl.1 (by simp [cX, I32_of]) (Nat.le_of_ble_eq_true rfl) dL_law_476 ⟨by omega, by omega⟩ hp) ?_
  intro u H1 locs1 hS hu hr
  rw [← hu] at hl
  refine lv_aload_n X.1 X.2.1 dL_law_479 rfl (lv_at hl 2 rfl) ?_
  refine lv_aload_n X.1 X.2.1 dL_law_480 rfl (lv_at hl 0 rfl) ?_
  refine lv_iload_n X.1 X.2.1 dL_law_481 rfl (lv_at hl 3 rfl) ?_
  refine lv_iconst (v := 1) X.1 X.2.1 dL_law_482 (by decide) ?_
  refine lv_iadd X.1 X.2.1 dL_law_483 ?_
  refine va_sld X.1 X.2.1 hxs hbl hbA hS.2.2.2.2.2.2.1 (hin 1 (by decide) (by decide)) dL_law_484 ?_
  refine lawM_i (args := [(0, (sv (x3 + 1).toNatClampNeg).toInt)]) (n := 1) (rest := [.int (I32 r)]) X hS (WM_use l (Nat.le_refl 3) (sv (x3 + 1).toNatClampNeg).toInt V hS.2.2.2.2.2.2.2.2.1 ((oks.c (okA.i (i32_in _)) oks.nil)) (r, V1) e2) (lw_V q2019 q2020 q2021 q131 q2022) ⟨rfl, by decide +kernel, by decide +kernel, by decide +kernel⟩ rfl (by decide) (by decide) hl.1 (by simp [cA, I32_of]) (Nat.le_of_ble_eq_true rfl) dL_law_485 ⟨by omega, by omega⟩ ?_
  intro H2 locs2 hS hr2
  refine lv_icmp_eq (tgt := 1337) X.1 X.2.1 dL_law_488 (by decide) (fun _ => ?_) (fun hc => absurd rfl hc)
  exact kk h1 V1 u H2 locs2 _ _ hR1 hS hu hl (by omega) (by omega)
theorem lc_9 {p : Program} {l : Launch} {e : Env} {s : State} {m : MethodId} {b : Nat} {below : List Frame} {meth : Method} {c : Code} {D : va_G} {cT : Nat → ClassId} {adF : Int → Nat} {h0 h : XH} {V : VV} {ad : Int → Nat} {aM : Nat → Nat} {a0 : Nat} {H : Heap} {locs : List Loc} {ls : Array Slot} {cells slots : Nat} {Q : State → Prop} {L : Nat} {sv : Nat → Int32} {x3 : Int32} {Rr : XH → VV → Prop} (hst : l.stackTraces = false) (X : LWX p s m b c D cT adF h0) (hS : LWS D cT adF (lA s) s.heap h0 h V ad aM a0 H locs) (hob : 1 ≤ xn h ∧ xk h 1 = 1) (hxs : va_X b L sv s s.heap) (hbl : b < s.heap.size) (hbA : ¬ lA s b) (hin : ∀ j : Int32, 1 ≤ j → j ≤ 5 → vp_in (x3 + j) L)
    (hop : opOK (F_X0_takes 1 (sv (x3 + 1).toNatClampNeg).toInt (sv (x3 + 2).toNatClampNeg).toInt (sv (x3 + 3).toNatClampNeg).toInt h) (M_takes (sv (x3 + 1).toNatClampNeg).toInt (sv (x3 + 2).toNatClampNeg).toInt (sv (x3 + 3).toNatClampNeg).toInt V) Rr) (hcz : cells = xc h + 35 ∧ slots = xs h + SLM) (hl : lv_has ls 4 [(0, .ref b), (1, .ref (ad 1)), (2, .ref a0), (3, .int x3)])
    (kk : ∀ h1 V1 u H2 locs2 cells2 slots2, Rr h1 V1 → LWS D cT adF (lA s) s.heap h0 h1 V1 u aM a0 H2 locs2 → u 1 = ad 1 → lv_has ls 4 [(0, .ref b), (1, .ref (u 1)), (2, .ref a0), (3, .int x3)] → cells2 = xc h1 + 35 → slots2 = xs h1 + SLM → W p l e room_1 s m #[Value.ref b] below meth c H2 locs2 cells2 slots2 Q (F0 m 1337 ls [])) : W p l e room_1 s m #[Value.ref b] below meth c H locs cells slots Q (F0 m 493 ls []) := by
  have hn1 : 1 ≤ xn h := hob.1
  have hk1 : xk h 1 = 1 := hob.2
  obtain ⟨r, h1, V1, e1, e2, hR1, hc1, hs1⟩ := hop
  obtain ⟨hcz1, hcz2⟩ := hcz
  have hm1 := (WF_X0_takes (Z := ((p, l, e, room_1, s, m, #[Value.ref b], below, meth, c), (D, cT, adF, ad, lA s), ((0, h), h))) (Nat.le_refl 127) 1 (sv (x3 + 1).toNatClampNeg).toInt (sv (x3 + 2).toNatClampNeg).toInt (sv (x3 + 3).toNatClampNeg).toInt h).1 (r, h1) e1
  dsimp only [xfh] at hm1
  refine lv_aload_n X.1 X.2.1 dL_law_493 rfl (lv_at hl 1 rfl) ?_
  refine lv_aload_n X.1 X.2.1 dL_law_494 rfl (lv_at hl 0 rfl) ?_
  refine lv_iload_n X.1 X.2.1 dL_law_495 rfl (lv_at hl 3 rfl) ?_
  refine lv_iconst (v := 1) X.1 X.2.1 dL_law_496 (by decide) ?_
  refine lv_iadd X.1 X.2.1 dL_law_497 ?_
  refine va_sld X.1 X.2.1 hxs hbl hbA hS.2.2.2.2.2.2.1 (hin 1 (by decide) (by decide)) dL_law_498 ?_
  refine lv_aload_n X.1 X.2.1 dL_law_499 rfl (lv_at hl 0 rfl) ?_
  refine lv_iload_n X.1 X.2.1 dL_law_500 rfl (lv_at hl 3 rfl) ?_
  refine lv_iconst (v := 2) X.1 X.2.1 dL_law_501 (by decide) ?_
  refine lv_iadd X.1 X.2.1 dL_law_502 ?_
  refine va_sld X.1 X.2.1 hxs hbl hbA hS.2.2.2.2.2.2.1 (hin 2 (by decide) (by decide)) dL_law_503 ?_
  refine lv_aload_n X.1 X.2.1 dL_law_504 rfl (lv_at hl 0 rfl) ?_
  refine lv_iload_n X.1 X.2.1 dL_law_505 rfl (lv_at hl 3 rfl) ?_
  refine lv_iconst (v := 3) X.1 X.2.1 dL_law_506 (by decide) ?_
  refine lv_iadd X.1 X.2.1 dL_law_507 ?_
  refine va_sld X.1 X.2.1 hxs hbl hbA hS.2.2.2.2.2.2.1 (hin 3 (by decide) (by decide)) dL_law_508 ?_
  refine lawX_i (args := [(0, (sv (x3 + 1).toNatClampNeg).toInt), (0, (sv (x3 + 2).toNatClampNeg).toInt), (0, (sv (x3 + 3).toNatClampNeg).toInt)]) (r := r) (h' := h1) (rest := []) X hS hn1 hk1 (fun hp => lawX_run (n := 3) X hS (SF_X0_takes l (Nat.le_refl 127) 1 (sv (x3 + 1).toNatClampNeg).toInt (sv (x3 + 2).toNatClampNeg).toInt (sv (x3 + 3).toNatClampNeg).toInt h hS.2.2.2.2.2.2.2.1 (okXs.c (okX.r (by omega)) (okXs.c (okX.i (i32_in _)) (okXs.c (okX.i (i32_in _)) (okXs.c (okX.i (i32_in _)) okXs.nil)))) (r, h1) e1) (lw_V q905 q906 q907 q124 q908) ⟨rfl, by decide +kernel, by decide +kernel, by decide +kernel⟩ rfl (by decide) (by decide) hl.1 (by simp [cX, I32_of]) (Nat.le_of_ble_eq_true rfl) dL_law_509 ⟨by omega, by omega⟩ hp) ?_
  intro u H1 locs1 hS hu hr
  rw [← hu] at hl
  refine lv_aload_n X.1 X.2.1 dL_law_512 rfl (lv_at hl 2 rfl) ?_
  refine lv_aload_n X.1 X.2.1 dL_law_513 rfl (lv_at hl 0 rfl) ?_
  refine lv_iload_n X.1 X.2.1 dL_law_514 rfl (lv_at hl 3 rfl) ?_
  refine lv_iconst (v := 1) X.1 X.2.1 dL_law_515 (by decide) ?_
  refine lv_iadd X.1 X.2.1 dL_law_516 ?_
  refine va_sld X.1 X.2.1 hxs hbl hbA hS.2.2.2.2.2.2.1 (hin 1 (by decide) (by decide)) dL_law_517 ?_
  refine lv_aload_n X.1 X.2.1 dL_law_518 rfl (lv_at hl 0 rfl) ?_
  refine lv_iload_n X.1 X.2.1 dL_law_519 rfl (lv_at hl 3 rfl) ?_
  refine lv_iconst (v := 2) X.1 X.2.1 dL_law_520 (by decide) ?_
  refine lv_iadd X.1 X.2.1 dL_law_521 ?_
  refine va_sld X.1 X.2.1 hxs hbl hbA hS.2.2.2.2.2.2.1 (hin 2 (by decide) (by decide)) dL_law_522 ?_
  refine lv_aload_n X.1 X.2.1 dL_law_523 rfl (lv_at hl 0 rfl) ?_
  refine lv_iload_n X.1 X.2.1 dL_law_524 rfl (lv_at hl 3 rfl) ?_
  refine lv_iconst (v := 3) X.1 X.2.1 dL_law_525 (by decide) ?_
  refine lv_iadd X.1 X.2.1 dL_law_526 ?_
  refine va_sld X.1 X.2.1 hxs hbl hbA hS.2.2.2.2.2.2.1 (hin 3 (by decide) (by decide)) dL_law_527 ?_
  refine lawM_i (args := [(0, (sv (x3 + 1).toNatClampNeg).toInt), (0, (sv (x3 + 2).toNatClampNeg).toInt), (0, (sv (x3 + 3).toNatClampNeg).toInt)]) (n := 3) (rest := [.int (I32 r)]) X hS (WM_takes l (Nat.le_refl 127) (sv (x3 + 1).toNatClampNeg).toInt (sv (x3 + 2).toNatClampNeg).toInt (sv (x3 + 3).toNatClampNeg).toInt V hS.2.2.2.2.2.2.2.2.1 ((oks.c (okA.i (i32_in _)) (oks.c (okA.i (i32_in _)) (oks.c (okA.i (i32_in _)) oks.nil)))) (r, V1) e2) (lw_V q2023 q2024 q2025 q131 q2026) ⟨rfl, by decide +kernel, by decide +kernel, by decide +kernel⟩ rfl (by decide) (by decide) hl.1 (by simp [cA, I32_of]) (Nat.le_of_ble_eq_true rfl) dL_law_528 ⟨by omega, by omega⟩ ?_
  intro H2 locs2 hS hr2
  refine lv_icmp_eq (tgt := 1337) X.1 X.2.1 dL_law_531 (by decide) (fun _ => ?_) (fun hc => absurd rfl hc)
  exact kk h1 V1 u H2 locs2 _ _ hR1 hS hu hl (by omega) (by omega)
theorem lc_10 {p : Program} {l : Launch} {e : Env} {s : State} {m : MethodId} {b : Nat} {below : List Frame} {meth : Method} {c : Code} {D : va_G} {cT : Nat → ClassId} {adF : Int → Nat} {h0 h : XH} {V : VV} {ad : Int → Nat} {aM : Nat → Nat} {a0 : Nat} {H : Heap} {locs : List Loc} {ls : Array Slot} {cells slots : Nat} {Q : State → Prop} {L : Nat} {sv : Nat → Int32} {x3 : Int32} {Rr : XH → VV → Prop} (hst : l.stackTraces = false) (X : LWX p s m b c D cT adF h0) (hS : LWS D cT adF (lA s) s.heap h0 h V ad aM a0 H locs) (hob : 1 ≤ xn h ∧ xk h 1 = 1) (hxs : va_X b L sv s s.heap) (hbl : b < s.heap.size) (hbA : ¬ lA s b) (hin : ∀ j : Int32, 1 ≤ j → j ≤ 5 → vp_in (x3 + j) L)
    (hop : opOK (F_X0_keeps 1 (sv (x3 + 1).toNatClampNeg).toInt (sv (x3 + 2).toNatClampNeg).toInt h) (M_keeps (sv (x3 + 1).toNatClampNeg).toInt (sv (x3 + 2).toNatClampNeg).toInt V) Rr) (hcz : cells = xc h + 35 ∧ slots = xs h + SLM) (hl : lv_has ls 4 [(0, .ref b), (1, .ref (ad 1)), (2, .ref a0), (3, .int x3)])
    (kk : ∀ h1 V1 u H2 locs2 cells2 slots2, Rr h1 V1 → LWS D cT adF (lA s) s.heap h0 h1 V1 u aM a0 H2 locs2 → u 1 = ad 1 → lv_has ls 4 [(0, .ref b), (1, .ref (u 1)), (2, .ref a0), (3, .int x3)] → cells2 = xc h1 + 35 → slots2 = xs h1 + SLM → W p l e room_1 s m #[Value.ref b] below meth c H2 locs2 cells2 slots2 Q (F0 m 1337 ls [])) : W p l e room_1 s m #[Value.ref b] below meth c H locs cells slots Q (F0 m 536 ls []) := by
  have hn1 : 1 ≤ xn h := hob.1
  have hk1 : xk h 1 = 1 := hob.2
  obtain ⟨r, h1, V1, e1, e2, hR1, hc1, hs1⟩ := hop
  obtain ⟨hcz1, hcz2⟩ := hcz
  have hm1 := (WF_X0_keeps (Z := ((p, l, e, room_1, s, m, #[Value.ref b], below, meth, c), (D, cT, adF, ad, lA s), ((0, h), h))) (Nat.le_refl 127) 1 (sv (x3 + 1).toNatClampNeg).toInt (sv (x3 + 2).toNatClampNeg).toInt h).1 (r, h1) e1
  dsimp only [xfh] at hm1
  refine lv_aload_n X.1 X.2.1 dL_law_536 rfl (lv_at hl 1 rfl) ?_
  refine lv_aload_n X.1 X.2.1 dL_law_537 rfl (lv_at hl 0 rfl) ?_
  refine lv_iload_n X.1 X.2.1 dL_law_538 rfl (lv_at hl 3 rfl) ?_
  refine lv_iconst (v := 1) X.1 X.2.1 dL_law_539 (by decide) ?_
  refine lv_iadd X.1 X.2.1 dL_law_540 ?_
  refine va_sld X.1 X.2.1 hxs hbl hbA hS.2.2.2.2.2.2.1 (hin 1 (by decide) (by decide)) dL_law_541 ?_
  refine lv_aload_n X.1 X.2.1 dL_law_542 rfl (lv_at hl 0 rfl) ?_
  refine lv_iload_n X.1 X.2.1 dL_law_543 rfl (lv_at hl 3 rfl) ?_
  refine lv_iconst (v := 2) X.1 X.2.1 dL_law_544 (by decide) ?_
  refine lv_iadd X.1 X.2.1 dL_law_545 ?_
  refine va_sld X.1 X.2.1 hxs hbl hbA hS.2.2.2.2.2.2.1 (hin 2 (by decide) (by decide)) dL_law_546 ?_
  refine lawX_i (args := [(0, (sv (x3 + 1).toNatClampNeg).toInt), (0, (sv (x3 + 2).toNatClampNeg).toInt)]) (r := r) (h' := h1) (rest := []) X hS hn1 hk1 (fun hp => lawX_run (n := 2) X hS (SF_X0_keeps l (Nat.le_refl 127) 1 (sv (x3 + 1).toNatClampNeg).toInt (sv (x3 + 2).toNatClampNeg).toInt h hS.2.2.2.2.2.2.2.1 (okXs.c (okX.r (by omega)) (okXs.c (okX.i (i32_in _)) (okXs.c (okX.i (i32_in _)) okXs.nil))) (r, h1) e1) (lw_V q973 q974 q975 q124 q976) ⟨rfl, by decide +kernel, by decide +kernel, by decide +kernel⟩ rfl (by decide) (by decide) hl.1 (by simp [cX, I32_of]) (Nat.le_of_ble_eq_true rfl) dL_law_547 ⟨by omega, by omega⟩ hp) ?_
  intro u H1 locs1 hS hu hr
  rw [← hu] at hl
  refine lv_aload_n X.1 X.2.1 dL_law_550 rfl (lv_at hl 2 rfl) ?_
  refine lv_aload_n X.1 X.2.1 dL_law_551 rfl (lv_at hl 0 rfl) ?_
  refine lv_iload_n X.1 X.2.1 dL_law_552 rfl (lv_at hl 3 rfl) ?_
  refine lv_iconst (v := 1) X.1 X.2.1 dL_law_553 (by decide) ?_
  refine lv_iadd X.1 X.2.1 dL_law_554 ?_
  refine va_sld X.1 X.2.1 hxs hbl hbA hS.2.2.2.2.2.2.1 (hin 1 (by decide) (by decide)) dL_law_555 ?_
  refine lv_aload_n X.1 X.2.1 dL_law_556 rfl (lv_at hl 0 rfl) ?_
  refine lv_iload_n X.1 X.2.1 dL_law_557 rfl (lv_at hl 3 rfl) ?_
  refine lv_iconst (v := 2) X.1 X.2.1 dL_law_558 (by decide) ?_
  refine lv_iadd X.1 X.2.1 dL_law_559 ?_
  refine va_sld X.1 X.2.1 hxs hbl hbA hS.2.2.2.2.2.2.1 (hin 2 (by decide) (by decide)) dL_law_560 ?_
  refine lawM_i (args := [(0, (sv (x3 + 1).toNatClampNeg).toInt), (0, (sv (x3 + 2).toNatClampNeg).toInt)]) (n := 2) (rest := [.int (I32 r)]) X hS (WM_keeps l (Nat.le_refl 127) (sv (x3 + 1).toNatClampNeg).toInt (sv (x3 + 2).toNatClampNeg).toInt V hS.2.2.2.2.2.2.2.2.1 ((oks.c (okA.i (i32_in _)) (oks.c (okA.i (i32_in _)) oks.nil))) (r, V1) e2) (lw_V q2081 q2082 q2083 q131 q2084) ⟨rfl, by decide +kernel, by decide +kernel, by decide +kernel⟩ rfl (by decide) (by decide) hl.1 (by simp [cA, I32_of]) (Nat.le_of_ble_eq_true rfl) dL_law_561 ⟨by omega, by omega⟩ ?_
  intro H2 locs2 hS hr2
  refine lv_icmp_eq (tgt := 1337) X.1 X.2.1 dL_law_564 (by decide) (fun _ => ?_) (fun hc => absurd rfl hc)
  exact kk h1 V1 u H2 locs2 _ _ hR1 hS hu hl (by omega) (by omega)
