/-! printed by tools/genlaw.py: the law's cases -/
set_option maxRecDepth 100000
set_option maxHeartbeats 1000000
theorem lc_33 {p : Program} {l : Launch} {e : Env} {s : State} {m : MethodId} {b : Nat} {below : List Frame} {meth : Method} {c : Code} {D : va_G} {cT : Nat → ClassId} {adF : Int → Nat} {h0 h : XH} {V : VV} {ad : Int → Nat} {aM : Nat → Nat} {a0 : Nat} {H : Heap} {locs : List Loc} {ls : Array Slot} {cells slots : Nat} {Q : State → Prop} {L : Nat} {sv : Nat → Int32} {x3 : Int32} {Rr : XH → VV → Prop} (hst : l.stackTraces = false) (X : LWX p s m b c D cT adF h0) (hS : LWS D cT adF (lA s) s.heap h0 h V ad aM a0 H locs) (hob : 1 ≤ xn h ∧ xk h 1 = 1) (hxs : va_X b L sv s s.heap) (hbl : b < s.heap.size) (hbA : ¬ lA s b) (hin : ∀ j : Int32, 1 ≤ j → j ≤ 5 → vp_in (x3 + j) L)
    (hop : opOK (F_X0_drawn 1 (sv (x3 + 1).toNatClampNeg).toInt (sv (x3 + 2).toNatClampNeg).toInt h) (M_drawn (sv (x3 + 1).toNatClampNeg).toInt (sv (x3 + 2).toNatClampNeg).toInt V) Rr) (hcz : cells = xc h + 35 ∧ slots = xs h + SLM) (hl : lv_has ls 4 [(0, .ref b), (1, .ref (ad 1)), (2, .ref a0), (3, .int x3)])
    (kk : ∀ h1 V1 u H2 locs2 cells2 slots2, Rr h1 V1 → LWS D cT adF (lA s) s.heap h0 h1 V1 u aM a0 H2 locs2 → u 1 = ad 1 → lv_has ls 4 [(0, .ref b), (1, .ref (u 1)), (2, .ref a0), (3, .int x3)] → cells2 = xc h1 + 35 → slots2 = xs h1 + SLM → W p l e room_1 s m #[Value.ref b] below meth c H2 locs2 cells2 slots2 Q (F0 m 1337 ls [])) : W p l e room_1 s m #[Value.ref b] below meth c H locs cells slots Q (F0 m 1120 ls []) := by
  have hn1 : 1 ≤ xn h := hob.1
  have hk1 : xk h 1 = 1 := hob.2
  obtain ⟨r, h1, V1, e1, e2, hR1, hc1, hs1⟩ := hop
  obtain ⟨hcz1, hcz2⟩ := hcz
  have hm1 := (WF_X0_drawn (Z := ((p, l, e, room_1, s, m, #[Value.ref b], below, meth, c), (D, cT, adF, ad, lA s), ((0, h), h))) (Nat.le_refl 5) 1 (sv (x3 + 1).toNatClampNeg).toInt (sv (x3 + 2).toNatClampNeg).toInt h).1 (r, h1) e1
  dsimp only [xfh] at hm1
  refine lv_aload_n X.1 X.2.1 dL_law_1120 rfl (lv_at hl 1 rfl) ?_
  refine lv_aload_n X.1 X.2.1 dL_law_1121 rfl (lv_at hl 0 rfl) ?_
  refine lv_iload_n X.1 X.2.1 dL_law_1122 rfl (lv_at hl 3 rfl) ?_
  refine lv_iconst (v := 1) X.1 X.2.1 dL_law_1123 (by decide) ?_
  refine lv_iadd X.1 X.2.1 dL_law_1124 ?_
  refine va_sld X.1 X.2.1 hxs hbl hbA hS.2.2.2.2.2.2.1 (hin 1 (by decide) (by decide)) dL_law_1125 ?_
  refine lv_aload_n X.1 X.2.1 dL_law_1126 rfl (lv_at hl 0 rfl) ?_
  refine lv_iload_n X.1 X.2.1 dL_law_1127 rfl (lv_at hl 3 rfl) ?_
  refine lv_iconst (v := 2) X.1 X.2.1 dL_law_1128 (by decide) ?_
  refine lv_iadd X.1 X.2.1 dL_law_1129 ?_
  refine va_sld X.1 X.2.1 hxs hbl hbA hS.2.2.2.2.2.2.1 (hin 2 (by decide) (by decide)) dL_law_1130 ?_
  refine lawX_i (args := [(0, (sv (x3 + 1).toNatClampNeg).toInt), (0, (sv (x3 + 2).toNatClampNeg).toInt)]) (r := r) (h' := h1) (rest := []) X hS hn1 hk1 (fun hp => lawX_run (n := 2) X hS (SF_X0_drawn l (Nat.le_refl 5) 1 (sv (x3 + 1).toNatClampNeg).toInt (sv (x3 + 2).toNatClampNeg).toInt h hS.2.2.2.2.2.2.2.1 (okXs.c (okX.r (by omega)) (okXs.c (okX.i (i32_in _)) (okXs.c (okX.i (i32_in _)) okXs.nil))) (r, h1) e1) (lw_V q1501 q1502 q1503 q124 q1504) ⟨rfl, by decide +kernel, by decide +kernel, by decide +kernel⟩ rfl (by decide) (by decide) hl.1 (by simp [cX, I32_of]) (Nat.le_of_ble_eq_true rfl) dL_law_1131 ⟨by omega, by omega⟩ hp) ?_
  intro u H1 locs1 hS hu hr
  rw [← hu] at hl
  refine lv_aload_n X.1 X.2.1 dL_law_1134 rfl (lv_at hl 2 rfl) ?_
  refine lv_aload_n X.1 X.2.1 dL_law_1135 rfl (lv_at hl 0 rfl) ?_
  refine lv_iload_n X.1 X.2.1 dL_law_1136 rfl (lv_at hl 3 rfl) ?_
  refine lv_iconst (v := 1) X.1 X.2.1 dL_law_1137 (by decide) ?_
  refine lv_iadd X.1 X.2.1 dL_law_1138 ?_
  refine va_sld X.1 X.2.1 hxs hbl hbA hS.2.2.2.2.2.2.1 (hin 1 (by decide) (by decide)) dL_law_1139 ?_
  refine lv_aload_n X.1 X.2.1 dL_law_1140 rfl (lv_at hl 0 rfl) ?_
  refine lv_iload_n X.1 X.2.1 dL_law_1141 rfl (lv_at hl 3 rfl) ?_
  refine lv_iconst (v := 2) X.1 X.2.1 dL_law_1142 (by decide) ?_
  refine lv_iadd X.1 X.2.1 dL_law_1143 ?_
  refine va_sld X.1 X.2.1 hxs hbl hbA hS.2.2.2.2.2.2.1 (hin 2 (by decide) (by decide)) dL_law_1144 ?_
  refine lawM_i (args := [(0, (sv (x3 + 1).toNatClampNeg).toInt), (0, (sv (x3 + 2).toNatClampNeg).toInt)]) (n := 2) (rest := [.int (I32 r)]) X hS (WM_drawn l (Nat.le_refl 3) (sv (x3 + 1).toNatClampNeg).toInt (sv (x3 + 2).toNatClampNeg).toInt V hS.2.2.2.2.2.2.2.2.1 ((oks.c (okA.i (i32_in _)) (oks.c (okA.i (i32_in _)) oks.nil))) (r, V1) e2) (lw_V q2301 q2302 q2303 q131 q2304) ⟨rfl, by decide +kernel, by decide +kernel, by decide +kernel⟩ rfl (by decide) (by decide) hl.1 (by simp [cA, I32_of]) (Nat.le_of_ble_eq_true rfl) dL_law_1145 ⟨by omega, by omega⟩ ?_
  intro H2 locs2 hS hr2
  refine lv_icmp_eq (tgt := 1337) X.1 X.2.1 dL_law_1148 (by decide) (fun _ => ?_) (fun hc => absurd rfl hc)
  exact kk h1 V1 u H2 locs2 _ _ hR1 hS hu hl (by omega) (by omega)
theorem lc_34 {p : Program} {l : Launch} {e : Env} {s : State} {m : MethodId} {b : Nat} {below : List Frame} {meth : Method} {c : Code} {D : va_G} {cT : Nat → ClassId} {adF : Int → Nat} {h0 h : XH} {V : VV} {ad : Int → Nat} {aM : Nat → Nat} {a0 : Nat} {H : Heap} {locs : List Loc} {ls : Array Slot} {cells slots : Nat} {Q : State → Prop} {L : Nat} {sv : Nat → Int32} {x3 : Int32} {Rr : XH → VV → Prop} (hst : l.stackTraces = false) (X : LWX p s m b c D cT adF h0) (hS : LWS D cT adF (lA s) s.heap h0 h V ad aM a0 H locs) (hob : 1 ≤ xn h ∧ xk h 1 = 1) (hxs : va_X b L sv s s.heap) (hbl : b < s.heap.size) (hbA : ¬ lA s b) (hin : ∀ j : Int32, 1 ≤ j → j ≤ 5 → vp_in (x3 + j) L)
    (hop : opOK (F_X0_seldom 1 (sv (x3 + 1).toNatClampNeg).toInt h) (M_seldom (sv (x3 + 1).toNatClampNeg).toInt V) Rr) (hcz : cells = xc h + 35 ∧ slots = xs h + SLM) (hl : lv_has ls 4 [(0, .ref b), (1, .ref (ad 1)), (2, .ref a0), (3, .int x3)])
    (kk : ∀ h1 V1 u H2 locs2 cells2 slots2, Rr h1 V1 → LWS D cT adF (lA s) s.heap h0 h1 V1 u aM a0 H2 locs2 → u 1 = ad 1 → lv_has ls 4 [(0, .ref b), (1, .ref (u 1)), (2, .ref a0), (3, .int x3)] → cells2 = xc h1 + 35 → slots2 = xs h1 + SLM → W p l e room_1 s m #[Value.ref b] below meth c H2 locs2 cells2 slots2 Q (F0 m 1337 ls [])) : W p l e room_1 s m #[Value.ref b] below meth c H locs cells slots Q (F0 m 1153 ls []) := by
  have hn1 : 1 ≤ xn h := hob.1
  have hk1 : xk h 1 = 1 := hob.2
  obtain ⟨r, h1, V1, e1, e2, hR1, hc1, hs1⟩ := hop
  obtain ⟨hcz1, hcz2⟩ := hcz
  have hm1 := (WF_X0_seldom (Z := ((p, l, e, room_1, s, m, #[Value.ref b], below, meth, c), (D, cT, adF, ad, lA s), ((0, h), h))) (Nat.le_refl 7) 1 (sv (x3 + 1).toNatClampNeg).toInt h).1 (r, h1) e1
  dsimp only [xfh] at hm1
  refine lv_aload_n X.1 X.2.1 dL_law_1153 rfl (lv_at hl 1 rfl) ?_
  refine lv_aload_n X.1 X.2.1 dL_law_1154 rfl (lv_at hl 0 rfl) ?_
  refine lv_iload_n X.1 X.2.1 dL_law_1155 rfl (lv_at hl 3 rfl) ?_
  refine lv_iconst (v := 1) X.1 X.2.1 dL_law_1156 (by decide) ?_
  refine lv_iadd X.1 X.2.1 dL_law_1157 ?_
  refine va_sld X.1 X.2.1 hxs hbl hbA hS.2.2.2.2.2.2.1 (hin 1 (by decide) (by decide)) dL_law_1158 ?_
  refine lawX_i (args := [(0, (sv (x3 + 1).toNatClampNeg).toInt)]) (r := r) (h' := h1) (rest := []) X hS hn1 hk1 (fun hp => lawX_run (n := 1) X hS (SF_X0_seldom l (Nat.le_refl 7) 1 (sv (x3 + 1).toNatClampNeg).toInt h hS.2.2.2.2.2.2.2.1 (okXs.c (okX.r (by omega)) (okXs.c (okX.i (i32_in _)) okXs.nil)) (r, h1) e1) (lw_V q1505 q1506 q1507 q124 q1508) ⟨rfl, by decide +kernel, by decide +kernel, by decide +kernel⟩ rfl (by decide) (by decide) hl.1 (by simp [cX, I32_of]) (Nat.le_of_ble_eq_true rfl) dL_law_1159 ⟨by omega, by omega⟩ hp) ?_
  intro u H1 locs1 hS hu hr
  rw [← hu] at hl
  refine lv_aload_n X.1 X.2.1 dL_law_1162 rfl (lv_at hl 2 rfl) ?_
  refine lv_aload_n X.1 X.2.1 dL_law_1163 rfl (lv_at hl 0 rfl) ?_
  refine lv_iload_n X.1 X.2.1 dL_law_1164 rfl (lv_at hl 3 rfl) ?_
  refine lv_iconst (v := 1) X.1 X.2.1 dL_law_1165 (by decide) ?_
  refine lv_iadd X.1 X.2.1 dL_law_1166 ?_
  refine va_sld X.1 X.2.1 hxs hbl hbA hS.2.2.2.2.2.2.1 (hin 1 (by decide) (by decide)) dL_law_1167 ?_
  refine lawM_i (args := [(0, (sv (x3 + 1).toNatClampNeg).toInt)]) (n := 1) (rest := [.int (I32 r)]) X hS (WM_seldom l (Nat.le_refl 3) (sv (x3 + 1).toNatClampNeg).toInt V hS.2.2.2.2.2.2.2.2.1 ((oks.c (okA.i (i32_in _)) oks.nil)) (r, V1) e2) (lw_V q2309 q2310 q2311 q131 q2312) ⟨rfl, by decide +kernel, by decide +kernel, by decide +kernel⟩ rfl (by decide) (by decide) hl.1 (by simp [cA, I32_of]) (Nat.le_of_ble_eq_true rfl) dL_law_1168 ⟨by omega, by omega⟩ ?_
  intro H2 locs2 hS hr2
  refine lv_icmp_eq (tgt := 1337) X.1 X.2.1 dL_law_1171 (by decide) (fun _ => ?_) (fun hc => absurd rfl hc)
  exact kk h1 V1 u H2 locs2 _ _ hR1 hS hu hl (by omega) (by omega)
theorem lc_35 {p : Program} {l : Launch} {e : Env} {s : State} {m : MethodId} {b : Nat} {below : List Frame} {meth : Method} {c : Code} {D : va_G} {cT : Nat → ClassId} {adF : Int → Nat} {h0 h : XH} {V : VV} {ad : Int → Nat} {aM : Nat → Nat} {a0 : Nat} {H : Heap} {locs : List Loc} {ls : Array Slot} {cells slots : Nat} {Q : State → Prop} {L : Nat} {sv : Nat → Int32} {x3 : Int32} {Rr : XH → VV → Prop} (hst : l.stackTraces = false) (X : LWX p s m b c D cT adF h0) (hS : LWS D cT adF (lA s) s.heap h0 h V ad aM a0 H locs) (hob : 1 ≤ xn h ∧ xk h 1 = 1) (hxs : va_X b L sv s s.heap) (hbl : b < s.heap.size) (hbA : ¬ lA s b) (hin : ∀ j : Int32, 1 ≤ j → j ≤ 5 → vp_in (x3 + j) L)
    (hop : opOK (F_X0_exam 1 (sv (x3 + 1).toNatClampNeg).toInt h) (M_exam (sv (x3 + 1).toNatClampNeg).toInt V) Rr) (hcz : cells = xc h + 35 ∧ slots = xs h + SLM) (hl : lv_has ls 4 [(0, .ref b), (1, .ref (ad 1)), (2, .ref a0), (3, .int x3)])
    (kk : ∀ h1 V1 u H2 locs2 cells2 slots2, Rr h1 V1 → LWS D cT adF (lA s) s.heap h0 h1 V1 u aM a0 H2 locs2 → u 1 = ad 1 → lv_has ls 4 [(0, .ref b), (1, .ref (u 1)), (2, .ref a0), (3, .int x3)] → cells2 = xc h1 + 35 → slots2 = xs h1 + SLM → W p l e room_1 s m #[Value.ref b] below meth c H2 locs2 cells2 slots2 Q (F0 m 1337 ls [])) : W p l e room_1 s m #[Value.ref b] below meth c H locs cells slots Q (F0 m 1176 ls []) := by
  have hn1 : 1 ≤ xn h := hob.1
  have hk1 : xk h 1 = 1 := hob.2
  obtain ⟨r, h1, V1, e1, e2, hR1, hc1, hs1⟩ := hop
  obtain ⟨hcz1, hcz2⟩ := hcz
  have hm1 := (WF_X0_exam (Z := ((p, l, e, room_1, s, m, #[Value.ref b], below, meth, c), (D, cT, adF, ad, lA s), ((0, h), h))) (Nat.le_refl 129) 1 (sv (x3 + 1).toNatClampNeg).toInt h).1 (r, h1) e1
  dsimp only [xfh] at hm1
  refine lv_aload_n X.1 X.2.1 dL_law_1176 rfl (lv_at hl 1 rfl) ?_
  refine lv_aload_n X.1 X.2.1 dL_law_1177 rfl (lv_at hl 0 rfl) ?_
  refine lv_iload_n X.1 X.2.1 dL_law_1178 rfl (lv_at hl 3 rfl) ?_
  refine lv_iconst (v := 1) X.1 X.2.1 dL_law_1179 (by decide) ?_
  refine lv_iadd X.1 X.2.1 dL_law_1180 ?_
  refine va_sld X.1 X.2.1 hxs hbl hbA hS.2.2.2.2.2.2.1 (hin 1 (by decide) (by decide)) dL_law_1181 ?_
  refine lawX_i (args := [(0, (sv (x3 + 1).toNatClampNeg).toInt)]) (r := r) (h' := h1) (rest := []) X hS hn1 hk1 (fun hp => lawX_run (n := 1) X hS (SF_X0_exam l (Nat.le_refl 129) 1 (sv (x3 + 1).toNatClampNeg).toInt h hS.2.2.2.2.2.2.2.1 (okXs.c (okX.r (by omega)) (okXs.c (okX.i (i32_in _)) okXs.nil)) (r, h1) e1) (lw_V q1559 q1560 q1561 q124 q1562) ⟨rfl, by decide +kernel, by decide +kernel, by decide +kernel⟩ rfl (by decide) (by decide) hl.1 (by simp [cX, I32_of]) (Nat.le_of_ble_eq_true rfl) dL_law_1182 ⟨by omega, by omega⟩ hp) ?_
  intro u H1 locs1 hS hu hr
  rw [← hu] at hl
  refine lv_aload_n X.1 X.2.1 dL_law_1185 rfl (lv_at hl 2 rfl) ?_
  refine lv_aload_n X.1 X.2.1 dL_law_1186 rfl (lv_at hl 0 rfl) ?_
  refine lv_iload_n X.1 X.2.1 dL_law_1187 rfl (lv_at hl 3 rfl) ?_
  refine lv_iconst (v := 1) X.1 X.2.1 dL_law_1188 (by decide) ?_
  refine lv_iadd X.1 X.2.1 dL_law_1189 ?_
  refine va_sld X.1 X.2.1 hxs hbl hbA hS.2.2.2.2.2.2.1 (hin 1 (by decide) (by decide)) dL_law_1190 ?_
  refine lawM_i (args := [(0, (sv (x3 + 1).toNatClampNeg).toInt)]) (n := 1) (rest := [.int (I32 r)]) X hS (WM_exam l (Nat.le_refl 129) (sv (x3 + 1).toNatClampNeg).toInt V hS.2.2.2.2.2.2.2.2.1 ((oks.c (okA.i (i32_in _)) oks.nil)) (r, V1) e2) (lw_V q2333 q2334 q2335 q131 q2336) ⟨rfl, by decide +kernel, by decide +kernel, by decide +kernel⟩ rfl (by decide) (by decide) hl.1 (by simp [cA, I32_of]) (Nat.le_of_ble_eq_true rfl) dL_law_1191 ⟨by omega, by omega⟩ ?_
  intro H2 locs2 hS hr2
  refine lv_icmp_eq (tgt := 1337) X.1 X.2.1 dL_law_1194 (by decide) (fun _ => ?_) (fun hc => absurd rfl hc)
  exact kk h1 V1 u H2 locs2 _ _ hR1 hS hu hl (by omega) (by omega)
theorem lc_36 {p : Program} {l : Launch} {e : Env} {s : State} {m : MethodId} {b : Nat} {below : List Frame} {meth : Method} {c : Code} {D : va_G} {cT : Nat → ClassId} {adF : Int → Nat} {h0 h : XH} {V : VV} {ad : Int → Nat} {aM : Nat → Nat} {a0 : Nat} {H : Heap} {locs : List Loc} {ls : Array Slot} {cells slots : Nat} {Q : State → Prop} {L : Nat} {sv : Nat → Int32} {x3 : Int32} {Rr : XH → VV → Prop} (hst : l.stackTraces = false) (X : LWX p s m b c D cT adF h0) (hS : LWS D cT adF (lA s) s.heap h0 h V ad aM a0 H locs) (hob : 1 ≤ xn h ∧ xk h 1 = 1) (hxs : va_X b L sv s s.heap) (hbl : b < s.heap.size) (hbA : ¬ lA s b) (hin : ∀ j : Int32, 1 ≤ j → j ≤ 5 → vp_in (x3 + j) L)
    (hop : opOK (F_X0_table 1 (sv (x3 + 1).toNatClampNeg).toInt h) (M_table (sv (x3 + 1).toNatClampNeg).toInt V) Rr) (hcz : cells = xc h + 35 ∧ slots = xs h + SLM) (hl : lv_has ls 4 [(0, .ref b), (1, .ref (ad 1)), (2, .ref a0), (3, .int x3)])
    (kk : ∀ h1 V1 u H2 locs2 cells2 slots2, Rr h1 V1 → LWS D cT adF (lA s) s.heap h0 h1 V1 u aM a0 H2 locs2 → u 1 = ad 1 → lv_has ls 4 [(0, .ref b), (1, .ref (u 1)), (2, .ref a0), (3, .int x3)] → cells2 = xc h1 + 35 → slots2 = xs h1 + SLM → W p l e room_1 s m #[Value.ref b] below meth c H2 locs2 cells2 slots2 Q (F0 m 1337 ls [])) : W p l e room_1 s m #[Value.ref b] below meth c H locs cells slots Q (F0 m 1199 ls []) := by
  have hn1 : 1 ≤ xn h := hob.1
  have hk1 : xk h 1 = 1 := hob.2
  obtain ⟨r, h1, V1, e1, e2, hR1, hc1, hs1⟩ := hop
  obtain ⟨hcz1, hcz2⟩ := hcz
  have hm1 := (WF_X0_table (Z := ((p, l, e, room_1, s, m, #[Value.ref b], below, meth, c), (D, cT, adF, ad, lA s), ((0, h), h))) (Nat.le_refl 1) 1 (sv (x3 + 1).toNatClampNeg).toInt h).1 (r, h1) e1
  dsimp only [xfh] at hm1
  refine lv_aload_n X.1 X.2.1 dL_law_1199 rfl (lv_at hl 1 rfl) ?_
  refine lv_aload_n X.1 X.2.1 dL_law_1200 rfl (lv_at hl 0 rfl) ?_
  refine lv_iload_n X.1 X.2.1 dL_law_1201 rfl (lv_at hl 3 rfl) ?_
  refine lv_iconst (v := 1) X.1 X.2.1 dL_law_1202 (by decide) ?_
  refine lv_iadd X.1 X.2.1 dL_law_1203 ?_
  refine va_sld X.1 X.2.1 hxs hbl hbA hS.2.2.2.2.2.2.1 (hin 1 (by decide) (by decide)) dL_law_1204 ?_
  refine lawX_i (args := [(0, (sv (x3 + 1).toNatClampNeg).toInt)]) (r := r) (h' := h1) (rest := []) X hS hn1 hk1 (fun hp => lawX_run (n := 1) X hS (SF_X0_table l (Nat.le_refl 1) 1 (sv (x3 + 1).toNatClampNeg).toInt h hS.2.2.2.2.2.2.2.1 (okXs.c (okX.r (by omega)) (okXs.c (okX.i (i32_in _)) okXs.nil)) (r, h1) e1) (lw_V q1614 q1615 q1616 q124 q1617) ⟨rfl, by decide +kernel, by decide +kernel, by decide +kernel⟩ rfl (by decide) (by decide) hl.1 (by simp [cX, I32_of]) (Nat.le_of_ble_eq_true rfl) dL_law_1205 ⟨by omega, by omega⟩ hp) ?_
  intro u H1 locs1 hS hu hr
  rw [← hu] at hl
  refine lv_aload_n X.1 X.2.1 dL_law_1208 rfl (lv_at hl 2 rfl) ?_
  refine lv_aload_n X.1 X.2.1 dL_law_1209 rfl (lv_at hl 0 rfl) ?_
  refine lv_iload_n X.1 X.2.1 dL_law_1210 rfl (lv_at hl 3 rfl) ?_
  refine lv_iconst (v := 1) X.1 X.2.1 dL_law_1211 (by decide) ?_
  refine lv_iadd X.1 X.2.1 dL_law_1212 ?_
  refine va_sld X.1 X.2.1 hxs hbl hbA hS.2.2.2.2.2.2.1 (hin 1 (by decide) (by decide)) dL_law_1213 ?_
  refine lawM_i (args := [(0, (sv (x3 + 1).toNatClampNeg).toInt)]) (n := 1) (rest := [.int (I32 r)]) X hS (WM_table l (Nat.le_refl 2) (sv (x3 + 1).toNatClampNeg).toInt V hS.2.2.2.2.2.2.2.2.1 ((oks.c (okA.i (i32_in _)) oks.nil)) (r, V1) e2) (lw_V q2354 q2355 q2356 q131 q2357) ⟨rfl, by decide +kernel, by decide +kernel, by decide +kernel⟩ rfl (by decide) (by decide) hl.1 (by simp [cA, I32_of]) (Nat.le_of_ble_eq_true rfl) dL_law_1214 ⟨by omega, by omega⟩ ?_
  intro H2 locs2 hS hr2
  refine lv_icmp_eq (tgt := 1337) X.1 X.2.1 dL_law_1217 (by decide) (fun _ => ?_) (fun hc => absurd rfl hc)
  exact kk h1 V1 u H2 locs2 _ _ hR1 hS hu hl (by omega) (by omega)
theorem lc_37 {p : Program} {l : Launch} {e : Env} {s : State} {m : MethodId} {b : Nat} {below : List Frame} {meth : Method} {c : Code} {D : va_G} {cT : Nat → ClassId} {adF : Int → Nat} {h0 h : XH} {V : VV} {ad : Int → Nat} {aM : Nat → Nat} {a0 : Nat} {H : Heap} {locs : List Loc} {ls : Array Slot} {cells slots : Nat} {Q : State → Prop} {L : Nat} {sv : Nat → Int32} {x3 : Int32} {Rr : XH → VV → Prop} (hst : l.stackTraces = false) (X : LWX p s m b c D cT adF h0) (hS : LWS D cT adF (lA s) s.heap h0 h V ad aM a0 H locs) (hob : 1 ≤ xn h ∧ xk h 1 = 1) (hxs : va_X b L sv s s.heap) (hbl : b < s.heap.size) (hbA : ¬ lA s b) (hin : ∀ j : Int32, 1 ≤ j → j ≤ 5 → vp_in (x3 + j) L)
    (hop : opOK (F_X0_exams 1 (sv (x3 + 1).toNatClampNeg).toInt (sv (x3 + 2).toNatClampNeg).toInt h) (M_exams (sv (x3 + 1).toNatClampNeg).toInt (sv (x3 + 2).toNatClampNeg).toInt V) Rr) (hcz : cells = xc h + 35 ∧ slots = xs h + SLM) (hl : lv_has ls 4 [(0, .ref b), (1, .ref (ad 1)), (2, .ref a0), (3, .int x3)])
    (kk : ∀ h1 V1 u H2 locs2 cells2 slots2, Rr h1 V1 → LWS D cT adF (lA s) s.heap h0 h1 V1 u aM a0 H2 locs2 → u 1 = ad 1 → lv_has ls 4 [(0, .ref b), (1, .ref (u 1)), (2, .ref a0), (3, .int x3)] → cells2 = xc h1 + 35 → slots2 = xs h1 + SLM → W p l e room_1 s m #[Value.ref b] below meth c H2 locs2 cells2 slots2 Q (F0 m 1337 ls [])) : W p l e room_1 s m #[Value.ref b] below meth c H locs cells slots Q (F0 m 1222 ls []) := by
  have hn1 : 1 ≤ xn h := hob.1
  have hk1 : xk h 1 = 1 := hob.2
  obtain ⟨r, h1, V1, e1, e2, hR1, hc1, hs1⟩ := hop
  obtain ⟨hcz1, hcz2⟩ := hcz
  have hm1 := (WF_X0_exams (Z := ((p, l, e, room_1, s, m, #[Value.ref b], below, meth, c), (D, cT, adF, ad, lA s), ((0, h), h))) (Nat.le_refl 129) 1 (sv (x3 + 1).toNatClampNeg).toInt (sv (x3 + 2).toNatClampNeg).toInt h).1 (r, h1) e1
  dsimp only [xfh] at hm1
  refine lv_aload_n X.1 X.2.1 dL_law_1222 rfl (lv_at hl 1 rfl) ?_
  refine lv_aload_n X.1 X.2.1 dL_law_1223 rfl (lv_at hl 0 rfl) ?_
  refine lv_iload_n X.1 X.2.1 dL_law_1224 rfl (lv_at hl 3 rfl) ?_
  refine lv_iconst (v := 1) X.1 X.2.1 dL_law_1225 (by decide) ?_
  refine lv_iadd X.1 X.2.1 dL_law_1226 ?_
  refine va_sld X.1 X.2.1 hxs hbl hbA hS.2.2.2.2.2.2.1 (hin 1 (by decide) (by decide)) dL_law_1227 ?_
  refine lv_aload_n X.1 X.2.1 dL_law_1228 rfl (lv_at hl 0 rfl) ?_
  refine lv_iload_n X.1 X.2.1 dL_law_1229 rfl (lv_at hl 3 rfl) ?_
  refine lv_iconst (v := 2) X.1 X.2.1 dL_law_1230 (by decide) ?_
  refine lv_iadd X.1 X.2.1 dL_law_1231 ?_
  refine va_sld X.1 X.2.1 hxs hbl hbA hS.2.2.2.2.2.2.1 (hin 2 (by decide) (by decide)) dL_law_1232 ?_
  refine lawX_i (args := [(0, (sv (x3 + 1).toNatClampNeg).toInt), (0, (sv (x3 + 2).toNatClampNeg).toInt)]) (r := r) (h' := h1) (rest := []) X hS hn1 hk1 (fun hp => lawX_run (n := 2) X hS (SF_X0_exams l (Nat.le_refl 129) 1 (sv (x3 + 1).toNatClampNeg).toInt (sv (x3 + 2).toNatClampNeg).toInt h hS.2.2.2.2.2.2.2.1 (okXs.c (okX.r (by omega)) (okXs.c (okX.i (i32_in _)) (okXs.c (okX.i (i32_in _)) okXs.nil))) (r, h1) e1) (lw_V q1618 q1619 q1620 q124 q1621) ⟨rfl, by decide +kernel, by decide +kernel, by decide +kernel⟩ rfl (by decide) (by decide) hl.1 (by simp [cX, I32_of]) (Nat.le_of_ble_eq_true rfl) dL_law_1233 ⟨by omega, by omega⟩ hp) ?_
  intro u H1 locs1 hS hu hr
  rw [← hu] at hl
  refine lv_aload_n X.1 X.2.1 dL_law_1236 rfl (lv_at hl 2 rfl) ?_
  refine lv_aload_n X.1 X.2.1 dL_law_1237 rfl (lv_at hl 0 rfl) ?_
  refine lv_iload_n X.1 X.2.1 dL_law_1238 rfl (lv_at hl 3 rfl) ?_
  refine lv_iconst (v := 1) X.1 X.2.1 dL_law_1239 (by decide) ?_
  refine lv_iadd X.1 X.2.1 dL_law_1240 ?_
  refine va_sld X.1 X.2.1 hxs hbl hbA hS.2.2.2.2.2.2.1 (hin 1 (by decide) (by decide)) dL_law_1241 ?_
  refine lv_aload_n X.1 X.2.1 dL_law_1242 rfl (lv_at hl 0 rfl) ?_
  refine lv_iload_n X.1 X.2.1 dL_law_1243 rfl (lv_at hl 3 rfl) ?_
  refine lv_iconst (v := 2) X.1 X.2.1 dL_law_1244 (by decide) ?_
  refine lv_iadd X.1 X.2.1 dL_law_1245 ?_
  refine va_sld X.1 X.2.1 hxs hbl hbA hS.2.2.2.2.2.2.1 (hin 2 (by decide) (by decide)) dL_law_1246 ?_
  refine lawM_i (args := [(0, (sv (x3 + 1).toNatClampNeg).toInt), (0, (sv (x3 + 2).toNatClampNeg).toInt)]) (n := 2) (rest := [.int (I32 r)]) X hS (WM_exams l (Nat.le_refl 129) (sv (x3 + 1).toNatClampNeg).toInt (sv (x3 + 2).toNatClampNeg).toInt V hS.2.2.2.2.2.2.2.2.1 ((oks.c (okA.i (i32_in _)) (oks.c (okA.i (i32_in _)) oks.nil))) (r, V1) e2) (lw_V q2358 q2359 q2360 q131 q2361) ⟨rfl, by decide +kernel, by decide +kernel, by decide +kernel⟩ rfl (by decide) (by decide) hl.1 (by simp [cA, I32_of]) (Nat.le_of_ble_eq_true rfl) dL_law_1247 ⟨by omega, by omega⟩ ?_
  intro H2 locs2 hS hr2
  refine lv_icmp_eq (tgt := 1337) X.1 X.2.1 dL_law_1250 (by decide) (fun _ => ?_) (fun hc => absurd rfl hc)
  exact kk h1 V1 u H2 locs2 _ _ hR1 hS hu hl (by omega) (by omega)
theorem lc_38 {p : Program} {l : Launch} {e : Env} {s : State} {m : MethodId} {b : Nat} {below : List Frame} {meth : Method} {c : Code} {D : va_G} {cT : Nat → ClassId} {adF : Int → Nat} {h0 h : XH} {V : VV} {ad : Int → Nat} {aM : Nat → Nat} {a0 : Nat} {H : Heap} {locs : List Loc} {ls : Array Slot} {cells slots : Nat} {Q : State → Prop} {L : Nat} {sv : Nat → Int32} {x3 : Int32} {Rr : XH → VV → Prop} (hst : l.stackTraces = false) (X : LWX p s m b c D cT adF h0) (hS : LWS D cT adF (lA s) s.heap h0 h V ad aM a0 H locs) (hob : 1 ≤ xn h ∧ xk h 1 = 1) (hxs : va_X b L sv s s.heap) (hbl : b < s.heap.size) (hbA : ¬ lA s b) (hin : ∀ j : Int32, 1 ≤ j → j ≤ 5 → vp_in (x3 + j) L)
    (hop : opOK (F_X0_image 1 (sv (x3 + 1).toNatClampNeg).toInt h) (M_image (sv (x3 + 1).toNatClampNeg).toInt V) Rr) (hcz : cells = xc h + 35 ∧ slots = xs h + SLM) (hl : lv_has ls 4 [(0, .ref b), (1, .ref (ad 1)), (2, .ref a0), (3, .int x3)])
    (kk : ∀ h1 V1 u H2 locs2 cells2 slots2, Rr h1 V1 → LWS D cT adF (lA s) s.heap h0 h1 V1 u aM a0 H2 locs2 → u 1 = ad 1 → lv_has ls 4 [(0, .ref b), (1, .ref (u 1)), (2, .ref a0), (3, .int x3)] → cells2 = xc h1 + 35 → slots2 = xs h1 + SLM → W p l e room_1 s m #[Value.ref b] below meth c H2 locs2 cells2 slots2 Q (F0 m 1337 ls [])) : W p l e room_1 s m #[Value.ref b] below meth c H locs cells slots Q (F0 m 1255 ls []) := by
  have hn1 : 1 ≤ xn h := hob.1
  have hk1 : xk h 1 = 1 := hob.2
  obtain ⟨r, h1, V1, e1, e2, hR1, hc1, hs1⟩ := hop
  obtain ⟨hcz1, hcz2⟩ := hcz
  have hm1 := (WF_X0_image (Z := ((p, l, e, room_1, s, m, #[Value.ref b], below, meth, c), (D, cT, adF, ad, lA s), ((0, h), h))) (Nat.le_refl 8) 1 (sv (x3 + 1).toNatClampNeg).toInt h).1 (r, h1) e1
  dsimp only [xfh] at hm1
  refine lv_aload_n X.1 X.2.1 dL_law_1255 rfl (lv_at hl 1 rfl) ?_
  refine lv_aload_n X.1 X.2.1 dL_law_1256 rfl (lv_at hl 0 rfl) ?_
  refine lv_iload_n X.1 X.2.1 dL_law_1257 rfl (lv_at hl 3 rfl) ?_
  refine lv_iconst (v := 1) X.1 X.2.1 dL_law_1258 (by decide) ?_
  refine lv_iadd X.1 X.2.1 dL_law_1259 ?_
  refine va_sld X.1 X.2.1 hxs hbl hbA hS.2.2.2.2.2.2.1 (hin 1 (by decide) (by decide)) dL_law_1260 ?_
  refine lawX_i (args := [(0, (sv (x3 + 1).toNatClampNeg).toInt)]) (r := r) (h' := h1) (rest := []) X hS hn1 hk1 (fun hp => lawX_run (n := 1) X hS (SF_X0_image l (Nat.le_refl 8) 1 (sv (x3 + 1).toNatClampNeg).toInt h hS.2.2.2.2.2.2.2.1 (okXs.c (okX.r (by omega)) (okXs.c (okX.i (i32_in _)) okXs.nil)) (r, h1) e1) (lw_V q1623 q1624 q1625 q124 q1626) ⟨rfl, by decide +kernel, by decide +kernel, by decide +kernel⟩ rfl (by decide) (by decide) hl.1 (by simp [cX, I32_of]) (Nat.le_of_ble_eq_true rfl) dL_law_1261 ⟨by omega, by omega⟩ hp) ?_
  intro u H1 locs1 hS hu hr
  rw [← hu] at hl
  refine lv_aload_n X.1 X.2.1 dL_law_1264 rfl (lv_at hl 2 rfl) ?_
  refine lv_aload_n X.1 X.2.1 dL_law_1265 rfl (lv_at hl 0 rfl) ?_
  refine lv_iload_n X.1 X.2.1 dL_law_1266 rfl (lv_at hl 3 rfl) ?_
  refine lv_iconst (v := 1) X.1 X.2.1 dL_law_1267 (by decide) ?_
  refine lv_iadd X.1 X.2.1 dL_law_1268 ?_
  refine va_sld X.1 X.2.1 hxs hbl hbA hS.2.2.2.2.2.2.1 (hin 1 (by decide) (by decide)) dL_law_1269 ?_
  refine lawM_i (args := [(0, (sv (x3 + 1).toNatClampNeg).toInt)]) (n := 1) (rest := [.int (I32 r)]) X hS (WM_image l (Nat.le_refl 2) (sv (x3 + 1).toNatClampNeg).toInt V hS.2.2.2.2.2.2.2.2.1 ((oks.c (okA.i (i32_in _)) oks.nil)) (r, V1) e2) (lw_V q1876 q1877 q1878 q131 q1879) ⟨rfl, by decide +kernel, by decide +kernel, by decide +kernel⟩ rfl (by decide) (by decide) hl.1 (by simp [cA, I32_of]) (Nat.le_of_ble_eq_true rfl) dL_law_1270 ⟨by omega, by omega⟩ ?_
  intro H2 locs2 hS hr2
  refine lv_icmp_eq (tgt := 1337) X.1 X.2.1 dL_law_1273 (by decide) (fun _ => ?_) (fun hc => absurd rfl hc)
  exact kk h1 V1 u H2 locs2 _ _ hR1 hS hu hl (by omega) (by omega)
theorem lc_39 {p : Program} {l : Launch} {e : Env} {s : State} {m : MethodId} {b : Nat} {below : List Frame} {meth : Method} {c : Code} {D : va_G} {cT : Nat → ClassId} {adF : Int → Nat} {h0 h : XH} {V : VV} {ad : Int → Nat} {aM : Nat → Nat} {a0 : Nat} {H : Heap} {locs : List Loc} {ls : Array Slot} {cells slots : Nat} {Q : State → Prop} {L : Nat} {sv : Nat → Int32} {x3 : Int32} {Rr : XH → VV → Prop} (hst : l.stackTraces = false) (X : LWX p s m b c D cT adF h0) (hS : LWS D cT adF (lA s) s.heap h0 h V ad aM a0 H locs) (hob : 1 ≤ xn h ∧ xk h 1 = 1) (hxs : va_X b L sv s s.heap) (hbl : b < s.heap.size) (hbA : ¬ lA s b) (hin : ∀ j : Int32, 1 ≤ j → j ≤ 5 → vp_in (x3 + j) L)
    (hop : opOK (F_X0_back 1 (sv (x3 + 1).toNatClampNeg).toInt h) (M_back (sv (x3 + 1).toNatClampNeg).toInt V) Rr) (hcz : cells = xc h + 35 ∧ slots = xs h + SLM) (hl : lv_has ls 4 [(0, .ref b), (1, .ref (ad 1)), (2, .ref a0), (3, .int x3)])
    (kk : ∀ h1 V1 u H2 locs2 cells2 slots2, Rr h1 V1 → LWS D cT adF (lA s) s.heap h0 h1 V1 u aM a0 H2 locs2 → u 1 = ad 1 → lv_has ls 4 [(0, .ref b), (1, .ref (u 1)), (2, .ref a0), (3, .int x3)] → cells2 = xc h1 + 35 → slots2 = xs h1 + SLM → W p l e room_1 s m #[Value.ref b] below meth c H2 locs2 cells2 slots2 Q (F0 m 1337 ls [])) : W p l e room_1 s m #[Value.ref b] below meth c H locs cells slots Q (F0 m 1278 ls []) := by
  have hn1 : 1 ≤ xn h := hob.1
  have hk1 : xk h 1 = 1 := hob.2
  obtain ⟨r, h1, V1, e1, e2, hR1, hc1, hs1⟩ := hop
  obtain ⟨hcz1, hcz2⟩ := hcz
  have hm1 := (WF_X0_back (Z := ((p, l, e, room_1, s, m, #[Value.ref b], below, meth, c), (D, cT, adF, ad, lA s), ((0, h), h))) (Nat.le_refl 8) 1 (sv (x3 + 1).toNatClampNeg).toInt h).1 (r, h1) e1
  dsimp only [xfh] at hm1
  refine lv_aload_n X.1 X.2.1 dL_law_1278 rfl (lv_at hl 1 rfl) ?_
  refine lv_aload_n X.1 X.2.1 dL_law_1279 rfl (lv_at hl 0 rfl) ?_
  refine lv_iload_n X.1 X.2.1 dL_law_1280 rfl (lv_at hl 3 rfl) ?_
  refine lv_iconst (v := 1) X.1 X.2.1 dL_law_1281 (by decide) ?_
  refine lv_iadd X.1 X.2.1 dL_law_1282 ?_
  refine va_sld X.1 X.2.1 hxs hbl hbA hS.2.2.2.2.2.2.1 (hin 1 (by decide) (by decide)) dL_law_1283 ?_
  refine lawX_i (args := [(0, (sv (x3 + 1).toNatClampNeg).toInt)]) (r := r) (h' := h1) (rest := []) X hS hn1 hk1 (fun hp => lawX_run (n := 1) X hS (SF_X0_back l (Nat.le_refl 8) 1 (sv (x3 + 1).toNatClampNeg).toInt h hS.2.2.2.2.2.2.2.1 (okXs.c (okX.r (by omega)) (okXs.c (okX.i (i32_in _)) okXs.nil)) (r, h1) e1) (lw_V q1646 q1647 q1648 q124 q1649) ⟨rfl, by decide +kernel, by decide +kernel, by decide +kernel⟩ rfl (by decide) (by decide) hl.1 (by simp [cX, I32_of]) (Nat.le_of_ble_eq_true rfl) dL_law_1284 ⟨by omega, by omega⟩ hp) ?_
  intro u H1 locs1 hS hu hr
  rw [← hu] at hl
  refine lv_aload_n X.1 X.2.1 dL_law_1287 rfl (lv_at hl 2 rfl) ?_
  refine lv_aload_n X.1 X.2.1 dL_law_1288 rfl (lv_at hl 0 rfl) ?_
  refine lv_iload_n X.1 X.2.1 dL_law_1289 rfl (lv_at hl 3 rfl) ?_
  refine lv_iconst (v := 1) X.1 X.2.1 dL_law_1290 (by decide) ?_
  refine lv_iadd X.1 X.2.1 dL_law_1291 ?_
  refine va_sld X.1 X.2.1 hxs hbl hbA hS.2.2.2.2.2.2.1 (hin 1 (by decide) (by decide)) dL_law_1292 ?_
  refine lawM_i (args := [(0, (sv (x3 + 1).toNatClampNeg).toInt)]) (n := 1) (rest := [.int (I32 r)]) X hS (WM_back l (Nat.le_refl 2) (sv (x3 + 1).toNatClampNeg).toInt V hS.2.2.2.2.2.2.2.2.1 ((oks.c (okA.i (i32_in _)) oks.nil)) (r, V1) e2) (lw_V q1891 q1892 q1893 q131 q1894) ⟨rfl, by decide +kernel, by decide +kernel, by decide +kernel⟩ rfl (by decide) (by decide) hl.1 (by simp [cA, I32_of]) (Nat.le_of_ble_eq_true rfl) dL_law_1293 ⟨by omega, by omega⟩ ?_
  intro H2 locs2 hS hr2
  refine lv_icmp_eq (tgt := 1337) X.1 X.2.1 dL_law_1296 (by decide) (fun _ => ?_) (fun hc => absurd rfl hc)
  exact kk h1 V1 u H2 locs2 _ _ hR1 hS hu hl (by omega) (by omega)
theorem lc_40 {p : Program} {l : Launch} {e : Env} {s : State} {m : MethodId} {b : Nat} {below : List Frame} {meth : Method} {c : Code} {D : va_G} {cT : Nat → ClassId} {adF : Int → Nat} {h0 h : XH} {V : VV} {ad : Int → Nat} {aM : Nat → Nat} {a0 : Nat} {H : Heap} {locs : List Loc} {ls : Array Slot} {cells slots : Nat} {Q : State → Prop} {L : Nat} {sv : Nat → Int32} {x3 : Int32} {Rr : XH → VV → Prop} (hst : l.stackTraces = false) (X : LWX p s m b c D cT adF h0) (hS : LWS D cT adF (lA s) s.heap h0 h V ad aM a0 H locs) (hob : 1 ≤ xn h ∧ xk h 1 = 1) (hxs : va_X b L sv s s.heap) (hbl : b < s.heap.size) (hbA : ¬ lA s b) (hin : ∀ j : Int32, 1 ≤ j → j ≤ 5 → vp_in (x3 + j) L)
    (hop : opOK (F_X0_count 1 (sv (x3 + 1).toNatClampNeg).toInt h) (M_count (sv (x3 + 1).toNatClampNeg).toInt V) Rr) (hcz : cells = xc h + 35 ∧ slots = xs h + SLM) (hl : lv_has ls 4 [(0, .ref b), (1, .ref (ad 1)), (2, .ref a0), (3, .int x3)])
    (kk : ∀ h1 V1 u H2 locs2 cells2 slots2, Rr h1 V1 → LWS D cT adF (lA s) s.heap h0 h1 V1 u aM a0 H2 locs2 → u 1 = ad 1 → lv_has ls 4 [(0, .ref b), (1, .ref (u 1)), (2, .ref a0), (3, .int x3)] → cells2 = xc h1 + 35 → slots2 = xs h1 + SLM → W p l e room_1 s m #[Value.ref b] below meth c H2 locs2 cells2 slots2 Q (F0 m 1337 ls [])) : W p l e room_1 s m #[Value.ref b] below meth c H locs cells slots Q (F0 m 1301 ls []) := by
  have hn1 : 1 ≤ xn h := hob.1
  have hk1 : xk h 1 = 1 := hob.2
  obtain ⟨r, h1, V1, e1, e2, hR1, hc1, hs1⟩ := hop
  obtain ⟨hcz1, hcz2⟩ := hcz
  have hm1 := (WF_X0_count (Z := ((p, l, e, room_1, s, m, #[Value.ref b], below, meth, c), (D, cT, adF, ad, lA s), ((0, h), h))) (Nat.le_refl 5) 1 (sv (x3 + 1).toNatClampNeg).toInt h).1 (r, h1) e1
  dsimp only [xfh] at hm1
  refine lv_aload_n X.1 X.2.1 dL_law_1301 rfl (lv_at hl 1 rfl) ?_
  refine lv_aload_n X.1 X.2.1 dL_law_1302 rfl (lv_at hl 0 rfl) ?_
  refine lv_iload_n X.1 X.2.1 dL_law_1303 rfl (lv_at hl 3 rfl) ?_
  refine lv_iconst (v := 1) X.1 X.2.1 dL_law_1304 (by decide) ?_
  refine lv_iadd X.1 X.2.1 dL_law_1305 ?_
  refine va_sld X.1 X.2.1 hxs hbl hbA hS.2.2.2.2.2.2.1 (hin 1 (by decide) (by decide)) dL_law_1306 ?_
  refine lawX_i (args := [(0, (sv (x3 + 1).toNatClampNeg).toInt)]) (r := r) (h' := h1) (rest := []) X hS hn1 hk1 (fun hp => lawX_run (n := 1) X hS (SF_X0_count l (Nat.le_refl 5) 1 (sv (x3 + 1).toNatClampNeg).toInt h hS.2.2.2.2.2.2.2.1 (okXs.c (okX.r (by omega)) (okXs.c (okX.i (i32_in _)) okXs.nil)) (r, h1) e1) (lw_V q1650 q1651 q1652 q124 q1653) ⟨rfl, by decide +kernel, by decide +kernel, by decide +kernel⟩ rfl (by decide) (by decide) hl.1 (by simp [cX, I32_of]) (Nat.le_of_ble_eq_true rfl) dL_law_1307 ⟨by omega, by omega⟩ hp) ?_
  intro u H1 locs1 hS hu hr
  rw [← hu] at hl
  refine lv_aload_n X.1 X.2.1 dL_law_1310 rfl (lv_at hl 2 rfl) ?_
  refine lv_aload_n X.1 X.2.1 dL_law_1311 rfl (lv_at hl 0 rfl) ?_
  refine lv_iload_n X.1 X.2.1 dL_law_1312 rfl (lv_at hl 3 rfl) ?_
  refine lv_iconst (v := 1) X.1 X.2.1 dL_law_1313 (by decide) ?_
  refine lv_iadd X.1 X.2.1 dL_law_1314 ?_
  refine va_sld X.1 X.2.1 hxs hbl hbA hS.2.2.2.2.2.2.1 (hin 1 (by decide) (by decide)) dL_law_1315 ?_
  refine lawM_i (args := [(0, (sv (x3 + 1).toNatClampNeg).toInt)]) (n := 1) (rest := [.int (I32 r)]) X hS (WM_count l (Nat.le_refl 4) (sv (x3 + 1).toNatClampNeg).toInt V hS.2.2.2.2.2.2.2.2.1 ((oks.c (okA.i (i32_in _)) oks.nil)) (r, V1) e2) (lw_V q2362 q2363 q2364 q131 q2365) ⟨rfl, by decide +kernel, by decide +kernel, by decide +kernel⟩ rfl (by decide) (by decide) hl.1 (by simp [cA, I32_of]) (Nat.le_of_ble_eq_true rfl) dL_law_1316 ⟨by omega, by omega⟩ ?_
  intro H2 locs2 hS hr2
  refine lv_icmp_eq (tgt := 1337) X.1 X.2.1 dL_law_1319 (by decide) (fun _ => ?_) (fun hc => absurd rfl hc)
  exact kk h1 V1 u H2 locs2 _ _ hR1 hS hu hl (by omega) (by omega)
theorem lc_41 {p : Program} {l : Launch} {e : Env} {s : State} {m : MethodId} {b : Nat} {below : List Frame} {meth : Method} {c : Code} {D : va_G} {cT : Nat → ClassId} {adF : Int → Nat} {h0 h : XH} {V : VV} {ad : Int → Nat} {aM : Nat → Nat} {a0 : Nat} {H : Heap} {locs : List Loc} {ls : Array Slot} {cells slots : Nat} {Q : State → Prop} {L : Nat} {sv : Nat → Int32} {x3 : Int32} {Rr : XH → VV → Prop} (hst : l.stackTraces = false) (X : LWX p s m b c D cT adF h0) (hS : LWS D cT adF (lA s) s.heap h0 h V ad aM a0 H locs) (hob : 1 ≤ xn h ∧ xk h 1 = 1) (hxs : va_X b L sv s s.heap) (hbl : b < s.heap.size) (hbA : ¬ lA s b) (hin : ∀ j : Int32, 1 ≤ j → j ≤ 5 → vp_in (x3 + j) L)
    (hop : opOK (F_X0_status 1 h) (M_status V) Rr) (hcz : cells = xc h + 35 ∧ slots = xs h + SLM) (hl : lv_has ls 4 [(0, .ref b), (1, .ref (ad 1)), (2, .ref a0), (3, .int x3)])
    (kk : ∀ h1 V1 u H2 locs2 cells2 slots2, Rr h1 V1 → LWS D cT adF (lA s) s.heap h0 h1 V1 u aM a0 H2 locs2 → u 1 = ad 1 → lv_has ls 4 [(0, .ref b), (1, .ref (u 1)), (2, .ref a0), (3, .int x3)] → cells2 = xc h1 + 35 → slots2 = xs h1 + SLM → W p l e room_1 s m #[Value.ref b] below meth c H2 locs2 cells2 slots2 Q (F0 m 1337 ls [])) : W p l e room_1 s m #[Value.ref b] below meth c H locs cells slots Q (F0 m 1324 ls []) := by
  have hn1 : 1 ≤ xn h := hob.1
  have hk1 : xk h 1 = 1 := hob.2
  obtain ⟨r, h1, V1, e1, e2, hR1, hc1, hs1⟩ := hop
  obtain ⟨hcz1, hcz2⟩ := hcz
  have hm1 := (WF_X0_status (Z := ((p, l, e, room_1, s, m, #[Value.ref b], below, meth, c), (D, cT, adF, ad, lA s), ((0, h), h))) (Nat.le_refl 1) 1 h).1 (r, h1) e1
  dsimp only [xfh] at hm1
  refine lv_aload_n X.1 X.2.1 dL_law_1324 rfl (lv_at hl 1 rfl) ?_
  refine lawX_i (args := []) (r := r) (h' := h1) (rest := []) X hS hn1 hk1 (fun hp => lawX_run (n := 0) X hS (SF_X0_status l (Nat.le_refl 1) 1 h hS.2.2.2.2.2.2.2.1 (okXs.c (okX.r (by omega))  okXs.nil) (r, h1) e1) (lw_V q1654 q1655 q1656 q124 q1657) ⟨rfl, by decide +kernel, by decide +kernel, by decide +kernel⟩ rfl (by decide) (by decide) hl.1 (by simp [cX, I32_of]) (Nat.le_of_ble_eq_true rfl) dL_law_1325 ⟨by omega, by omega⟩ hp) ?_
  intro u H1 locs1 hS hu hr
  rw [← hu] at hl
  refine lv_aload_n X.1 X.2.1 dL_law_1328 rfl (lv_at hl 2 rfl) ?_
  refine lawM_i (args := []) (n := 0) (rest := [.int (I32 r)]) X hS (WM_status l (Nat.le_refl 1) V hS.2.2.2.2.2.2.2.2.1 oks.nil (r, V1) e2) (lw_V q2366 q2367 q2368 q131 q2369) ⟨rfl, by decide +kernel, by decide +kernel, by decide +kernel⟩ rfl (by decide) (by decide) hl.1 (by simp [cA, I32_of]) (Nat.le_of_ble_eq_true rfl) dL_law_1329 ⟨by omega, by omega⟩ ?_
  intro H2 locs2 hS hr2
  refine lv_icmp_eq (tgt := 1337) X.1 X.2.1 dL_law_1332 (by decide) (fun _ => ?_) (fun hc => absurd rfl hc)
  exact kk h1 V1 u H2 locs2 _ _ hR1 hS hu hl (by omega) (by omega)
