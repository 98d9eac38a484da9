/-! plain law: year -/
set_option maxRecDepth 100000
set_option maxHeartbeats 400000
theorem ishl_q {q : Int} (h0 : 0 ≤ q) (h1 : q ≤ 20) : ishl 1 q = ((2 ^ q.toNat : Nat) : Int) := by
  obtain ⟨k, rfl⟩ := Int.eq_ofNat_of_zero_le h0
  rw [Int.toNat_natCast]
  exact ishl_1 k (by omega)
theorem pow20 {k : Nat} (h : k ≤ 20) : 1 ≤ 2 ^ k ∧ 2 ^ k ≤ 1048576 := ⟨Nat.one_le_two_pow, Nat.pow_le_pow_right (by decide) h⟩
theorem KC.of {K K' : Int → Int} (H : KI K) (h : ∀ j, 0 ≤ j → j < 107 → K' j = K j) (h3 : K' 390 = K 390) : KC K K' := ⟨h, h3, H.1.1.1, H.1.1.2⟩
/-- one more year -/
theorem RelG.yearT {g : Int → Int} {P : Nat → CLS} {h : XH} {K : Int → Int} (E : ER g 1 h (xv h 1 0) K P) (KK : KI K) (hy : K 392 < 40) {x : Int} (x0 : 0 ≤ x) (x1 : x ≤ 1048575) : ER g 1 (hset (hset h (xv h (xv h 1 0) 5) (K 392) x) (xv h 1 0) 6 (K 392 + 1)) (xv h 1 0) (up (up K (350 + K 392) x) 392 (K 392 + 1)) P ∧ KI (up (up K (350 + K 392) x) 392 (K 392 + 1)) ∧ OWN g h (fun a j => a = xv h (xv h 1 0) 5 ∨ (a = xv h 1 0 ∧ j = 6)) ∧ Fr (fun a j => a = xv h (xv h 1 0) 5 ∨ (a = xv h 1 0 ∧ j = 6)) 0 0 h (hset (hset h (xv h (xv h 1 0) 5) (K 392) x) (xv h 1 0) 6 (K 392 + 1)) := by
  have I := E.ye
  have o := E.o
  have hy0 := KK.1.2.2.1
  have hK := KK.1.1
  have f : Fr (fun a j => a = xv h (xv h 1 0) 5 ∨ (a = xv h 1 0 ∧ j = 6)) 0 0 h (hset (hset h (xv h (xv h 1 0) 5) (K 392) x) (xv h 1 0) 6 (K 392 + 1)) := (Fr.set (fun _ => Or.inl rfl)).tr (Fr.set (W := fun a j => a = xv h (xv h 1 0) 5 ∨ (a = xv h 1 0 ∧ j = 6)) (fun _ => Or.inr ⟨rfl, rfl⟩)) (fun _ _ _ q => q)
  have ow : OWN g h (fun a j => a = xv h (xv h 1 0) 5 ∨ (a = xv h 1 0 ∧ j = 6)) := fun a j a1 a2 q => by
    rcases q with q | ⟨q, -⟩
    · rw [q, I.2.1]; exact ⟨by decide, by decide, Or.inr (Or.inr (Or.inr (Or.inl I.1.2.2)))⟩
    · rw [q, E.2.1]; exact ⟨by decide, by decide, Or.inl o.2.2⟩
  have un : ∀ j, j ≠ 392 → j ≠ 350 + K 392 → up (up K (350 + K 392) x) 392 (K 392 + 1) j = K j := fun j a b => (up_n a).trans (up_n b)
  refine ⟨?_, ?_, ow, f⟩
  · refine E.mod f (ow.tf f) (fun a j q r => ?_) (fun j hj q => ?_) (un _ (by decide) (by omega)) (un _ (by decide) (by omega)) (un _ (by decide) (by omega)) ?_ ?_ ?_ ?_ ?_ (fun k a b => ?_) (fun k a b => ?_)
    · have hk : xk h a = 100 ∨ xk h a = 2 := by
        rcases r with r | ⟨r, -⟩
        · rw [r]; exact Or.inl I.1.2.2
        · rw [r]; exact Or.inr o.2.2
      rcases q with q | q
      · have := q.2.2; omega
      · have := q.2.2; omega
    · rcases q with q | q
      · exact OB.ne o I.1 (by decide) q
      · omega
    · refine E.te.keep f (fun k _ _ q => ?_) (fun k a b => un _ (by omega) (by omega)) (Int.le_refl _)
      rcases q with q | q
      · exact IR.ne_tk I E.te (by decide) q
      · exact OB.ne E.te.1 o (by decide) q.1
    · refine E.fd.keep f (fun k _ _ q => ?_) (fun k a b => un _ (by omega) (by omega)) (Int.le_refl _)
      rcases q with q | q
      · exact IR.ne_tk I E.fd (by decide) q
      · exact OB.ne E.fd.1 o (by decide) q.1
    · obtain ⟨i1, i2, i3, i4⟩ := I
      refine ⟨i1, i2, i3, fun j j0 j1 => ?_⟩
      rw [up_at] at j1
      rw [hset_vn (OB.ne i1 o (by decide))]
      show _ = up (up K (350 + K 392) x) 392 (K 392 + 1) (350 + j)
      rw [up_n (by omega)]
      by_cases e : j = K 392
      · rw [e, hset_vv, up_at]
      · rw [hset_vj e, up_n (by omega)]; exact i4 j j0 (by omega)
    · rw [hset_vv, up_at]
    · rw [hset_vj (by decide), hset_vn (OB.ne o I.1 (by decide)), un _ (by decide) (by omega)]; exact E.us
    · refine (E.q k a b).keep f (fun j q => ?_) (fun j c d => un _ (by omega) (by omega))
      rcases q with q | q
      · exact OB.ne (E.q k a b).1 I.1 (by decide) q
      · exact OB.ne (E.q k a b).1 o (by decide) q.1
    · have := KK.1.2.1; exact ⟨un _ (by omega) (by omega), un _ (by omega) (by omega)⟩
  · obtain ⟨⟨k0, k1, k2, k3, k4⟩, k5, k6, k7, k8, k9, k10, k11⟩ := KK
    refine ⟨⟨?_, ?_, ?_, ?_, ?_⟩, fun q a b => ?_, ?_, fun k a b => ?_, fun k a b => ?_, fun k a b => ?_, fun t a b => ?_, fun j a => ?_⟩
    · rw [un _ (by decide) (by omega)]; exact k0
    · rw [un _ (by decide) (by omega)]; exact k1
    · rw [up_at]; omega
    · rw [un _ (by decide) (by omega)]; exact k3
    · rw [un _ (by decide) (by omega), un _ (by decide) (by omega)]; exact k4
    · rw [un _ (by decide) (by omega)] at b
      rw [un _ (by omega) (by omega), un _ (by omega) (by omega), un _ (by omega) (by omega), un _ (by omega) (by omega), un _ (by omega) (by omega)]; exact k5 q a b
    · rw [un _ (by decide) (by omega), un _ (by decide) (by omega), un _ (by decide) (by omega), un _ (by decide) (by omega), un _ (by decide) (by omega), un _ (by decide) (by omega), un _ (by decide) (by omega)]; exact k6
    · rw [un _ (by omega) (by omega)]; exact k7 k a b
    · rw [un _ (by decide) (by omega)] at b
      rw [un _ (by omega) (by omega), un _ (by omega) (by omega), un _ (by decide) (by omega)]; exact k8 k a b
    · rw [up_at] at b
      rw [up_n (by omega)]
      by_cases e : k = K 392
      · rw [e, up_at]; omega
      · rw [up_n (by omega)]; exact k9 k a (by omega)
    · rw [un _ (by decide) (by omega)] at b
      rw [un _ (by omega) (by omega)]; exact k10 t a b
    · rw [un _ (by omega) (by omega)]; exact k11 j a
theorem FS.gen {h h' : XH} {z : Int} {K : Int → Int} {cl : CLS} {W : Int → Int → Prop} {c s : Nat} (F : FS h z K cl) (H : SH h) (hn : 0 ≤ K 390) (f : Fr W c s h h') (hW : ∀ a j, 1 ≤ a → a ≤ (xn h : Int) → W a j → a ≠ 15 ∧ xk h a ≠ 18 ∧ xk h a ≠ 107 ∧ (xk h a = 101 → a ≤ 16)) (hq : 1 ≤ K 390 → ∀ k, nth h' (xv h' (xv h' 1 0) 0) k = nth h (xv h (xv h 1 0) 0) k) : FS h' z K cl := by
  obtain ⟨o, o1, l1, r1, o2, l2, g2, t4, t3, p, q⟩ := F
  have ez : ∀ j, xv h' z j = xv h z j := fun j => f.v o.2.1 fun w => (hW z j o.1 o.2.1 w).2.1 o.2.2
  have er : ∀ j, xv h' (xv h z 0) j = xv h (xv h z 0) j := fun j => f.v o1.2.1 fun w => (hW _ j o1.1 o1.2.1 w).2.2.1 o1.2.2
  have ep : ∀ j, xv h' (xv h z 1) j = xv h (xv h z 1) j := fun j => f.v o2.2.1 fun w => by have := (hW _ j o2.1 o2.2.1 w).2.2.2 o2.2.2; omega
  have e15 : ∀ j, xv h' 15 j = xv h 15 j := fun j => f.v (by have := H.1; omega) fun w => (hW 15 j (by decide) (by have := H.1; omega) w).1 rfl
  refine ⟨f.ob o, by rw [ez]; exact f.ob o1, by rw [ez, f.l o1.2.1]; exact l1, fun i i0 i1 => ?_, by rw [ez]; exact f.ob o2, by rw [ez, f.l o2.2.1]; exact l2, by rw [ez]; exact g2, by rw [ez]; exact t4, by rw [ez]; exact t3, fun a b h1 h2 h3 => by rw [ez, ep]; exact p a b h1 h2 h3, fun q' a b mask h1 h2 h3 h4 h5 h6 h7 => by rw [e15]; exact q q' a b mask h1 h2 h3 h4 h5 h6 h7⟩
  have hb := bowlN_le (K := K) hn
  rw [ez, er, r1 i i0 i1, hq (by omega)]
theorem RelG.tellT {g : Int → Int} {P P' : Nat → CLS} {n : Nat} {h h1 : XH} {V V1 : VV} {W : Int → Int → Prop} {c s : Nat} (hn : n < 64) (R : RelG g P n h V) (f : Fr W c s h h1) (o : OWN g h W) (E1 : ER g 1 h1 (xv h 1 0) (V1 3) P') (K1 : KI (V1 3)) (P1 : PR (V1 3) P') (m : MF [3] V V1) (C : KC (V 3) (V1 3)) (cu : curP (V1 3) P' = curP (V 3) P) (hq : 1 ≤ V 3 390 → ∀ k, nth h1 (xv h1 (xv h1 1 0) 0) k = nth h (xv h (xv h 1 0) 0) k) (hc : c ≤ 18000) (hs : s ≤ 80000) : RelG g P' (n + 1) (hset h1 1 5 0) (vup (vup V1 0 0 0) 1 0 (w32 (V1 1 0 + 1))) := by
  obtain ⟨H1, G1, I1, e1, e14, e16, T1⟩ := R.own f o
  have hvr := R.vr
  have f2 : Fr XW 0 0 h1 (hset h1 1 5 0) := Fr.set (fun _ => Or.inl ⟨rfl, by omega⟩)
  have ev : ∀ k, k ≠ 0 → k ≠ 1 → vup (vup V1 0 0 0) 1 0 (w32 (V1 1 0 + 1)) k = V1 k := fun k a b => (vupN b).trans (vupN a)
  have ev2 : ∀ k, k ≠ 0 → k ≠ 1 → k ≠ 3 → vup (vup V1 0 0 0) 1 0 (w32 (V1 1 0 + 1)) k = V k := fun k a b d => (ev k a b).trans (m k (by intro q; simp at q; exact d q))
  have x8 : xv (hset h1 1 5 0) 1 8 = xv h1 1 8 := hset_vj (by decide)
  have x9 : xv (hset h1 1 5 0) 1 9 = xv h 1 9 := (hset_vj (by decide)).trans (e1 9)
  have e10 : V1 1 = V 1 := m 1 (by decide)
  have ew : w32 (V1 1 0 + 1) = V 1 0 + 1 := by rw [e10]; exact w32_id (by omega) (by omega)
  have ok := XW.ok H1 G1
  refine ⟨H1.fr f2 (fun j hj q => by unfold XW at q; omega) (fun q => by unfold XW at q; omega) (fun q => by unfold XW at q; omega), G1.fr f2, ?_, ?_, ?_, ⟨?_, ?_⟩, ?_, ?_, ?_, ?_, ?_, ?_⟩
  · rw [ev 3 (by decide) (by decide), hset_vj (by decide), e1]
    exact E1.fr K1.1.1.2 (by decide) ok f2
  · rw [ev 3 (by decide) (by decide)]; exact K1
  · rw [ev 3 (by decide) (by decide)]; exact P1
  · exact I1.1.fr (by decide) ok f2 (hset_vn (by decide)) (ev2 4 (by decide) (by decide) (by decide)) (ev2 5 (by decide) (by decide) (by decide))
  · exact I1.2.fr (by decide) ok f2 (hset_vn (by decide)) (ev2 4 (by decide) (by decide) (by decide)) (ev2 5 (by decide) (by decide) (by decide))
  · obtain ⟨s1, s2, s3, s4, s5, s6, s7⟩ := R.sc
    unfold SC
    rw [ev2 2 (by decide) (by decide) (by decide), ev2 10 (by decide) (by decide) (by decide), ev2 59 (by decide) (by decide) (by decide), ev2 9 (by decide) (by decide) (by decide), ev2 7 (by decide) (by decide) (by decide)]
    refine ⟨?_, fun k k0 k1 => ?_, ?_, ?_, ?_, s6, fun k k0 k1 => ?_⟩
    · rw [hset_vv, vupN (by decide), vup_at]
    · rw [hset_vn (by decide), e14]; exact s2 k k0 k1
    · rw [hset_vj (by decide), e1]; exact s3
    · rw [hset_vj (by decide), e1]; exact s4
    · rw [hset_vj (by decide), e1]; exact s5
    · rw [hset_vn (by decide), e16]; exact s7 k k0 k1
  · exact T1.xw f2 x8 (ev2 _ (by decide) (by decide) (by decide)) (ev2 _ (by decide) (by decide) (by decide)) (ev2 _ (by decide) (by decide) (by decide)) H1
  · unfold MW; rw [ev2 6 (by decide) (by decide) (by decide)]; exact R.mw
  · refine R.ca.bump (ev2 35 (by decide) (by decide) (by decide)) (ev2 58 (by decide) (by decide) (by decide)) (by rw [vup_at, ew]) ?_
    rw [x9, ev 3 (by decide) (by decide), cu]
    rcases R.ca.2.2.2.2 with q | q
    · exact Or.inl q
    · have q2 := q.gen R.sh R.ki.1.1.1 f (fun a j ha hb w => ?_) hq
      · have q3 := q2.kc C
        refine Or.inr (q3.gen H1 K1.1.1.1 f2 (fun a j _ _ w => ?_) (fun _ k => ?_))
        · rcases w with ⟨rfl, w⟩ | rfl | rfl
          · rw [H1.x1.2.2]; exact ⟨by decide, by decide, by decide, fun e => absurd e (by decide)⟩
          · rw [H1.x14.2.2]; exact ⟨by decide, by decide, by decide, fun e => absurd e (by decide)⟩
          · rw [H1.x16.2.2]; exact ⟨by decide, by decide, by decide, fun e => absurd e (by decide)⟩
        · have o1 := E1.o
          have L := E1.lq
          have e10 : xv (hset h1 1 5 0) 1 0 = xv h1 1 0 := hset_vj (by decide)
          have e11 : xv h1 1 0 = xv h 1 0 := e1 0
          rw [e10, e11]
          have hx : ∀ a k, OB h1 a k → k ≠ 1 → ∀ j, xv (hset h1 1 5 0) a j = xv h1 a j := fun a k ob hk j => hset_vn (OB.ne ob H1.x1 hk)
          rw [hx _ _ o1 (by decide)]
          unfold nth
          rw [hx _ _ L.1 (by decide)]
          rcases L.2.2.2.2 with ⟨l1, l2⟩ | ⟨l1, -⟩
          · rw [l1]; exact hset_vn (by decide)
          · exact hx _ _ l1 (by decide) k
      · obtain ⟨w1, w2, w3⟩ := o a j ha hb w
        refine ⟨fun e => ?_, by omega, by omega, by omega⟩
        rw [e, R.gw.1.2.2.2.2.2.1] at w1; omega
  · rw [vup_at, ew]; omega
  · have := R.rm; have := f.1.2; have e := f2.1.2; constructor <;> omega
theorem isDrawn_t {g : Int → Int} {P : Nat → CLS} {K : Int → Int} {h : XH} (H : SH h) (E : ER g 1 h (xv h 1 0) K P) (hK : 0 ≤ K 390 ∧ K 390 ≤ 20) {x : Int} (h0 : 0 ≤ x) (h1 : x < ishl 1 (K 390)) : F_X0_isDrawn 1 x h = some (1, h) := by
  have e := ishl_q hK.1 hK.2
  have p := pow20 (k := (K 390).toNat) (by omega)
  unfold F_X0_isDrawn
  rw [obk H.x1, F_many_eq H E, mb_some, e, w32_id (by omega) (by omega), F_in_t h0 (by omega), mb_some]; rfl
theorem isDrawn_f {g : Int → Int} {P : Nat → CLS} {K : Int → Int} {h : XH} (H : SH h) (E : ER g 1 h (xv h 1 0) K P) (hK : 0 ≤ K 390 ∧ K 390 ≤ 20) {x : Int} (h0 : x < 0 ∨ ishl 1 (K 390) ≤ x) : F_X0_isDrawn 1 x h = some (0, h) := by
  have e := ishl_q hK.1 hK.2
  have p := pow20 (k := (K 390).toNat) (by omega)
  unfold F_X0_isDrawn
  rw [obk H.x1, F_many_eq H E, mb_some, e, w32_id (by omega) (by omega), F_in_f (by omega), mb_some]; rfl
theorem op_year : OP_year Rel := by
  intro n h V hn _ _ ⟨g, P, R⟩ x hx
  have H := R.sh
  have E := R.er
  have K := R.ki
  have hK := K.1.1
  have hy := K.1.2.2.1
  have e := ishl_q hK.1 hK.2
  have p := pow20 (k := (V 3 390).toNat) (by omega)
  by_cases c : 0 ≤ x ∧ x < ishl 1 (V 3 390)
  · by_cases c2 : V 3 392 = 40
    · refine R.opNo hn (v := -5) (by decide) (by decide) ?_ ?_
      · unfold F_X0_year
        rw [obk H.x1, isDrawn_t H E hK c.1 c.2, mb_some, if_neg (by decide), obk H.x1, obk E.o, E.yd, if_pos c2, obk H.x1, mb_id]
      · unfold M_year
        rw [if_neg (by omega), M_questions_eq, mb_some, if_pos c.2, if_pos c2, mb_id]
    · obtain ⟨E1, K1, ow, f⟩ := RelG.yearT E K (by omega) c.1 (by omega)
      have I := E.ye
      have e3 : vup (vup V 3 (350 + V 3 392) x) 3 392 (V 3 392 + 1) 3 = up (up (V 3) (350 + V 3 392) x) 392 (V 3 392 + 1) := by rw [vup3, vup3]
      have un : ∀ j, j ≠ 392 → j ≠ 350 + V 3 392 → up (up (V 3) (350 + V 3 392) x) 392 (V 3 392 + 1) j = V 3 j := fun j a b => (up_n a).trans (up_n b)
      have P1 : PR (vup (vup V 3 (350 + V 3 392) x) 3 392 (V 3 392 + 1) 3) P := by rw [e3]; exact R.pr.congr (un _ (by decide) (by omega)) (fun t a b => un _ (by omega) (by omega)) (fun j a => un _ (by omega) (by omega))
      have H1 : SH (hset (hset h (xv h (xv h 1 0) 5) (V 3 392) x) (xv h 1 0) 6 (V 3 392 + 1)) := (R.own f ow).1
      have hrel := R.tellT hn f ow (V1 := vup (vup V 3 (350 + V 3 392) x) 3 392 (V 3 392 + 1)) (by rw [e3]; exact E1) (by rw [e3]; exact K1) P1 (MF.ed (MF.ed MF.rf (by decide)) (by decide)) (KC.of K (fun j a b => by rw [e3]; exact un _ (by omega) (by omega)) (by rw [e3]; exact un _ (by decide) (by omega))) (by unfold curP; rw [e3, un _ (by decide) (by omega)]) (fun _ k => ?_) (by decide) (by decide)
      · refine hrel.op hn (r := V 3 392 + 1) ?_ ?_
        · have e15 : xv (hset h (xv h (xv h 1 0) 5) (V 3 392) x) 1 0 = xv h 1 0 := hset_vn (OB.ne H.x1 I.1 (by decide))
          have e16 : xv (hset h (xv h (xv h 1 0) 5) (V 3 392) x) (xv h 1 0) 6 = V 3 392 := (hset_vn (OB.ne E.o I.1 (by decide))).trans E.yd
          have e17 : xv (hset (hset h (xv h (xv h 1 0) 5) (V 3 392) x) (xv h 1 0) 6 (V 3 392 + 1)) 1 0 = xv h 1 0 := (hset_vn (OB.ne H.x1 E.o (by decide))).trans e15
          unfold F_X0_year
          rw [obk H.x1, isDrawn_t H E hK c.1 c.2, mb_some, if_neg (by decide), obk H.x1, obk E.o, E.yd, if_neg c2, obk H.x1, obk E.o, obk H.x1, obk E.o, aik (t := 0) I.1 (by omega) (by rw [I.2.2.1]; omega), nm_eq, obk (h := hset h _ _ x) H.x1, e15, obk (h := hset h _ _ x) E.o, obk (h := hset h _ _ x) E.o, e16, w32_id (by omega) (by omega), nm_eq, obk H1.x1, e17, obk (h := hset (hset h _ _ x) _ _ _) E.o, obk H1.x1, hset_vv, F_tell_p H1 (by omega), mb_some]
        · unfold M_year
          rw [if_neg (by omega), M_questions_eq, mb_some, if_pos c.2, if_neg c2, w32_id (x := 350 + V 3 392) (by omega) (by omega), ck_ok (by omega) (by omega), nm_eq, vup_off (by omega), w32_id (by omega) (by omega), nm_eq, vup_at, M_good_eq, mb_some]
      · have e15 : xv (hset (hset h (xv h (xv h 1 0) 5) (V 3 392) x) (xv h 1 0) 6 (V 3 392 + 1)) 1 0 = xv h 1 0 := (hset_vn (OB.ne H.x1 E.o (by decide))).trans (hset_vn (OB.ne H.x1 I.1 (by decide)))
        have hx2 : ∀ a k, OB h a k → k ≠ 2 → k ≠ 100 → ∀ j, xv (hset (hset h (xv h (xv h 1 0) 5) (V 3 392) x) (xv h 1 0) 6 (V 3 392 + 1)) a j = xv h a j := fun a k ob k2 k1 j => (hset_vn (OB.ne ob E.o k2)).trans (hset_vn (OB.ne ob I.1 k1))
        have e0 : xv (hset (hset h (xv h (xv h 1 0) 5) (V 3 392) x) (xv h 1 0) 6 (V 3 392 + 1)) (xv h 1 0) 0 = xv h (xv h 1 0) 0 := (hset_vj (by decide)).trans (hset_vn (OB.ne E.o I.1 (by decide)))
        rw [e15, e0]
        unfold nth
        rw [hx2 _ _ E.lq.1 (by decide) (by decide)]
        rcases E.lq.2.2.2.2 with ⟨l1, l2⟩ | ⟨l1, -⟩
        · rw [l1, hset_vn (by have := E.o.1; omega), hset_vn (by have := I.1.1; omega)]
        · exact hx2 _ _ l1 (by decide) (by decide) k
  · refine R.opNo hn (v := -1) (by decide) (by decide) ?_ ?_
    · unfold F_X0_year
      rw [obk H.x1, isDrawn_f H E hK (by omega), mb_some, if_pos rfl, obk H.x1, mb_id]
    · unfold M_year M_year_14
      by_cases c0 : x < 0
      · rw [if_pos c0, mb_id]
      · rw [if_neg c0, M_questions_eq, mb_some, if_neg (by omega), mb_id]
