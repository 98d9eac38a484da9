/-! plain law: steps that write the exam itself -/
set_option maxRecDepth 100000
set_option maxHeartbeats 400000
def OWN (g : Int → Int) (h : XH) (W : Int → Int → Prop) : Prop := ∀ a j : Int, 1 ≤ a → a ≤ (xn h : Int) → W a j → 1000 ≤ g a ∧ g a < 2000 ∧ (xk h a = 2 ∨ xk h a = 5 ∨ xk h a = 26 ∨ xk h a = 100 ∨ xk h a = 109)
theorem tkd_own {k : Nat} (q : k = 2 ∨ k = 5 ∨ k = 26 ∨ k = 100 ∨ k = 109) : tkd k = false ∧ k ≠ 14 ∧ k ≠ 25 := by
  rcases q with rfl | rfl | rfl | rfl | rfl <;> decide
section
variable {g : Int → Int} {P : Nat → CLS} {n : Nat} {h h1 : XH} {V : VV} {W : Int → Int → Prop} {c s : Nat}
theorem OWN.tf (o : OWN g h W) (f : Fr W c s h h1) : TF h h1 := f.tf fun a j a1 a2 q => by
  obtain ⟨t1, t2, -⟩ := tkd_own (o a j a1 a2 q).2.2
  exact ⟨t1, fun e => absurd e t2⟩
theorem OWN.ef (o : OWN g h W) (f : Fr W c s h h1) {i : Int} (hi : 2 ≤ i) : EF g i h h1 := fun a j a1 a2 a3 a4 => f.v a2 fun q => by have := o a j a1 a2 q; omega
theorem OWN.no (o : OWN g h W) {a j : Int} (a1 : 1 ≤ a) (a2 : a ≤ (xn h : Int)) (hg : g a = 0) : ¬ W a j := fun q => by have := o a j a1 a2 q; omega
theorem OWN.nk (o : OWN g h W) {a j : Int} {k : Nat} (H : OB h a k) (hk : k ≠ 2 ∧ k ≠ 5 ∧ k ≠ 26 ∧ k ≠ 100 ∧ k ≠ 109) : ¬ W a j := fun q => by have := (o a j H.1 H.2.1 q).2.2; rw [H.2.2] at this; omega
theorem IM.own {V' : VV} {i : Int} (I : IM g h V i) (hi : 0 ≤ i) (o : OWN g h W) (f : Fr W c s h h1) (e9 : xv h1 9 i = xv h 9 i) (e4 : V' 4 = V 4) (e5 : V' 5 = V 5) : IM g h1 V' i := by
  have ek : Kim V' i = Kim V i := by unfold Kim; rw [e4]
  unfold IM
  rw [ek, e5, e9]
  rcases I with I | ⟨I1, P, I2, I3, I4⟩
  · exact Or.inl I
  · exact Or.inr ⟨I1, P, I2.st (o.tf f) (o.ef f (by omega)) I3.1.1.2, I3, I4⟩
theorem RelG.own (R : RelG g P n h V) (f : Fr W c s h h1) (o : OWN g h W) : SH h1 ∧ GW g h1 ∧ (IM g h1 V 0 ∧ IM g h1 V 1) ∧ (∀ j, xv h1 1 j = xv h 1 j) ∧ (∀ j, xv h1 14 j = xv h 14 j) ∧ (∀ j, xv h1 16 j = xv h 16 j) ∧ TB h1 V := by
  have H := R.sh
  have G := R.gw
  have hn := H.1
  have e1 : ∀ j, xv h1 1 j = xv h 1 j := fun j => f.v (by omega) (o.no (by decide) (by omega) G.1.1)
  have e9 : ∀ j, xv h1 9 j = xv h 9 j := fun j => f.v (by omega) (o.no (by decide) (by omega) G.1.2.1)
  refine ⟨H.fr f (fun j _ => o.no (by decide) (by omega) G.1.1) (o.no (by decide) (by omega) G.1.2.2.1) (o.nk H.x12 (by decide)), G.fr f, ⟨R.im.1.own (by decide) o f (e9 0) rfl rfl, R.im.2.own (by decide) o f (e9 1) rfl rfl⟩, e1, fun j => f.v (by omega) (o.no (by decide) (by omega) G.1.2.2.2.2.1), fun j => f.v (by omega) (o.no (by decide) (by omega) G.1.2.2.2.2.2.2), ?_⟩
  have T := R.tb
  unfold TB at *
  rw [e1]
  rcases T with T | ⟨t1, t2, t3, t4, t5⟩
  · exact Or.inl T
  · have et : ∀ j, xv h1 (xv h 1 8) j = xv h (xv h 1 8) j := fun j => f.v t1.2.1 (o.nk t1 (by decide))
    exact Or.inr ⟨f.ob t1, t2, by rw [et]; exact t3, by rw [et]; exact t4, by rw [et]; exact t5⟩
/-- something was changed: nothing found, nothing refused -/
theorem RelG.wasT (hn : n < 64) (R : RelG g P n h V) (f : Fr W c s h h1) (o : OWN g h W) {V1 : VV} {P' : Nat → CLS} (E1 : ER g 1 h1 (xv h 1 0) (V1 3) P') (K1 : KI (V1 3)) (P1 : PR (V1 3) P') (m : MF [3] V V1) (hc : c ≤ 18000) (hs : s ≤ 80000) : RelG g P' (n + 1) (hset (hset h1 1 9 0) 1 5 0) (vup (vup V1 0 0 0) 1 0 (w32 (V1 1 0 + 1))) := by
  obtain ⟨H1, G1, I1, e1, e14, e16, T1⟩ := R.own f o
  have hvr := R.vr
  have f2 : Fr XW 0 0 h1 (hset (hset h1 1 9 0) 1 5 0) := (Fr.set (fun _ => Or.inl ⟨rfl, by omega⟩)).tr (Fr.set (W := XW) (fun _ => Or.inl ⟨rfl, by omega⟩)) (fun _ _ _ q => q)
  have ev : ∀ k, k ≠ 0 → k ≠ 1 → vup (vup V1 0 0 0) 1 0 (w32 (V1 1 0 + 1)) k = V1 k := fun k a b => (vupN b).trans (vupN a)
  have ev2 : ∀ k, k ≠ 0 → k ≠ 1 → k ≠ 3 → vup (vup V1 0 0 0) 1 0 (w32 (V1 1 0 + 1)) k = V k := fun k a b d => (ev k a b).trans (m k (by intro q; simp at q; exact d q))
  have x8 : xv (hset (hset h1 1 9 0) 1 5 0) 1 8 = xv h1 1 8 := (hset_vj (by decide)).trans (hset_vj (by decide))
  have e10 : V1 1 = V 1 := m 1 (by decide)
  have ew : w32 (V1 1 0 + 1) = V 1 0 + 1 := by rw [e10]; exact w32_id (by omega) (by omega)
  have ok := XW.ok H1 G1
  refine ⟨H1.fr f2 (fun j hj q => by unfold XW at q; omega) (fun q => by unfold XW at q; omega) (fun q => by unfold XW at q; omega), G1.fr f2, ?_, ?_, ?_, ⟨?_, ?_⟩, ?_, ?_, ?_, ?_, ?_, ?_⟩
  · rw [ev 3 (by decide) (by decide), hset_vj (by decide), hset_vj (by decide), e1]
    exact E1.fr K1.1.1.2 (by decide) ok f2
  · rw [ev 3 (by decide) (by decide)]; exact K1
  · rw [ev 3 (by decide) (by decide)]; exact P1
  · exact I1.1.fr (by decide) ok f2 ((hset_vn (by decide)).trans (hset_vn (by decide))) (ev2 4 (by decide) (by decide) (by decide)) (ev2 5 (by decide) (by decide) (by decide))
  · exact I1.2.fr (by decide) ok f2 ((hset_vn (by decide)).trans (hset_vn (by decide))) (ev2 4 (by decide) (by decide) (by decide)) (ev2 5 (by decide) (by decide) (by decide))
  · obtain ⟨s1, s2, s3, s4, s5, s6, s7⟩ := R.sc
    unfold SC
    rw [ev2 2 (by decide) (by decide) (by decide), ev2 10 (by decide) (by decide) (by decide), ev2 59 (by decide) (by decide) (by decide), ev2 9 (by decide) (by decide) (by decide), ev2 7 (by decide) (by decide) (by decide)]
    refine ⟨?_, fun k k0 k1 => ?_, ?_, ?_, ?_, s6, fun k k0 k1 => ?_⟩
    · rw [hset_vv, vupN (by decide), vup_at]
    · rw [hset_vn (by decide), hset_vn (by decide), e14]; exact s2 k k0 k1
    · rw [hset_vj (by decide), hset_vj (by decide), e1]; exact s3
    · rw [hset_vj (by decide), hset_vj (by decide), e1]; exact s4
    · rw [hset_vj (by decide), hset_vj (by decide), e1]; exact s5
    · rw [hset_vn (by decide), hset_vn (by decide), e16]; exact s7 k k0 k1
  · exact T1.xw f2 x8 (ev2 _ (by decide) (by decide) (by decide)) (ev2 _ (by decide) (by decide) (by decide)) (ev2 _ (by decide) (by decide) (by decide)) H1
  · unfold MW; rw [ev2 6 (by decide) (by decide) (by decide)]; exact R.mw
  · refine R.ca.bump (ev2 35 (by decide) (by decide) (by decide)) (ev2 58 (by decide) (by decide) (by decide)) (by rw [vup_at, ew]) (Or.inl ?_)
    rw [hset_vj (by decide), hset_vv]
  · rw [vup_at, ew]; omega
  · have := R.rm; have := f.1.2; have e := f2.1.2; constructor <;> omega
end
/-- a row with one number changed -/
def up (K : Int → Int) (a x : Int) : Int → Int := fun j => if j = a then x else K j
theorem up_n {K : Int → Int} {a x j : Int} (h : j ≠ a) : up K a x j = K j := if_neg h
theorem up_at {K : Int → Int} {a x : Int} : up K a x a = x := if_pos rfl
theorem vup3 {V : VV} {a x : Int} : vup V 3 a x 3 = up (V 3) a x := by
  funext j; exact vup_get
section
variable {g : Int → Int} {P : Nat → CLS} {K K' : Int → Int} {h h1 : XH} {W : Int → Int → Prop} {c s : Nat} {i e : Int}
theorem IR.keep {t a : Int} {len : Nat} {F F' : Int → Int} {n n' : Int} (I : IR g t h a len F n) (f : Fr W c s h h1) (hv : ∀ k : Int, 0 ≤ k → k < n' → ¬ W a k) (hF : ∀ k : Int, 0 ≤ k → k < n' → F' k = F k) (hn : n' ≤ n) : IR g t h1 a len F' n' := by
  obtain ⟨o, q1, q2, q3⟩ := I
  exact ⟨f.ob o, q1, by rw [f.l o.2.1]; exact q2, fun k k0 k1 => by rw [f.v o.2.1 (hv k k0 k1), hF k k0 k1]; exact q3 k k0 (by omega)⟩
theorem LR.keep {t l n : Int} (L : LR g t h l n) (f : Fr W c s h h1) (hW : ∀ a j, OB h a 26 ∨ OB h a 109 → ¬ W a j) : LR g t h1 l n ∧ (1 ≤ n → ∀ k, nth h1 l k = nth h l k) := by
  have L0 := L
  obtain ⟨o, q1, q2, q3, q4⟩ := L
  have ev : ∀ j, xv h1 l j = xv h l j := fun j => f.v o.2.1 (hW l j (Or.inl o))
  refine ⟨⟨f.ob o, q1, by rw [ev]; exact q2, q3, ?_⟩, fun hn k => nth_fr L0 f (fun j => hW l j (Or.inl o)) (fun j o2 => hW _ j (Or.inr o2)) hn⟩
  rw [ev]
  rcases q4 with q4 | ⟨o2, q5, q6⟩
  · exact Or.inl q4
  · exact Or.inr ⟨f.ob o2, q5, by rw [f.l o2.2.1]; exact q6⟩
theorem ER.mod (E : ER g i h e K P) (f : Fr W c s h h1) (t : TF h h1) (hW : ∀ a j, OB h a 26 ∨ OB h a 109 → ¬ W a j) (he : ∀ j, j < 6 → ¬ W e j) (k0 : K' 390 = K 390) (k1 : K' 391 = K 391) (k3 : K' 393 = K 393) (te : IR g (1000 * i + 4) h1 (xv h e 3) 7 (fun k => K' (100 + k)) 7) (fd : IR g (1000 * i + 5) h1 (xv h e 4) 3 (fun k => K' (347 + k)) 3) (ye : IR g (1000 * i + 6) h1 (xv h e 5) 40 (fun k => K' (350 + k)) (K' 392)) (yd : xv h1 e 6 = K' 392) (us : xv h1 e 7 = K' 394) (q : ∀ k : Int, 0 ≤ k → k < K 390 → QR g (1000 * i + 100 + k) h1 (nth h (xv h e 0) k) k K') (d : ∀ k : Int, 0 ≤ k → k < K 391 → K' (107 + 2 * k) = K (107 + 2 * k) ∧ K' (107 + 2 * k + 1) = K (107 + 2 * k + 1)) : ER g i h1 e K' P := by
  have o := E.o
  have ev : ∀ j, j < 6 → xv h1 e j = xv h e j := fun j hj => f.v o.2.1 (he j hj)
  have s1 := E.lq.keep f hW
  have s2 := E.lp.keep f hW
  have s3 := E.ld.keep f hW
  refine ⟨f.ob o, E.2.1, by rw [ev 0 (by decide), k0]; exact s1.1, by rw [ev 1 (by decide), k3]; exact s2.1, by rw [ev 2 (by decide), k1]; exact s3.1, by rw [ev 3 (by decide)]; exact te, by rw [ev 4 (by decide)]; exact fd, by rw [ev 5 (by decide)]; exact ye, yd, us, fun k a b => ?_, fun k a b => ?_, fun k b => ?_⟩
  · rw [k0] at b; rw [ev 0 (by decide), s1.2 (by omega)]; exact q k a b
  · rw [k1] at b
    obtain ⟨p1, p2, p3⟩ := E.d k a b
    obtain ⟨d1, d2⟩ := d k a b
    rw [ev 2 (by decide), s3.2 (by omega)]
    exact ⟨f.ob p1, by rw [t.v p1 rfl, d1]; exact p2, by rw [t.v p1 rfl, d2]; exact p3⟩
  · rw [k3] at b; rw [ev 1 (by decide), s2.2 (by omega)]; exact (E.p k b).tf t
theorem QR.keep {t q k : Int} (Q : QR g t h q k K) (f : Fr W c s h h1) (hW : ∀ j, ¬ W q j) (hK : ∀ j, 0 ≤ j → j < 5 → K' (5 * k + j) = K (5 * k + j)) : QR g t h1 q k K' := by
  obtain ⟨o, a, b, q1, q2, q3, q4, q5⟩ := Q
  have ev : ∀ j, xv h1 q j = xv h q j := fun j => f.v o.2.1 (hW j)
  have h0 := hK 0 (by decide) (by decide)
  rw [Int.add_zero] at h0
  exact ⟨f.ob o, a, by rw [ev]; exact b, by rw [ev, h0]; exact q1, by rw [ev, hK 1 (by decide) (by decide)]; exact q2, by rw [ev, hK 2 (by decide) (by decide)]; exact q3, by rw [ev, hK 3 (by decide) (by decide)]; exact q4, by rw [ev, hK 4 (by decide) (by decide)]; exact q5⟩
end
theorem PR.congr {K K' : Int → Int} {P : Nat → CLS} (H : PR K P) (h3 : K' 393 = K 393) (hs : ∀ t : Int, 0 ≤ t → t < K 393 → K' (395 + t) = K (395 + t)) (hc : ∀ j : Int, 401 ≤ j → K' j = K j) : PR K' P := by
  intro t ht
  rw [h3] at ht
  have h0 := H t ht
  have hst := hs t (by omega) ht
  have eC : pC K' t = pC K t := by
    funext k
    unfold pC
    rw [hst]
    split
    · rfl
    · exact hc _ (by omega)
  have eN : pN K' = pN K := by
    funext k
    unfold pN
    split
    · rfl
    · exact hc _ (by omega)
  rw [eC, eN, hst]; exact h0
