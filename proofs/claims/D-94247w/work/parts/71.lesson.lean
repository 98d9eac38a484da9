/-! plain law: lesson -/
set_option maxRecDepth 100000
set_option maxHeartbeats 400000
theorem isObj.of {h : XH} {x : Int} {c : Nat} (o : OB h x c) (hc : c < 27) (q : Cond.castable (xCls c) "java/lang/Object" ∈ lw_tbl) : isObj h x := ⟨o.1, o.2.1, by rw [o.2.2]; exact hc, Or.inr (by rw [o.2.2]; exact q)⟩
def upL (K : Int → Int) (d day q : Int) : Int → Int := up (up (up K (107 + 2 * d) day) (107 + 2 * d + 1) q) 391 (d + 1)
theorem upL_n {K : Int → Int} {d day q j : Int} (h1 : j ≠ 391) (h2 : j ≠ 107 + 2 * d) (h3 : j ≠ 107 + 2 * d + 1) : upL K d day q j = K j := (up_n h1).trans ((up_n h3).trans (up_n h2))
theorem ER.addD {g g' : Int → Int} {P : Nat → CLS} {K : Int → Int} {h h1 : XH} {W : Int → Int → Prop} {c s : Nat} {e a day q : Int} (E : ER g 1 h e K P) (KK : KI K) (hd : K 391 < 120) (f : Fr W c s h h1) (F : FAR g h W 1003) (t : TF h h1) (hg : ∀ b : Int, b ≤ (xn h : Int) → g' b = g b) (l2 : xv h1 (xv h e 2) 2 = K 391 + 1) (ol : OB h1 (xv h e 2) 26) (oa : OB h1 (xv h1 (xv h e 2) 1) 109) (ga : g' (xv h1 (xv h e 2) 1) = 1009) (la : K 391 + 1 ≤ (xl h1 (xv h1 (xv h e 2) 1) : Int)) (old : ∀ k, 0 ≤ k → k < K 391 → nth h1 (xv h e 2) k = nth h (xv h e 2) k) (new : nth h1 (xv h e 2) (K 391) = a) (o9 : OB h1 a 19) (v0 : xv h1 a 0 = day) (v1 : xv h1 a 1 = q) : ER g' 1 h1 e (upL K (K 391) day q) P := by
  have o := E.o
  have hk := KK.1
  have un : ∀ j, j ≠ 391 → ¬ (107 ≤ j ∧ j < 347) → upL K (K 391) day q j = K j := fun j h1 h2 => upL_n h1 (by omega) (by omega)
  have ev : ∀ j, xv h1 e j = xv h e j := fun j => f.v o.2.1 fun r => by have := F e j o.1 o.2.1 r; rw [E.2.1] at this; omega
  have s1 := (E.lq.gg hg).far f (fun b j b1 b2 r => by rw [hg b b2]; exact F b j b1 b2 r) (by decide)
  have s2 := (E.lp.gg hg).far f (fun b j b1 b2 r => by rw [hg b b2]; exact F b j b1 b2 r) (by decide)
  have FF : FAR g' h W 1003 := fun b j b1 b2 r => by rw [hg b b2]; exact F b j b1 b2 r
  refine ⟨f.ob o, (hg e o.2.1).trans E.2.1, ?_, ?_, ?_, ?_, ?_, ?_, ?_, ?_, fun k k0 k1 => ?_, fun k k0 k1 => ?_, fun k k1 => ?_⟩
  · rw [ev, un _ (by decide) (by decide)]; exact s1.1
  · rw [ev, un _ (by decide) (by decide)]; exact s2.1
  · rw [ev]
    refine ⟨ol, (hg _ E.ld.1.2.1).trans E.ld.2.1, l2.trans up_at.symm, ?_, Or.inr ⟨oa, ga, ?_⟩⟩
    · show 0 ≤ upL K (K 391) day q 391; rw [show upL K (K 391) day q 391 = K 391 + 1 from up_at]; omega
    · rw [show upL K (K 391) day q 391 = K 391 + 1 from up_at]; exact la
  · rw [ev]
    have I := (E.te.gg hg).far f FF (by decide)
    exact ⟨I.1, I.2.1, I.2.2.1, fun k k0 k1 => (I.2.2.2 k k0 k1).trans (un _ (by omega) (by omega)).symm⟩
  · rw [ev]
    have I := (E.fd.gg hg).far f FF (by decide)
    exact ⟨I.1, I.2.1, I.2.2.1, fun k k0 k1 => (I.2.2.2 k k0 k1).trans (un _ (by omega) (by omega)).symm⟩
  · rw [ev, un 392 (by decide) (by decide)]
    have I := (E.ye.gg hg).far f FF (by decide)
    exact ⟨I.1, I.2.1, I.2.2.1, fun k k0 k1 => (I.2.2.2 k k0 k1).trans (un _ (by omega) (by omega)).symm⟩
  · rw [ev, un 392 (by decide) (by decide)]; exact E.yd
  · rw [ev, un 394 (by decide) (by decide)]; exact E.us
  · rw [un 390 (by decide) (by decide)] at k1
    obtain ⟨p1, p2, p3, p4, p5, p6, p7, p8⟩ := E.q k k0 k1
    rw [ev, s1.2.2 (by omega)]
    have eq : ∀ j, xv h1 (nth h (xv h e 0) k) j = xv h (nth h (xv h e 0) k) j := fun j => f.v p1.2.1 fun r => by have := F _ j p1.1 p1.2.1 r; omega
    exact ⟨f.ob p1, (hg _ p1.2.1).trans p2, by rw [eq]; exact p3, by rw [eq, un _ (by omega) (by omega)]; exact p4, by rw [eq, un _ (by omega) (by omega)]; exact p5, by rw [eq, un _ (by omega) (by omega)]; exact p6, by rw [eq, un _ (by omega) (by omega)]; exact p7, by rw [eq, un _ (by omega) (by omega)]; exact p8⟩
  · rw [show upL K (K 391) day q 391 = K 391 + 1 from up_at] at k1
    rw [ev]
    by_cases ek : k = K 391
    · rw [ek, new]
      refine ⟨o9, ?_, ?_⟩
      · rw [v0]; unfold upL; rw [up_n (by omega), up_n (by omega), up_at]
      · rw [v1]; unfold upL; rw [up_n (by omega), up_at]
    · obtain ⟨p1, p2, p3⟩ := E.d k k0 (by omega)
      rw [old k k0 (by omega), upL_n (by omega) (by omega) (by omega), upL_n (by omega) (by omega) (by omega)]
      exact ⟨f.ob p1, by rw [t.v p1 rfl]; exact p2, by rw [t.v p1 rfl]; exact p3⟩
  · rw [un 393 (by decide) (by decide)] at k1
    have := E.lp.2.2.2.1
    rw [ev, s2.2.2 (by omega)]
    exact (E.p k k1).tf t
theorem KI.addD {K : Int → Int} (KK : KI K) (hd : K 391 < 120) {day q : Int} (d0 : 0 ≤ day) (d1 : day ≤ 19) (q0 : 0 ≤ q) (q1 : q < K 390) : KI (upL K (K 391) day q) := by
  obtain ⟨⟨k0, k1, k2, k3, k4⟩, k5, k6, k7, k8, k9, k10, k11⟩ := KK
  have un : ∀ j, j ≠ 391 → ¬ (107 ≤ j ∧ j < 347) → upL K (K 391) day q j = K j := fun j h1 h2 => upL_n h1 (by omega) (by omega)
  have ud : upL K (K 391) day q 391 = K 391 + 1 := up_at
  refine ⟨⟨?_, ?_, ?_, ?_, ?_⟩, fun p a b => ?_, ?_, fun k a b => ?_, fun k a b => ?_, fun k a b => ?_, fun t a b => ?_, fun j a => ?_⟩
  · rw [un _ (by decide) (by decide)]; exact k0
  · rw [ud]; omega
  · rw [un _ (by decide) (by decide)]; exact k2
  · rw [un _ (by decide) (by decide)]; exact k3
  · rw [un _ (by decide) (by decide), un _ (by decide) (by decide)]; exact k4
  · rw [un _ (by decide) (by decide)] at b
    rw [un _ (by omega) (by omega), un _ (by omega) (by omega), un _ (by omega) (by omega), un _ (by omega) (by omega), un _ (by omega) (by omega)]; exact k5 p a b
  · rw [un _ (by decide) (by decide), un _ (by decide) (by decide), un _ (by decide) (by decide), un _ (by decide) (by decide), un _ (by decide) (by decide), un _ (by decide) (by decide), un _ (by decide) (by decide)]; exact k6
  · rw [un _ (by omega) (by omega)]; exact k7 k a b
  · rw [ud] at b
    rw [un 390 (by decide) (by decide)]
    by_cases ek : k = K 391
    · rw [ek]
      have e1 : upL K (K 391) day q (107 + 2 * K 391) = day := by unfold upL; rw [up_n (by omega), up_n (by omega), up_at]
      have e2 : upL K (K 391) day q (107 + 2 * K 391 + 1) = q := by unfold upL; rw [up_n (by omega), up_at]
      rw [e1, e2]; omega
    · rw [upL_n (by omega) (by omega) (by omega), upL_n (by omega) (by omega) (by omega)]; exact k8 k a (by omega)
  · rw [un _ (by decide) (by decide)] at b
    rw [un _ (by omega) (by omega)]; exact k9 k a b
  · rw [un _ (by decide) (by decide)] at b
    rw [un _ (by omega) (by omega)]; exact k10 t a b
  · rw [un _ (by omega) (by omega)]; exact k11 j a
