/-! plain law: what a list that grew by one stands for -/
set_option maxRecDepth 100000
set_option maxHeartbeats 400000
/-- the tags behind: a new array of the list's gets its tag -/
def gx (g : Int → Int) (a t : Int) : Int → Int := fun b => if b = a then t else g b
theorem Added.lr {g' : Int → Int} {t : Int} {h h' : XH} {l n x : Int} (A : Added h h' l n x) (n0 : 0 ≤ n) (e1 : g' l = t) (e2 : g' (xv h' l 1) = t + 6) : LR g' t h' l (n + 1) := by
  obtain ⟨f, a2, a3, a4, a5, a6, a7, a8⟩ := A
  exact ⟨a3, e1, a2, by omega, Or.inr ⟨a4, e2, a5⟩⟩
theorem Fr.setN {W : Int → Int → Prop} {c s : Nat} {h h1 : XH} {a j x : Int} (f : Fr W c s h h1) (ha : (xn h : Int) < a) : Fr W c s h (hset h1 a j x) := ⟨f.1, f.2.1, fun b i hb hn => (hset_vn (by omega)).trans (f.v hb hn)⟩
/-- cells of other tags are not touched -/
def FAR (g : Int → Int) (h : XH) (W : Int → Int → Prop) (t : Int) : Prop := ∀ b j : Int, 1 ≤ b → b ≤ (xn h : Int) → W b j → g b = t ∨ g b = t + 6
section
variable {g : Int → Int} {P : Nat → CLS} {K : Int → Int} {h h1 : XH} {W : Int → Int → Prop} {c s : Nat} {t0 : Int}
theorem LR.far {t l n : Int} (L : LR g t h l n) (f : Fr W c s h h1) (F : FAR g h W t0) (e1 : t ≠ t0 ∧ t ≠ t0 + 6 ∧ t + 6 ≠ t0) : LR g t h1 l n ∧ xv h1 l 1 = xv h l 1 ∧ (1 ≤ n → ∀ k, nth h1 l k = nth h l k) := by
  obtain ⟨o, q1, q2, q3, q4⟩ := L
  have ev : ∀ j, xv h1 l j = xv h l j := fun j => f.v o.2.1 fun q => by have := F l j o.1 o.2.1 q; omega
  refine ⟨⟨f.ob o, q1, by rw [ev]; exact q2, q3, ?_⟩, ev 1, fun hn k => ?_⟩
  · rw [ev]
    rcases q4 with q4 | ⟨o2, q5, q6⟩
    · exact Or.inl q4
    · exact Or.inr ⟨f.ob o2, q5, by rw [f.l o2.2.1]; exact q6⟩
  · unfold nth
    rw [ev]
    rcases q4 with q4 | ⟨o2, q5, q6⟩
    · omega
    · exact f.v o2.2.1 fun q => by have := F _ k o2.1 o2.2.1 q; omega
theorem IR.far {t a : Int} {len : Nat} {G : Int → Int} {n : Int} (I : IR g t h a len G n) (f : Fr W c s h h1) (F : FAR g h W t0) (e1 : t ≠ t0 ∧ t ≠ t0 + 6) : IR g t h1 a len G n := by
  obtain ⟨o, q1, q2, q3⟩ := I
  exact ⟨f.ob o, q1, by rw [f.l o.2.1]; exact q2, fun k k0 k1 => by rw [f.v o.2.1 fun q => by have := F a k o.1 o.2.1 q; omega]; exact q3 k k0 k1⟩
end
