/-! plain law: steps that make cells of the exam's own -/
set_option maxRecDepth 100000
set_option maxHeartbeats 400000
section
variable {g g' : Int → Int} {P : Nat → CLS} {h h1 : XH} {V : VV} {W : Int → Int → Prop} {c s : Nat}
theorem LR.gg {t l n : Int} (L : LR g t h l n) (hg : ∀ a : Int, a ≤ (xn h : Int) → g' a = g a) : LR g' t h l n := by
  obtain ⟨o, q1, q2, q3, q4⟩ := L
  refine ⟨o, (hg l o.2.1).trans q1, q2, q3, ?_⟩
  rcases q4 with q4 | ⟨o2, q5, q6⟩
  · exact Or.inl q4
  · exact Or.inr ⟨o2, (hg _ o2.2.1).trans q5, q6⟩
theorem IR.gg {t a : Int} {len : Nat} {F : Int → Int} {n : Int} (I : IR g t h a len F n) (hg : ∀ a : Int, a ≤ (xn h : Int) → g' a = g a) : IR g' t h a len F n := ⟨I.1, (hg a I.1.2.1).trans I.2.1, I.2.2⟩
theorem ER.gg {i e : Int} {K : Int → Int} (E : ER g i h e K P) (hg : ∀ a : Int, a ≤ (xn h : Int) → g' a = g a) : ER g' i h e K P := by
  obtain ⟨o, q1, l1, l2, l3, i1, i2, i3, q2, q3, q4, q5, q6⟩ := E
  exact ⟨o, (hg e o.2.1).trans q1, l1.gg hg, l2.gg hg, l3.gg hg, i1.gg hg, i2.gg hg, i3.gg hg, q2, q3, fun k a b => by
    obtain ⟨p1, p2, p3⟩ := q4 k a b
    exact ⟨p1, (hg _ p1.2.1).trans p2, p3⟩, q5, q6⟩
theorem IM.gg {i : Int} (I : IM g h V i) (hg : ∀ a : Int, a ≤ (xn h : Int) → g' a = g a) : IM g' h V i := by
  rcases I with I | ⟨I1, P, I2, I3, I4⟩
  · exact Or.inl I
  · exact Or.inr ⟨I1, P, I2.gg hg, I3, I4⟩
theorem OWN.gg (o : OWN g h W) (hg : ∀ a : Int, a ≤ (xn h : Int) → g' a = g a) : OWN g' h W := fun a j a1 a2 q => by
  have := o a j a1 a2 q
  rw [hg a a2]; exact this
/-- what holds behind the exam's own writes, ahead of the end -/
def MID (g : Int → Int) (h : XH) (V : VV) (h1 : XH) : Prop := SH h1 ∧ GW g h1 ∧ (IM g h1 V 0 ∧ IM g h1 V 1) ∧ (∀ j, xv h1 1 j = xv h 1 j) ∧ (∀ j, xv h1 14 j = xv h 14 j) ∧ (∀ j, xv h1 16 j = xv h 16 j) ∧ TB h1 V
theorem RelG.mid {n : Nat} (R : RelG g P n h V) (f : Fr W c s h h1) (o : OWN g h W) (hg : ∀ a : Int, a ≤ (xn h : Int) → g' a = g a) (hz : ∀ a : Int, (xn h1 : Int) < a → g' a = 0) (h14 : ∀ a : Int, (xn h : Int) < a → a ≤ (xn h1 : Int) → xk h1 a = 14 → g' a = 0) : MID g' h V h1 := by
  obtain ⟨a1, a2, a3, a4, a5, a6, a7⟩ := R.own f o
  have e9 : ∀ j, xv h1 9 j = xv h 9 j := fun j => f.v (by have := R.sh.1; omega) (o.no (by decide) (by have := R.sh.1; omega) R.gw.1.2.1)
  have hn := R.sh.1
  refine ⟨a1, ⟨?_, fun a b1 b2 b3 => ?_, hz⟩, ⟨(R.im.1.gg hg).own (by decide) (o.gg hg) f (e9 0) rfl rfl, (R.im.2.gg hg).own (by decide) (o.gg hg) f (e9 1) rfl rfl⟩, a4, a5, a6, a7⟩
  · obtain ⟨b1, b2, b3, b4, b5, b6, b7⟩ := R.gw.1
    exact ⟨(hg 1 (by omega)).trans b1, (hg 9 (by omega)).trans b2, (hg 10 (by omega)).trans b3, (hg 11 (by omega)).trans b4, (hg 14 (by omega)).trans b5, (hg 15 (by omega)).trans b6, (hg 16 (by omega)).trans b7⟩
  · by_cases ha : a ≤ (xn h : Int)
    · rw [hg a ha]; exact R.gw.2.1 a b1 ha (by rw [← f.k ha]; exact b3)
    · exact h14 a (by omega) b2 b3
end
