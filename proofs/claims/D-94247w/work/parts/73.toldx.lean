/-! plain law: what trees of the heap tell -/
set_option maxRecDepth 100000
set_option maxHeartbeats 400000
theorem hset_hset {h : XH} {a j x y : Int} : hset (hset h a j x) a j y = hset h a j y := by
  have e : (fun b i => if b = a ∧ i = j then y else if b = a ∧ i = j then x else h.2.2.1 b i) = (fun b i => if b = a ∧ i = j then y else h.2.2.1 b i) := by
    funext b i
    by_cases c : b = a ∧ i = j
    · rw [if_pos c, if_pos c]
    · rw [if_neg c, if_neg c, if_neg c]
  exact congrArg (fun f => (h.1, h.2.1, f, h.2.2.2)) e
theorem hset_id {h : XH} {a j x : Int} (e : xv h a j = x) : hset h a j x = h := by
  have e1 : (fun b i => if b = a ∧ i = j then x else h.2.2.1 b i) = h.2.2.1 := by
    funext b i
    by_cases c : b = a ∧ i = j
    · rw [if_pos c, c.1, c.2]; exact e.symm
    · rw [if_neg c]
  exact congrArg (fun f => (h.1, h.2.1, f, h.2.2.2)) e1
theorem mul_bd {p q : Int} {B C : Nat} (hp : p.natAbs ≤ B) (hq : q.natAbs ≤ C) : (p * q).natAbs ≤ B * C := by
  rw [Int.natAbs_mul]; exact Nat.mul_le_mul hp hq
theorem mul_e9 {p q : Int} (hp : -1000000000 ≤ p ∧ p ≤ 1000000000) (hq : -1000000000 ≤ q ∧ q ≤ 1000000000) : -1000000000000000000 ≤ p * q ∧ p * q ≤ 1000000000000000000 := by
  have h := mul_bd (p := p) (q := q) (B := 1000000000) (C := 1000000000) (by omega) (by omega)
  omega
theorem tdiv_bd {p q : Int} (hp : -1000000000 ≤ p ∧ p ≤ 1000000000) : -1000000000 ≤ p.tdiv q ∧ p.tdiv q ≤ 1000000000 := by
  have h : (p.tdiv q).natAbs ≤ p.natAbs := by rw [Int.natAbs_tdiv]; exact Nat.div_le_self _ _
  omega
theorem dJ_ss {sg : Int} {d1 d2 : DS} {A : Int → Int} {p q : Int} (e1 : d1 A = some p) (e2 : d2 A = some q) : dJ sg d1 d2 A = if sg = 47 then (if q = 0 then none else some (p.tdiv q)) else dW (if sg = 43 then p + q else if sg = 45 then p - q else p * q) := by
  show (d1 A).bind (fun p => (d2 A).bind fun q => _) = _
  rw [e1]; show (d2 A).bind _ = _; rw [e2]; rfl
theorem dJ_n1 {sg : Int} {d1 d2 : DS} {A : Int → Int} (e1 : d1 A = none) : dJ sg d1 d2 A = none := by
  show (d1 A).bind (fun p => (d2 A).bind fun q => _) = _
  rw [e1]; rfl
theorem dJ_n2 {sg : Int} {d1 d2 : DS} {A : Int → Int} (e2 : d2 A = none) : dJ sg d1 d2 A = none := by
  show (d1 A).bind (fun p => (d2 A).bind fun q => _) = _
  cases d1 A with
  | none => rfl
  | some p => show (d2 A).bind _ = _; rw [e2]; rfl
theorem dC_ss {sg : Int} {d1 d2 : DS} {A : Int → Int} {p q : Int} (e1 : d1 A = some p) (e2 : d2 A = some q) : dC sg d1 d2 A = some (if sg = 60 then decide (p < q) else if sg = 62 then decide (q < p) else decide (p = q)) := by
  show (d1 A).bind (fun p => (d2 A).bind fun q => _) = _
  rw [e1]; show (d2 A).bind _ = _; rw [e2]; rfl
theorem dC_n1 {sg : Int} {d1 d2 : DS} {A : Int → Int} (e1 : d1 A = none) : dC sg d1 d2 A = none := by
  show (d1 A).bind (fun p => (d2 A).bind fun q => _) = _
  rw [e1]; rfl
theorem dC_n2 {sg : Int} {d1 d2 : DS} {A : Int → Int} (e2 : d2 A = none) : dC sg d1 d2 A = none := by
  show (d1 A).bind (fun p => (d2 A).bind fun q => _) = _
  cases d1 A with
  | none => rfl
  | some p => show (d2 A).bind _ = _; rw [e2]; rfl
def b9 (v : Int) : Prop := -1000000000 ≤ v ∧ v ≤ 1000000000
/-- a sum's value, or brokenness -/
def EX (o : Option Int) (h : XH) (r : Option XR) : Prop := (∃ v, o = some v ∧ b9 v ∧ r = some (v, h)) ∨ (o = none ∧ ∃ v, r = some (v, hset h 10 1 1))
def ET (o : Option Bool) (h : XH) (r : Option XR) : Prop := (∃ b, o = some b ∧ r = some (if b = true then 1 else 0, h)) ∨ (o = none ∧ ∃ v, r = some (v, hset h 10 1 1))
def AB (A : Int → Int) (f : Int → Int) : Prop := ∀ i, 0 ≤ i → i ≤ 6 → f i = A i ∧ b9 (A i)
section
variable {h : XH} {A : Int → Int}
theorem F_within_eq (H : SH h) (b0 : xv h 10 1 = 0) {x : Int} : EX (dW x) h (F_X2_within 10 x h) := by
  have x1 : OB (hset h 10 1 1) 10 3 := H.x10
  have e24 : F_X2_within_24 10 10 x h = some (0, hset h 10 1 1) := by
    unfold F_X2_within_24 F_X2_within_29
    rw [obk H.x10, cb_ok (Or.inr rfl), nm_eq, obk x1, hset_vv, if_neg (by decide), nm_eq]
  have e29 : F_X2_within_29 10 0 10 x h = some (x, h) := by
    unfold F_X2_within_29
    rw [obk H.x10, cb_ok (Or.inl rfl), nm_eq, hset_id b0, obk H.x10, b0, if_pos rfl, nm_eq]
  unfold F_X2_within
  rw [obk H.x10, if_pos b0, e24, e29]
  unfold dW EX b9
  by_cases c1 : 1000000000 < x
  · rw [if_pos c1, if_pos (Or.inl c1)]; exact Or.inr ⟨rfl, _, rfl⟩
  · rw [if_neg c1]
    by_cases c2 : -1000000000 ≤ x
    · rw [if_pos c2, if_neg (by omega)]; exact Or.inl ⟨x, rfl, by omega, rfl⟩
    · rw [if_neg c2, if_pos (by omega)]; exact Or.inr ⟨rfl, _, rfl⟩
theorem VSum_ok (H : SH h) (b0 : xv h 10 1 = 0) (hA : AB A (xv h 11)) : ∀ (n : Nat) (a : Int) (d : DS), HS n h a d → EX (d A) h (VSum n a 10 h) := by
  intro n
  induction n with
  | zero => intro a d q; exact q.elim
  | succ n ih =>
    intro a d q
    rcases q with ⟨o, r, e⟩ | ⟨o, r, e⟩ | ⟨o, d1, d2, q1, q2, r, e⟩
    · rw [VSum, if_pos o.2.2, obk o, e]
      unfold F_X9_of
      rw [obk o]
      exact Or.inl ⟨_, rfl, ⟨by omega, by omega⟩, rfl⟩
    · have hA1 := hA _ r.1 r.2
      rw [VSum, if_neg (by rw [o.2.2]; decide), if_pos o.2.2, obk o, e]
      unfold F_X10_of
      rw [obk H.x10, obk o, H.a0, aik (t := 1) H.x11 r.1 (by rw [H.l11]; omega), hA1.1]
      exact Or.inl ⟨_, rfl, hA1.2, rfl⟩
    · rw [VSum, if_neg (by rw [o.2.2]; decide), if_neg (by rw [o.2.2]; decide), if_pos o.2.2, obk o, e]
      have x1 : OB (hset h 10 1 1) 10 3 := H.x10
      have o1 : OB (hset h 10 1 1) a 10 := o
      have e28 : ∀ s x2, F_X11_of_28 (VSum n) s a 10 x2 (hset h 10 1 1) = some (0, hset h 10 1 1) := fun s x2 => by
        unfold F_X11_of_28
        rw [obk x1, hset_vv, if_neg (by decide)]
      unfold F_X11_of_b
      rw [obk o]
      rcases ih _ _ q1 with ⟨p, p1, p2, p3⟩ | ⟨p1, v, p3⟩
      · rw [p3, mb_some, obk H.x10, if_pos b0, obk o]
        rcases ih _ _ q2 with ⟨s, s1, s2, s3⟩ | ⟨s1, v, s3⟩
        · rw [s3, mb_some, dJ_ss p1 s1]
          unfold F_X11_of_28
          rw [obk H.x10, if_pos b0, obk o, obk o, obk o]
          by_cases c : xv h a 2 = 47
          · rw [if_pos c, if_pos c]
            by_cases c2 : s = 0
            · rw [if_pos c2, if_pos c2, nm_eq, obk H.x10, cb_ok (Or.inr rfl), nm_eq, if_pos c2]
              exact Or.inr ⟨rfl, _, rfl⟩
            · have hb := tdiv_bd (q := s) p2
              rw [if_neg c2, if_neg c2, nm_eq, obk H.x10, cb_ok (Or.inl rfl), nm_eq, if_neg c2, cz_ok c2, w64_id (by omega) (by omega), hset_id b0]
              exact Or.inl ⟨_, rfl, hb, rfl⟩
          · rw [if_neg c, if_neg c]
            have e117 : ∀ y, F_X11_of_117 (VSum n) 10 y h = F_X2_within 10 y h := fun y => by
              unfold F_X11_of_117
              rw [obk H.x10, mb_id]
            rw [e117, e117, e117]
            unfold b9 at p2 s2
            by_cases c3 : xv h a 2 = 43
            · rw [if_pos c3, if_pos c3, w64_id (by omega) (by omega)]; exact F_within_eq H b0
            · rw [if_neg c3, if_neg c3]
              by_cases c4 : xv h a 2 = 45
              · rw [if_pos c4, if_pos c4, w64_id (by omega) (by omega)]; exact F_within_eq H b0
              · have hm := mul_e9 p2 s2
                rw [if_neg c4, if_neg c4, w64_id (by omega) (by omega)]; exact F_within_eq H b0
        · rw [s3, mb_some, dJ_n2 s1, e28]; exact Or.inr ⟨rfl, _, rfl⟩
      · rw [p3, mb_some, obk x1, hset_vv, if_neg (by decide), dJ_n1 p1, e28]; exact Or.inr ⟨rfl, _, rfl⟩
theorem row_ok (H : SH h) (b0 : xv h 10 1 = 0) {m : Nat} (R : Int → Int → XH → Option XR) {a arr : Int} (o : OB h a 13) (o2 : OB h arr 108) (r : xv h a 0 = 0 ∨ xv h a 0 = 1) (hR : ∀ c d, HT m h c d → ET (d A) h (R c 10 h)) : ∀ (es : List DT) (k : Int) (fuel : Nat), 0 ≤ k → k + es.length = (xl h arr : Int) → k + es.length ≤ 50 → es.length < fuel → (∀ (i : Nat) (d1 : DT), es[i]? = some d1 → HT m h (xv h arr (k + i)) d1) → ET (dR (decide (xv h a 0 = 1)) es A) h (F_X15_of_11 R fuel a 10 arr (xl h arr : Int) k h) := by
  intro es
  induction es with
  | nil =>
    intro k fuel k0 k1 k2 hf hd
    cases fuel with
    | zero => exact absurd hf (Nat.not_lt_zero _)
    | succ fuel =>
      have k3 : k = (xl h arr : Int) := by rw [← k1]; simp
      rw [F_X15_of_11, if_pos (by omega)]
      unfold F_X15_of_68
      rw [obk o, cb_ok r]
      refine Or.inl ⟨_, rfl, ?_⟩
      rcases r with r | r
      · rw [r]; rfl
      · rw [r]; rfl
  | cons d1 es ih =>
    intro k fuel k0 k1 k2 hf hd
    cases fuel with
    | zero => exact absurd hf (Nat.not_lt_zero _)
    | succ fuel =>
      rw [List.length_cons] at k1 k2 hf
      have h0 := hd 0 d1 rfl
      rw [show k + ((0 : Nat) : Int) = k by omega] at h0
      rw [F_X15_of_11, if_neg (by omega), aik (t := 8) o2 k0 (by omega), nm_eq]
      rcases hR _ _ h0 with ⟨b, e, e2⟩ | ⟨e, v, e2⟩
      · rw [e2, mb_some, obk H.x10, if_pos b0, obk o]
        have ed : dR (decide (xv h a 0 = 1)) (d1 :: es) A = if b = decide (xv h a 0 = 1) then dR (decide (xv h a 0 = 1)) es A else some (!decide (xv h a 0 = 1)) := by
          show (d1 A).bind _ = _
          rw [e]; rfl
        rw [ed]
        by_cases c : b = decide (xv h a 0 = 1)
        · rw [if_pos c, if_pos (by rw [c]; rcases r with r | r <;> rw [r] <;> rfl), nm_eq, w32_id (by omega) (by omega)]
          exact ih (k + 1) fuel (by omega) (by omega) (by omega) (by omega) (fun i d2 hi => by
            have := hd (i + 1) d2 hi
            rw [show k + ((i + 1 : Nat) : Int) = k + 1 + i by omega] at this
            exact this)
        · have c2 : ¬ (if b = true then (1 : Int) else 0) = xv h a 0 := fun e => c (by
            rcases r with r | r
            · rw [r] at e ⊢
              cases b with
              | true => exact absurd e (by decide)
              | false => rfl
            · rw [r] at e ⊢
              cases b with
              | true => rfl
              | false => exact absurd e (by decide))
          rw [if_neg c, if_neg c2]
          unfold F_X15_of_49
          rw [obk o, nm_eq, cb_ok (by split <;> simp)]
          refine Or.inl ⟨_, rfl, ?_⟩
          rcases r with r | r
          · rw [r]; rfl
          · rw [r]; rfl
      · have x1 : OB (hset h 10 1 1) 10 3 := H.x10
        rw [e2, mb_some, obk x1, hset_vv, if_neg (by decide)]
        refine Or.inr ⟨?_, _, rfl⟩
        show (d1 A).bind _ = _
        rw [e]; rfl
theorem VTest_ok (H : SH h) (b0 : xv h 10 1 = 0) (hA : AB A (xv h 11)) : ∀ (n : Nat) (a : Int) (d : DT), HT n h a d → ET (d A) h (VTest n a 10 h) := by
  intro n
  induction n with
  | zero => intro a d q; exact q.elim
  | succ n ih =>
    intro a d q
    have x1 : OB (hset h 10 1 1) 10 3 := H.x10
    rcases q with ⟨o, d1, d2, q1, q2, r, e⟩ | ⟨o, d1, q1, e⟩ | ⟨o, r, o2, ds, e1, e2, q1, e⟩
    · have e28 : ∀ s x2, F_X13_of_28 s a 10 x2 (hset h 10 1 1) = some (0, hset h 10 1 1) := fun s x2 => by
        unfold F_X13_of_28
        rw [obk x1, hset_vv, if_neg (by decide)]
      rw [VTest, if_pos o.2.2, obk o, e]
      unfold F_X13_of
      rw [obk o, RF_eq]
      rcases VSum_ok H b0 hA _ _ _ q1 with ⟨p, p1, p2, p3⟩ | ⟨p1, v, p3⟩
      · rw [p3, mb_some, obk H.x10, if_pos b0, obk o]
        rcases VSum_ok H b0 hA _ _ _ q2 with ⟨s, s1, s2, s3⟩ | ⟨s1, v, s3⟩
        · rw [s3, mb_some, dC_ss p1 s1]
          refine Or.inl ⟨_, rfl, ?_⟩
          unfold F_X13_of_28
          rw [obk H.x10, if_pos b0, obk o, obk o]
          by_cases c : xv h a 2 = 60
          · rw [if_pos c, if_pos c]
            by_cases c2 : s ≤ p
            · rw [if_pos c2, decide_eq_false (by omega)]; rfl
            · rw [if_neg c2, decide_eq_true (by omega)]; rfl
          · rw [if_neg c, if_neg c]
            by_cases c3 : xv h a 2 = 62
            · rw [if_pos c3, if_pos c3]
              by_cases c2 : p ≤ s
              · rw [if_pos c2, decide_eq_false (by omega)]; rfl
              · rw [if_neg c2, decide_eq_true (by omega)]; rfl
            · rw [if_neg c3, if_neg c3]
              by_cases c2 : p = s
              · rw [if_pos c2, decide_eq_true c2]; rfl
              · rw [if_neg c2, decide_eq_false c2]; rfl
        · rw [s3, mb_some, dC_n2 s1, e28]; exact Or.inr ⟨rfl, _, rfl⟩
      · rw [p3, mb_some, obk x1, hset_vv, if_neg (by decide), dC_n1 p1, e28]; exact Or.inr ⟨rfl, _, rfl⟩
    · rw [VTest, if_neg (by rw [o.2.2]; decide), if_pos o.2.2, obk o, e]
      unfold F_X14_of_b
      rw [obk o]
      rcases ih _ _ q1 with ⟨b, p1, p3⟩ | ⟨p1, v, p3⟩
      · rw [p3, mb_some]
        refine Or.inl ⟨!b, by unfold dN; rw [p1]; rfl, ?_⟩
        cases b with
        | true => rfl
        | false => show (if (0 : Int) = 0 then _ else _) = _; rw [if_pos rfl, obk H.x10, if_pos b0]; rfl
      · rw [p3, mb_some]
        refine Or.inr ⟨by unfold dN; rw [p1]; rfl, ?_⟩
        by_cases c : v = 0
        · rw [if_pos c, obk x1, hset_vv, if_neg (by decide)]; exact ⟨_, rfl⟩
        · rw [if_neg c]; exact ⟨_, rfl⟩
    · rw [VTest, if_neg (by rw [o.2.2]; decide), if_neg (by rw [o.2.2]; decide), if_pos o.2.2, obk o, e]
      unfold F_X15_of_b
      rw [obk o, nm_eq, alk (t := 8) o2, nm_eq]
      have hl : (xl h (xv h a 1) : Int) = ds.length := by rw [e1]
      refine row_ok (m := n) H b0 (VTest n) o o2 r (fun c d hc => ih c d hc) ds 0 FU (by decide) (by rw [hl]; omega) (by omega) (by rw [FU_eq]; omega) (fun i d1 hi => ?_)
      rw [Int.zero_add]; exact q1 i d1 hi
end
