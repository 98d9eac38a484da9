/-! plain law: the odds -/
set_option maxRecDepth 100000
set_option maxHeartbeats 400000
theorem grS_cases (c n : Int → Int) : (grS c n = -1 ∧ n 0 ≤ 0 ∧ n 1 ≤ 0 ∧ n 2 ≤ 0) ∨ (∃ l : Int, grS c n = l ∧ 0 ≤ l ∧ l ≤ 2 ∧ 0 < n l) := by
  have key : ∀ b0 b1 : Int, b0 = (if 0 < n 0 then 0 else -1) → b1 = (if 0 < n 1 ∧ (b0 = -1 ∨ c b0 < c 1) then 1 else b0) → grS c n = (if 0 < n 2 ∧ (b1 = -1 ∨ c b1 < c 2) then 2 else b1) := fun b0 b1 h0 h1 => by rw [h1, h0]; rfl
  by_cases c0 : 0 < n 0
  · by_cases c1 : 0 < n 1 ∧ ((0 : Int) = -1 ∨ c 0 < c 1)
    · have k := key 0 1 (if_pos c0).symm (if_pos c1).symm
      by_cases c2 : 0 < n 2 ∧ ((1 : Int) = -1 ∨ c 1 < c 2)
      · rw [if_pos c2] at k; exact Or.inr ⟨2, k, by decide, by decide, c2.1⟩
      · rw [if_neg c2] at k; exact Or.inr ⟨1, k, by decide, by decide, c1.1⟩
    · have k := key 0 0 (if_pos c0).symm (if_neg c1).symm
      by_cases c2 : 0 < n 2 ∧ ((0 : Int) = -1 ∨ c 0 < c 2)
      · rw [if_pos c2] at k; exact Or.inr ⟨2, k, by decide, by decide, c2.1⟩
      · rw [if_neg c2] at k; exact Or.inr ⟨0, k, by decide, by decide, c0⟩
  · by_cases c1 : 0 < n 1 ∧ ((-1 : Int) = -1 ∨ c (-1) < c 1)
    · have k := key (-1) 1 (if_neg c0).symm (if_pos c1).symm
      by_cases c2 : 0 < n 2 ∧ ((1 : Int) = -1 ∨ c 1 < c 2)
      · rw [if_pos c2] at k; exact Or.inr ⟨2, k, by decide, by decide, c2.1⟩
      · rw [if_neg c2] at k; exact Or.inr ⟨1, k, by decide, by decide, c1.1⟩
    · have k := key (-1) (-1) (if_neg c0).symm (if_neg c1).symm
      have n1 : ¬ 0 < n 1 := fun e => c1 ⟨e, Or.inl rfl⟩
      by_cases c2 : 0 < n 2 ∧ ((-1 : Int) = -1 ∨ c (-1) < c 2)
      · rw [if_pos c2] at k; exact Or.inr ⟨2, k, by decide, by decide, c2.1⟩
      · rw [if_neg c2] at k
        have n2 : ¬ 0 < n 2 := fun e => c2 ⟨e, Or.inl rfl⟩
        exact Or.inl ⟨k, by omega, by omega, by omega⟩
theorem decS_size {n : Int → Int} {l : Int} (h0 : 0 ≤ l) (h2 : l ≤ 2) : sizeS (decS n l) = sizeS n - 1 := by
  unfold sizeS decS
  have : l = 0 ∨ l = 1 ∨ l = 2 := by omega
  rcases this with rfl | rfl | rfl <;> simp <;> omega
theorem incS_size {n : Int → Int} {l : Int} (h0 : 0 ≤ l) (h2 : l ≤ 2) : sizeS (incS n l) = sizeS n + 1 := by
  unfold sizeS incS
  have : l = 0 ∨ l = 1 ∨ l = 2 := by omega
  rcases this with rfl | rfl | rfl <;> simp <;> omega
def nn3 (n : Int → Int) : Prop := 0 ≤ n 0 ∧ 0 ≤ n 1 ∧ 0 ≤ n 2
theorem nn3.at {n : Int → Int} (h : nn3 n) {l : Int} (h0 : 0 ≤ l) (h2 : l ≤ 2) : 0 ≤ n l := by
  have : l = 0 ∨ l = 1 ∨ l = 2 := by omega
  rcases this with rfl | rfl | rfl
  · exact h.1
  · exact h.2.1
  · exact h.2.2
theorem nn3.dec {n : Int → Int} {l : Int} (h : nn3 n) (hl : 0 < n l) : nn3 (decS n l) := by
  obtain ⟨a, b, d⟩ := h
  unfold nn3 decS
  refine ⟨?_, ?_, ?_⟩
  · split
    · rename_i e; rw [e]; omega
    · exact a
  · split
    · rename_i e; rw [e]; omega
    · exact b
  · split
    · rename_i e; rw [e]; omega
    · exact d
theorem nn3.inc {n : Int → Int} {l : Int} (h : nn3 n) : nn3 (incS n l) := by
  obtain ⟨a, b, d⟩ := h
  unfold nn3 incS
  refine ⟨?_, ?_, ?_⟩ <;> split <;> omega
/-- percents -/
def pc3 (c : Int → Int) : Prop := ∀ l : Int, 0 ≤ l → l ≤ 2 → 0 ≤ c l ∧ c l ≤ 100
def S4 (w : Int → Int) : Int := w 0 + w 1 + w 2 + w 3
theorem pw_ok {c : Int → Int} (hc : pc3 c) : ∀ (a : Nat) (n w : Int → Int) (m : Int), nn3 n → (a : Int) ≤ sizeS n → 0 ≤ m → m + a ≤ 3 → (∀ r, 0 ≤ w r) → (∀ r, m < r → w r = 0) → S4 (pwS c a n w) = 100 ^ a * S4 w ∧ (∀ r, 0 ≤ pwS c a n w r) ∧ ∀ r, m + a < r → pwS c a n w r = 0
  | 0, n, w, m, hn, ha, m0, hm, h0, hz => by
    refine ⟨?_, h0, fun r hr => hz r (by omega)⟩
    show S4 w = 1 * S4 w
    rw [Int.one_mul]
  | a + 1, n, w, m, hn, ha, m0, hm, h0, hz => by
    rcases grS_cases c n with ⟨-, z0, z1, z2⟩ | ⟨l, e, l0, l2, hl⟩
    · exfalso; unfold sizeS at ha; omega
    · have hcl := hc l l0 l2
      have hst : ∀ r, 0 ≤ stpS (c l) w r := fun r => by
        unfold stpS
        have h1 := Int.mul_nonneg (h0 r) (show 0 ≤ 100 - c l by omega)
        by_cases cr : 0 < r
        · rw [if_pos cr]; have := Int.mul_nonneg (h0 (r - 1)) hcl.1; omega
        · rw [if_neg cr]; omega
      have hsz : ∀ r, m + 1 < r → stpS (c l) w r = 0 := fun r hr => by
        unfold stpS
        rw [hz r (by omega), if_pos (by omega), hz (r - 1) (by omega)]; simp
      have ih := pw_ok hc a (decS n l) (stpS (c l) w) (m + 1) (hn.dec hl) (by rw [decS_size l0 l2]; omega) (by omega) (by omega) hst hsz
      have e2 : pwS c (a + 1) n w = pwS c a (decS n l) (stpS (c l) w) := by
        show (if grS c n = -1 then w else pwS c a (decS n (grS c n)) (stpS (c (grS c n)) w)) = _
        rw [e, if_neg (by omega)]
      rw [e2]
      refine ⟨?_, ih.2.1, fun r hr => ih.2.2 r (by omega)⟩
      rw [ih.1]
      have h3 := hz 3 (by omega)
      have e4 : S4 (stpS (c l) w) = 100 * S4 w := by
        show stpS (c l) w 0 + stpS (c l) w 1 + stpS (c l) w 2 + stpS (c l) w 3 = 100 * (w 0 + w 1 + w 2 + w 3)
        have q0 : stpS (c l) w 0 = w 0 * (100 - c l) + 0 := rfl
        have q1 : stpS (c l) w 1 = w 1 * (100 - c l) + w 0 * c l := rfl
        have q2 : stpS (c l) w 2 = w 2 * (100 - c l) + w 1 * c l := rfl
        have q3 : stpS (c l) w 3 = w 3 * (100 - c l) + w 2 * c l := rfl
        rw [q0, q1, q2, q3, h3]
        grind
      rw [e4]
      have e5 : (100 : Int) ^ (a + 1) = 100 ^ a * 100 := Int.pow_succ 100 a
      rw [e5]; grind
/-- the system's way: what is not answered counts a hundred -/
def xwS (c : Int → Int) : Nat → (Int → Int) → (Int → Int) → (Int → Int)
  | 0, _, w => w
  | a + 1, n, w => if grS c n = -1 then xwS c a n (fun r => w r * 100) else xwS c a (decS n (grS c n)) (stpS (c (grS c n)) w)
theorem xw_none {c n : Int → Int} (h : grS c n = -1) : ∀ (a : Nat) (w : Int → Int), xwS c a n w = fun r => w r * 100 ^ a
  | 0, w => by funext r; show w r = w r * 1; rw [Int.mul_one]
  | a + 1, w => by
    have e : xwS c (a + 1) n w = xwS c a n (fun r => w r * 100) := if_pos h
    rw [e, xw_none h a]
    funext r
    rw [Int.pow_succ 100 a]; grind
theorem xw_pw {c : Int → Int} : ∀ (a x : Nat) (n w : Int → Int), nn3 n → (a : Int) ≤ sizeS n → (x = 0 ∨ (a : Int) = sizeS n) → xwS c (a + x) n w = fun r => pwS c a n w r * 100 ^ x
  | 0, x, n, w, hn, ha, hx => by
    rw [Nat.zero_add]
    rcases hx with rfl | hx
    · funext r; show w r = w r * 1; rw [Int.mul_one]
    · have hg : grS c n = -1 := by
        rcases grS_cases c n with ⟨e, -⟩ | ⟨l, -, l0, l2, hl⟩
        · exact e
        · exfalso
          obtain ⟨a0, a1, a2⟩ := hn
          unfold sizeS at hx
          have : l = 0 ∨ l = 1 ∨ l = 2 := by omega
          rcases this with rfl | rfl | rfl <;> omega
      exact xw_none hg x w
  | a + 1, x, n, w, hn, ha, hx => by
    rcases grS_cases c n with ⟨-, z0, z1, z2⟩ | ⟨l, e, l0, l2, hl⟩
    · exfalso; unfold sizeS at ha; omega
    · have e1 : xwS c (a + 1 + x) n w = xwS c (a + x) (decS n l) (stpS (c l) w) := by
        rw [show a + 1 + x = (a + x) + 1 by omega]
        show (if grS c n = -1 then _ else xwS c (a + x) (decS n (grS c n)) (stpS (c (grS c n)) w)) = _
        rw [e, if_neg (by omega)]
      have e2 : pwS c (a + 1) n w = pwS c a (decS n l) (stpS (c l) w) := by
        show (if grS c n = -1 then w else pwS c a (decS n (grS c n)) (stpS (c (grS c n)) w)) = _
        rw [e, if_neg (by omega)]
      rw [e1, e2]
      exact xw_pw a x (decS n l) _ (hn.dec hl) (by rw [decS_size l0 l2]; omega) (by rcases hx with hx | hx; exact Or.inl hx; right; rw [decS_size l0 l2]; omega)
theorem w0_ok : (∀ r, 0 ≤ w0S r) ∧ (∀ r, 0 < r → w0S r = 0) ∧ S4 w0S = 1 := by
  refine ⟨fun r => ?_, fun r hr => ?_, rfl⟩
  · unfold w0S; split <;> decide
  · unfold w0S; rw [if_neg (by omega)]
theorem pw0 {c : Int → Int} (hc : pc3 c) {a : Nat} {n : Int → Int} (hn : nn3 n) (ha : (a : Int) ≤ sizeS n) (h3 : a ≤ 3) : S4 (pwS c a n w0S) = 100 ^ a ∧ (∀ r, 0 ≤ pwS c a n w0S r) ∧ ∀ r, (a : Int) < r → pwS c a n w0S r = 0 := by
  obtain ⟨q1, q2, q3⟩ := pw_ok hc a n w0S 0 hn ha (Int.le_refl 0) (by omega) w0_ok.1 w0_ok.2.1
  refine ⟨?_, q2, fun r hr => q3 r (by omega)⟩
  rw [q1, w0_ok.2.2, Int.mul_one]
/-- lots, over the pairs that fit -/
theorem lotS_Tr (c : Int → Int) (ans : Nat) (th : Int → Int) (d : Nat) (bes r : Int) : lotS c ans th (d : Int) bes r = Tr (fun a b => setS th d a b * pwS c ans (lieS d bes a b) w0S r) d := by
  unfold lotS Tr
  rw [show ((d : Int) + 1).toNat = d + 1 by omega, Sg_Sn]
  refine Sn_congr fun a ha => ?_
  show Sg _ ((d : Int) - (0 + (a : Int)) + 1).toNat 0 = _
  rw [show ((d : Int) - (0 + (a : Int)) + 1).toNat = d - a + 1 by omega, Sg_Sn]
  refine Sn_congr fun b hb => ?_
  rw [Int.zero_add, Int.zero_add]
theorem setS_nat {th : Int → Int} {p q r d a b : Nat} (h0 : th 0 = p) (h1 : th 1 = q) (h2 : th 2 = r) (h : a + b ≤ d) : setS th d a b = bin p a * bin q b * bin r (d - a - b) := by
  unfold setS
  rw [h0, h1, h2, chooseS_nat, chooseS_nat, show (d : Int) - a - b = ((d - a - b : Nat) : Int) by omega, chooseS_nat]
theorem setS_nn (th : Int → Int) (d a b : Int) : 0 ≤ setS th d a b := Int.mul_nonneg (Int.mul_nonneg (chooseS_nn _ _) (chooseS_nn _ _)) (chooseS_nn _ _)
theorem set_sum {th : Int → Int} (hn : nn3 th) (d : Nat) : Tr (fun a b => setS th d a b) d = chooseS (sizeS th) d := by
  obtain ⟨a0, a1, a2⟩ := hn
  obtain ⟨p, hp⟩ := Int.eq_ofNat_of_zero_le a0
  obtain ⟨q, hq⟩ := Int.eq_ofNat_of_zero_le a1
  obtain ⟨r, hr⟩ := Int.eq_ofNat_of_zero_le a2
  have e : sizeS th = ((p + q + r : Nat) : Int) := by unfold sizeS; omega
  rw [e, chooseS_nat, ← vand3]
  exact Tr_congr fun a b hab => setS_nat hp hq hr hab
theorem lieS_ok {d a b : Nat} (h : a + b ≤ d) {bes : Int} (hb : bes = -1 ∨ (0 ≤ bes ∧ bes ≤ 2)) : nn3 (lieS d bes a b) ∧ sizeS (lieS d bes a b) = d + (if bes = -1 then 0 else 1) := by
  have ht : nn3 (tri a b ((d : Int) - a - b)) := ⟨by show (0 : Int) ≤ (a : Int); omega, by show (0 : Int) ≤ (b : Int); omega, by show (0 : Int) ≤ (d : Int) - a - b; omega⟩
  have hs : sizeS (tri a b ((d : Int) - a - b)) = d := by show (a : Int) + b + (d - a - b) = d; omega
  unfold lieS
  rcases hb with hb | hb
  · rw [if_pos hb, if_pos hb]; exact ⟨ht, by omega⟩
  · rw [if_neg (by omega), if_neg (by omega)]
    exact ⟨ht.inc, by rw [incS_size hb.1 hb.2]; omega⟩
theorem lot_ok {c th : Int → Int} (hc : pc3 c) (hn : nn3 th) {ans d : Nat} {bes : Int} (hb : bes = -1 ∨ (0 ≤ bes ∧ bes ≤ 2)) (ha : (ans : Int) ≤ d + (if bes = -1 then 0 else 1)) (h3 : ans ≤ 3) : S4 (lotS c ans th d bes) = chooseS (sizeS th) d * 100 ^ ans ∧ (∀ r, 0 ≤ lotS c ans th d bes r) ∧ ∀ r, (ans : Int) < r → lotS c ans th d bes r = 0 := by
  have hp : ∀ a b : Nat, a + b ≤ d → S4 (pwS c ans (lieS d bes a b) w0S) = 100 ^ ans ∧ (∀ r, 0 ≤ pwS c ans (lieS d bes a b) w0S r) ∧ ∀ r, (ans : Int) < r → pwS c ans (lieS d bes a b) w0S r = 0 := fun a b hab => by
    obtain ⟨k1, k2⟩ := lieS_ok hab hb
    exact pw0 hc k1 (by rw [k2]; exact ha) h3
  refine ⟨?_, fun r => ?_, fun r hr => ?_⟩
  · show lotS c ans th d bes 0 + lotS c ans th d bes 1 + lotS c ans th d bes 2 + lotS c ans th d bes 3 = _
    rw [lotS_Tr, lotS_Tr, lotS_Tr, lotS_Tr, ← Tr_add, ← Tr_add, ← Tr_add, ← set_sum hn, Int.mul_comm, ← Tr_mul]
    refine Tr_congr fun a b hab => ?_
    have := (hp a b hab).1
    unfold S4 at this
    rw [← this]; grind
  · rw [lotS_Tr]
    exact Tr_nn fun a b hab => Int.mul_nonneg (setS_nn _ _ _ _) ((hp a b hab).2.1 r)
  · rw [lotS_Tr]
    exact Sn_zero fun a ha => Sn_zero fun b hb => by
      show setS th d a b * _ = 0
      rw [(hp a b (by omega)).2.2 r hr, Int.mul_zero]
/-- bowls: what they keep to -/
def BWL (K th lk : Int → Int) (lean : Int) : Prop := nn3 th ∧ nn3 lk ∧ (∀ l, 0 ≤ l → l ≤ 2 → lk l ≤ th l) ∧ sizeS th ≤ 20 ∧ (1 ≤ K 100 ∧ K 100 ≤ 10) ∧ (1 ≤ K 101 ∧ K 101 ≤ 3) ∧ (1 ≤ K 102 ∧ K 102 ≤ 3) ∧ (0 ≤ lean ∧ lean ≤ 100)
section
variable {K c th lk : Int → Int} {lean : Int}
theorem BWL.ly (B : BWL K th lk lean) : 0 ≤ lyS K th ∧ lyS K th ≤ sizeS th ∧ lyS K th ≤ 10 := by
  obtain ⟨⟨a0, a1, a2⟩, -, -, -, k, -⟩ := B
  unfold lyS
  have : 0 ≤ sizeS th := by unfold sizeS; omega
  split <;> omega
theorem BWL.ans (B : BWL K th lk lean) : ansS K th ≤ 3 ∧ (ansS K th : Int) ≤ lyS K th := by
  have h := B.ly
  obtain ⟨-, -, -, -, -, k, -⟩ := B
  unfold ansS
  split <;> omega
theorem S4_add (f g : Int → Int) : S4 (fun r => f r + g r) = S4 f + S4 g := by unfold S4; grind
theorem S4_mul (x : Int) (f : Int → Int) : S4 (fun r => x * f r) = x * S4 f := by unfold S4; grind
theorem sums_ok (hc : pc3 c) (B : BWL K th lk lean) : S4 (sumsS K c th lk lean) = wholeS K th lk lean ∧ (∀ r, 0 ≤ sumsS K c th lk lean r) ∧ ∀ r, (ansS K th : Int) < r → sumsS K c th lk lean r = 0 := by
  have hly := B.ly
  have ha := B.ans
  obtain ⟨d, hd⟩ := Int.eq_ofNat_of_zero_le hly.1
  have L1 := lot_ok (ans := ansS K th) (d := d) (bes := -1) hc B.1 (Or.inl rfl) (by rw [if_pos rfl]; omega) ha.1
  rw [← hd] at L1
  by_cases cl : leanS K th lk lean = true
  · have hle := of_decide_eq_true cl
    have hd2 : lyS K th = K 100 := by unfold lyS; rw [if_pos hle.2.2]
    have hK := B.2.2.2.2.1
    obtain ⟨d', hd'⟩ := Int.eq_ofNat_of_zero_le (show 0 ≤ lyS K th - 1 by omega)
    obtain ⟨⟨a0, a1, a2⟩, ⟨b0, b1, b2⟩, hlk, hsz, -, -, -, hl⟩ := B
    have hdec : ∀ l : Int, 0 ≤ l → l ≤ 2 → lk l ≠ 0 → 0 ≤ lk l → S4 (lotS c (ansS K th) (decS th l) (lyS K th - 1) l) = chooseS (sizeS th - 1) (lyS K th - 1) * 100 ^ ansS K th ∧ (∀ r, 0 ≤ lotS c (ansS K th) (decS th l) (lyS K th - 1) l r) ∧ ∀ r, (ansS K th : Int) < r → lotS c (ansS K th) (decS th l) (lyS K th - 1) l r = 0 := fun l l0 l2 hne hnn => by
      have h1 := hlk l l0 l2
      have L2 := lot_ok (ans := ansS K th) (d := d') (th := decS th l) (bes := l) hc (nn3.dec ⟨a0, a1, a2⟩ (by omega)) (Or.inr ⟨l0, l2⟩) (by rw [if_neg (by omega)]; omega) ha.1
      rw [← hd', decS_size l0 l2] at L2
      exact L2
    have ech : sizeS th * chooseS (sizeS th - 1) (lyS K th - 1) = lyS K th * chooseS (sizeS th) (lyS K th) := by
      obtain ⟨n', hn'⟩ := Int.eq_ofNat_of_zero_le (show 0 ≤ sizeS th - 1 by omega)
      have h := bin_abs n' d'
      rw [← chooseS_nat, ← chooseS_nat, ← hn', ← hd', show ((n' + 1 : Nat) : Int) = sizeS th by omega, show ((d' + 1 : Nat) : Int) = lyS K th by omega] at h
      exact h.symm
    have es : sumsS K c th lk lean = fun r => (100 - lean) * sizeS lk * lyS K th * lotS c (ansS K th) th (lyS K th) (-1) r + Sg (fun l => if lk l = 0 then 0 else lean * lk l * sizeS th * lotS c (ansS K th) (decS th l) (lyS K th - 1) l r) 3 0 := by
      funext r; unfold sumsS; rw [if_pos cl]
    have ew : wholeS K th lk lean = chooseS (sizeS th) (lyS K th) * 100 ^ (ansS K th) * 100 * sizeS lk * lyS K th := by unfold wholeS; rw [if_pos cl]
    have hterm : ∀ l : Int, 0 ≤ l → l ≤ 2 → 0 ≤ lk l → S4 (fun r => if lk l = 0 then 0 else lean * lk l * sizeS th * lotS c (ansS K th) (decS th l) (lyS K th - 1) l r) = lean * lk l * (lyS K th * chooseS (sizeS th) (lyS K th)) * 100 ^ ansS K th ∧ (∀ r, 0 ≤ (if lk l = 0 then 0 else lean * lk l * sizeS th * lotS c (ansS K th) (decS th l) (lyS K th - 1) l r)) ∧ ∀ r, (ansS K th : Int) < r → (if lk l = 0 then 0 else lean * lk l * sizeS th * lotS c (ansS K th) (decS th l) (lyS K th - 1) l r) = 0 := fun l l0 l2 hnn => by
      by_cases cz : lk l = 0
      · refine ⟨?_, fun r => by rw [if_pos cz]; exact Int.le_refl 0, fun r _ => by rw [if_pos cz]⟩
        have : (fun r : Int => if lk l = 0 then 0 else lean * lk l * sizeS th * lotS c (ansS K th) (decS th l) (lyS K th - 1) l r) = fun _ => 0 := by funext r; rw [if_pos cz]
        rw [this, cz]; unfold S4; simp
      · obtain ⟨k1, k2, k3⟩ := hdec l l0 l2 cz hnn
        refine ⟨?_, fun r => ?_, fun r hr => by rw [if_neg cz, k3 r hr, Int.mul_zero]⟩
        · have : (fun r : Int => if lk l = 0 then 0 else lean * lk l * sizeS th * lotS c (ansS K th) (decS th l) (lyS K th - 1) l r) = fun r => (lean * lk l * sizeS th) * lotS c (ansS K th) (decS th l) (lyS K th - 1) l r := by funext r; rw [if_neg cz]
          rw [this, S4_mul, k1, ← ech]; grind
        · rw [if_neg cz]
          exact Int.mul_nonneg (Int.mul_nonneg (Int.mul_nonneg hl.1 hnn) (by unfold sizeS; omega)) (k2 r)
    have eSg : ∀ f : Int → Int, Sg f 3 0 = f 0 + f 1 + f 2 := fun f => by
      show f 0 + (f (0 + 1) + (f (0 + 1 + 1) + 0)) = _
      rw [show (0 : Int) + 1 = 1 from rfl, show (1 : Int) + 1 = 2 from rfl]; omega
    obtain ⟨t0, p0, z0⟩ := hterm 0 (by decide) (by decide) b0
    obtain ⟨t1, p1, z1⟩ := hterm 1 (by decide) (by decide) b1
    obtain ⟨t2, p2, z2⟩ := hterm 2 (by decide) (by decide) b2
    refine ⟨?_, fun r => ?_, fun r hr => ?_⟩
    · have e3 : sumsS K c th lk lean = fun r => ((100 - lean) * sizeS lk * lyS K th) * lotS c (ansS K th) th (lyS K th) (-1) r + ((if lk 0 = 0 then 0 else lean * lk 0 * sizeS th * lotS c (ansS K th) (decS th 0) (lyS K th - 1) 0 r) + (if lk 1 = 0 then 0 else lean * lk 1 * sizeS th * lotS c (ansS K th) (decS th 1) (lyS K th - 1) 1 r) + (if lk 2 = 0 then 0 else lean * lk 2 * sizeS th * lotS c (ansS K th) (decS th 2) (lyS K th - 1) 2 r)) := by
        rw [es]; funext r; rw [eSg]
      rw [e3, S4_add, S4_mul, S4_add, S4_add, t0, t1, t2, L1.1, ew]
      unfold sizeS
      grind
    · rw [es]
      show 0 ≤ _ + _
      rw [eSg]
      have q1 := Int.mul_nonneg (Int.mul_nonneg (Int.mul_nonneg (show 0 ≤ 100 - lean by omega) (show 0 ≤ sizeS lk by unfold sizeS; omega)) hly.1) (L1.2.1 r)
      have := p0 r; have := p1 r; have := p2 r
      omega
    · rw [es]
      show _ + _ = _
      rw [eSg, z0 r hr, z1 r hr, z2 r hr, L1.2.2 r hr]; simp
  · have es : sumsS K c th lk lean = lotS c (ansS K th) th (lyS K th) (-1) := by
      funext r; unfold sumsS; rw [if_neg cl]
    have ew : wholeS K th lk lean = chooseS (sizeS th) (lyS K th) * 100 ^ (ansS K th) := by unfold wholeS; rw [if_neg cl]
    rw [es, ew]
    exact L1
theorem chooseS_pos {n k : Int} (h0 : 0 ≤ k) (h1 : k ≤ n) : 1 ≤ chooseS n k := by
  obtain ⟨k', rfl⟩ := Int.eq_ofNat_of_zero_le h0
  obtain ⟨n', rfl⟩ := Int.eq_ofNat_of_zero_le (show 0 ≤ n by omega)
  rw [chooseS_nat]
  exact bin_pos (by omega)
theorem pow100 {a : Nat} (h : a ≤ 3) : 1 ≤ (100 : Int) ^ a ∧ (100 : Int) ^ a ≤ 1000000 := by
  have : a = 0 ∨ a = 1 ∨ a = 2 ∨ a = 3 := by omega
  rcases this with rfl | rfl | rfl | rfl <;> decide
theorem mul_le3 {a b A B : Int} (a0 : 0 ≤ a) (b0 : 0 ≤ b) (ha : a ≤ A) (hb : b ≤ B) : 0 ≤ a * b ∧ a * b ≤ A * B := ⟨Int.mul_nonneg a0 b0, Int.mul_le_mul ha hb b0 (by omega)⟩
theorem whole_ok (B : BWL K th lk lean) : 1 ≤ wholeS K th lk lean ∧ wholeS K th lk lean ≤ 21000000000000000 := by
  have hly := B.ly
  have ha := B.ans
  have hch := chooseS_pos hly.1 hly.2.1
  have hch2 := chooseS_2 (n := sizeS th) (k := lyS K th) B.2.2.2.1
  have hp := pow100 ha.1
  have h1 := mul_le3 (by omega) (by omega) hch2 hp.2
  have h1' : 1 ≤ chooseS (sizeS th) (lyS K th) * 100 ^ ansS K th := by
    have := Int.mul_le_mul hch hp.1 (by decide) (by omega); omega
  unfold wholeS
  by_cases cl : leanS K th lk lean = true
  · have hle := of_decide_eq_true cl
    have hd2 : lyS K th = K 100 := by unfold lyS; rw [if_pos hle.2.2]
    have hK := B.2.2.2.2.1
    rw [if_pos cl]
    have hsk : sizeS lk ≤ 20 := by
      have e := B.2.2.1
      have := e 0 (by decide) (by decide); have := e 1 (by decide) (by decide); have := e 2 (by decide) (by decide)
      have hs := B.2.2.2.1
      unfold sizeS at hs ⊢; omega
    generalize chooseS (sizeS th) (lyS K th) * 100 ^ ansS K th = z at *
    have h2 := mul_le3 (a := z * 100) (b := sizeS lk) (A := 104857600000000) (B := 20) (by omega) (by omega) (by omega) hsk
    have h3 := mul_le3 (a := z * 100 * sizeS lk) (b := lyS K th) (A := 2097152000000000) (B := 10) (by omega) (by omega) (by omega) (by omega)
    have g2 := Int.mul_le_mul (show (1 : Int) ≤ z * 100 by omega) (show (1 : Int) ≤ sizeS lk by omega) (by decide) (by omega)
    have g3 := Int.mul_le_mul (show (1 : Int) ≤ z * 100 * sizeS lk by omega) (show (1 : Int) ≤ lyS K th by omega) (by decide) (by omega)
    omega
  · rw [if_neg cl]; omega
end
