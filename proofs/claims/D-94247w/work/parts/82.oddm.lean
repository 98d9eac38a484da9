/-! plain law: the odds on the model's side, the numbers -/
set_option maxRecDepth 100000
set_option maxHeartbeats 400000
theorem w64_add (a b : Int) : w64 (w64 a + w64 b) = w64 (a + b) := by
  rw [← tI64, ← tI64 (a + b)]
  congr 1
  show Int64.ofInt _ = Int64.ofInt _
  rw [Int64.ofInt_add, Int64.ofInt_add]
  show I64 (w64 a) + I64 (w64 b) = I64 a + I64 b
  rw [I64_w, I64_w]
theorem w64_mul (a b : Int) : w64 (w64 a * b) = w64 (a * b) := by
  rw [← tI64, ← tI64 (a * b)]
  congr 1
  show Int64.ofInt _ = Int64.ofInt _
  rw [Int64.ofInt_mul, Int64.ofInt_mul]
  show I64 (w64 a) * I64 b = I64 a * I64 b
  rw [I64_w]
theorem w64_mulr (a b : Int) : w64 (a * w64 b) = w64 (a * b) := by rw [Int.mul_comm, w64_mul, Int.mul_comm]
theorem w64_addl (a b : Int) : w64 (w64 a + b) = w64 (a + b) := by rw [← w64_add, w64_w64, w64_add]
theorem w64_addr (a b : Int) : w64 (a + w64 b) = w64 (a + b) := by rw [← w64_add, w64_w64, w64_add]
/-- a step of the ways -/
theorem bin_step (m i : Nat) : (bin (m + i) i * (((m + i + 1 : Nat)) : Int)).tdiv ((i + 1 : Nat) : Int) = bin (m + (i + 1)) (i + 1) := by
  have h := bin_abs (m + i) i
  rw [Int.mul_comm, ← h, Int.mul_tdiv_cancel_left _ (by omega), Nat.add_assoc]
theorem bin_le20 {n k : Nat} (h : n ≤ 20) : 0 ≤ bin n k ∧ bin n k ≤ 1048576 := by
  refine ⟨bin_nn n k, ?_⟩
  have := bin_2 n k
  have h2 : 2 ^ n ≤ 2 ^ 20 := Nat.pow_le_pow_right (by decide) h
  omega
theorem M_choose_loop {V : VV} {m k : Nat} (hm : m + k ≤ 20) : ∀ (rest i fuel : Nat), i + rest = k → rest < fuel → M_choose_16 fuel ((m + k : Nat) : Int) (k : Int) (bin (m + i) i) ((i + 1 : Nat) : Int) V = some (bin (m + k) k, V)
  | 0, i, fuel, hi, hf => by
    cases fuel with
    | zero => omega
    | succ fuel => rw [M_choose_16, if_pos (by omega), show i = k by omega]
  | rest + 1, i, fuel, hi, hf => by
    cases fuel with
    | zero => omega
    | succ fuel =>
      have hb := bin_le20 (n := m + i) (k := i) (by omega)
      have hb2 := mul_le3 (b := ((m + i + 1 : Nat) : Int)) (B := 21) hb.1 (by omega) hb.2 (by omega)
      have hb3 := bin_le20 (n := m + (i + 1)) (k := i + 1) (by omega)
      rw [M_choose_16, if_neg (by omega), cz_ok (by omega), show w32 (((m + k : Nat) : Int) - (k : Int)) = (m : Int) by rw [w32_id (by omega) (by omega)]; omega, show w32 ((m : Int) + ((i + 1 : Nat) : Int)) = ((m + i + 1 : Nat) : Int) by rw [w32_id (by omega) (by omega)]; omega, w64_id (x := bin (m + i) i * _) (by omega) (by omega), bin_step, w64_id (by omega) (by omega), nm_eq, nm_eq, w32_id (by omega) (by omega), show ((i + 1 : Nat) : Int) + 1 = ((i + 1 + 1 : Nat) : Int) by omega]
      exact M_choose_loop hm rest (i + 1) fuel (by omega) (by omega)
theorem M_choose_eq {V : VV} {n k : Int} (h : n ≤ 20) : M_choose n k V = some (chooseS n k, V) := by
  unfold M_choose
  by_cases c0 : k < 0
  · rw [if_pos c0, chooseS_neg c0]
  · rw [if_neg c0]
    by_cases c1 : k ≤ n
    · obtain ⟨k', rfl⟩ := Int.eq_ofNat_of_zero_le (show 0 ≤ k by omega)
      obtain ⟨m, hm⟩ := Int.eq_ofNat_of_zero_le (show 0 ≤ n - k' by omega)
      have en : n = ((m + k' : Nat) : Int) := by omega
      subst en
      rw [if_pos c1, chooseS_nat]
      have := M_choose_loop (V := V) (m := m) (k := k') (by omega) k' 0 FU (by omega) (by rw [FU_eq]; omega)
      rw [bin_0] at this
      exact this
    · rw [if_neg c1]; unfold chooseS; rw [if_pos (Or.inr (by omega))]
theorem tmod_nat (x y : Nat) : (x : Int).tmod (y : Int) = ((x % y : Nat) : Int) := rfl
theorem M_common_ok {V : VV} : ∀ (k x y fuel : Nat), y < 2 ^ k → 2 * k + 1 ≤ fuel → M_common_6 fuel x y V = some (((Nat.gcd x y : Nat) : Int), V)
  | 0, x, y, fuel, hy, hf => by
    cases fuel with
    | zero => omega
    | succ fuel =>
      have : y = 0 := by simp at hy; exact hy
      subst this
      rw [M_common_6, if_pos (show ((0 : Nat) : Int) = 0 from rfl), Nat.gcd_zero_right]
  | k + 1, x, y, fuel, hy, hf => by
    cases fuel with
    | zero => omega
    | succ fuel =>
      by_cases c : y = 0
      · subst c; rw [M_common_6, if_pos (show ((0 : Nat) : Int) = 0 from rfl), Nat.gcd_zero_right]
      · have g1 : Nat.gcd x y = Nat.gcd y (x % y) := by rw [Nat.gcd_comm x y, Nat.gcd_rec y x, Nat.gcd_comm]
        rw [M_common_6, if_neg (by omega), cz_ok (by omega), nm_eq, tmod_nat, g1]
        cases fuel with
        | zero => omega
        | succ fuel =>
          by_cases c2 : x % y = 0
          · rw [c2, M_common_6, if_pos (show ((0 : Nat) : Int) = 0 from rfl), Nat.gcd_zero_right]
          · have g2 : Nat.gcd y (x % y) = Nat.gcd (x % y) (y % (x % y)) := by rw [Nat.gcd_comm y, Nat.gcd_rec (x % y) y, Nat.gcd_comm]
            rw [M_common_6, if_neg (by omega), cz_ok (by omega), nm_eq, tmod_nat, g2]
            refine M_common_ok k _ _ fuel ?_ (by omega)
            have h1 : x % y < y := Nat.mod_lt _ (by omega)
            rw [Nat.pow_succ] at hy
            by_cases c3 : 2 * (x % y) ≤ y
            · have := Nat.mod_lt y (show 0 < x % y by omega); omega
            · have : y % (x % y) = y - x % y := by
                rw [Nat.mod_eq_sub_mod (by omega), Nat.mod_eq_of_lt (by omega)]
              omega
theorem M_common_eq {V : VV} {u l : Int} (hu : 0 ≤ u) (hl : 0 ≤ l) (h : l ≤ 9000000000000000000) : M_common u l V = some ((Int.gcd u l : Int), V) := by
  obtain ⟨x, rfl⟩ := Int.eq_ofNat_of_zero_le hu
  obtain ⟨y, rfl⟩ := Int.eq_ofNat_of_zero_le hl
  unfold M_common
  rw [M_common_ok 63 x y FU (by omega) (by rw [FU_eq]; decide)]
  rfl
theorem gcd_pos {u l : Int} (hl : 1 ≤ l) : 1 ≤ (Int.gcd u l : Int) := by
  have : 0 < Int.gcd u l := Int.gcd_pos_of_ne_zero_right u (by omega)
  omega
theorem M_reduced_eq {V : VV} {u l part : Int} (hu : 0 ≤ u) (h1 : u ≤ 9000000000000000000) (hl : 1 ≤ l) (h : l ≤ 9000000000000000000) : M_reduced u l part V = some (redS u l part, V) := by
  have hg := gcd_pos (u := u) hl
  have d1 := Int.ediv_le_self (Int.gcd u l : Int) hu
  have d2 := Int.ediv_le_self (Int.gcd u l : Int) (show 0 ≤ l by omega)
  have e1 : 0 ≤ u / (Int.gcd u l : Int) := Int.ediv_nonneg hu (by omega)
  have e2 : 0 ≤ l / (Int.gcd u l : Int) := Int.ediv_nonneg (by omega) (by omega)
  unfold M_reduced redS
  rw [M_common_eq hu (by omega) h, mb_some]
  by_cases c : part = 0
  · rw [if_pos c, if_pos c, cz_ok (by omega), Int.tdiv_eq_ediv_of_nonneg hu, w64_id (by omega) (by omega)]
  · rw [if_neg c, if_neg c, cz_ok (by omega), Int.tdiv_eq_ediv_of_nonneg (by omega), w64_id (by omega) (by omega)]
/-- millionths -/
def milS (u l : Int) : Int := u * 1000000 / l
theorem mil_step {u l p : Int} (hl : 0 < l) : (u * (p * 10)) / l = (u * p / l) * 10 + (u * p % l * 10) / l ∧ (u * (p * 10)) % l = (u * p % l * 10) % l := by
  have e : u * (p * 10) = u * p % l * 10 + l * (u * p / l * 10) := by
    have := Int.emod_add_mul_ediv (u * p) l
    grind
  constructor
  · rw [e, Int.add_mul_ediv_left _ _ (by omega)]; omega
  · rw [e, Int.add_mul_emod_self_left]
theorem mil_le {u l : Int} (h0 : 0 ≤ u) (h1 : u ≤ l) (hl : 0 < l) {p P : Int} (p0 : 0 ≤ p) (hp : p ≤ P) : 0 ≤ u * p / l ∧ u * p / l ≤ P := by
  refine ⟨Int.ediv_nonneg (Int.mul_nonneg h0 p0) (by omega), ?_⟩
  have h2 : u * p ≤ l * p := Int.mul_le_mul_of_nonneg_right h1 p0
  have h3 : u * p / l ≤ l * p / l := Int.ediv_le_ediv hl h2
  rw [Int.mul_ediv_cancel_left _ (by omega)] at h3
  omega
theorem M_millionths_eq {V : VV} {u l : Int} (h0 : 0 ≤ u) (h1 : u ≤ l) (hl : 1 ≤ l) (h : l ≤ 900000000000000000) : M_millionths u l V = some (milS u l, V) := by
  have step : ∀ (p : Int) (fuel : Nat) (x8 : Int), 1 ≤ p → p ≤ 100000 → 0 ≤ x8 → x8 < 6 → M_millionths_13 (fuel + 1) l (u * p / l) (u * p % l) x8 V = M_millionths_13 fuel l (u * (p * 10) / l) (u * (p * 10) % l) (x8 + 1) V := fun p fuel x8 p0 p1 a b => by
    obtain ⟨q1, q2⟩ := mil_step (u := u) (l := l) (p := p) (by omega)
    have b1 := mil_le h0 h1 (show 0 < l by omega) (p := p) (P := 100000) (by omega) p1
    have b2 := mil_le h0 h1 (show 0 < l by omega) (p := p * 10) (P := 1000000) (by omega) (by omega)
    have m0 := Int.emod_nonneg (u * p) (show l ≠ 0 by omega)
    have m1 := Int.emod_lt_of_pos (u * p) (show 0 < l by omega)
    have d0 : 0 ≤ u * p % l * 10 / l := Int.ediv_nonneg (by omega) (by omega)
    rw [M_millionths_13, if_neg (by omega), w64_id (x := u * p % l * 10) (by omega) (by omega), nm_eq, cz_ok (by omega), Int.tdiv_eq_ediv_of_nonneg (by omega), w64_id (x := u * p / l * 10) (by omega) (by omega), w64_id (x := u * p % l * 10 / l) (by omega) (by omega), ← q1, w64_id (by omega) (by omega), nm_eq, cz_ok (by omega), Int.tmod_eq_emod_of_nonneg (by omega), nm_eq, nm_eq, w32_id (by omega) (by omega), ← q2]
  have b0 := mil_le h0 h1 (show 0 < l by omega) (p := 1) (P := 1) (by omega) (by omega)
  have b6 := mil_le h0 h1 (show 0 < l by omega) (p := 1000000) (P := 1000000) (by omega) (by omega)
  obtain ⟨f, hf⟩ : ∃ f, FU = f + 1 + 1 + 1 + 1 + 1 + 1 + 1 := ⟨19993, by rw [FU_eq]⟩
  unfold M_millionths
  have e1 : u.tdiv l = u * 1 / l := by rw [Int.mul_one, Int.tdiv_eq_ediv_of_nonneg h0]
  have e2 : u.tmod l = u * 1 % l := by rw [Int.mul_one, Int.tmod_eq_emod_of_nonneg h0]
  rw [cz_ok (by omega), e1, e2, w64_id (by omega) (by omega), nm_eq, cz_ok (by omega), nm_eq, hf, step 1 _ 0 (by decide) (by decide) (by decide) (by decide), step (1 * 10) _ _ (by decide) (by decide) (by decide) (by decide), step (1 * 10 * 10) _ _ (by decide) (by decide) (by decide) (by decide), step (1 * 10 * 10 * 10) _ _ (by decide) (by decide) (by decide) (by decide), step (1 * 10 * 10 * 10 * 10) _ _ (by decide) (by decide) (by decide) (by decide), step (1 * 10 * 10 * 10 * 10 * 10) _ _ (by decide) (by decide) (by decide) (by decide), M_millionths_13, if_pos (by decide)]
  unfold M_millionths_53 milS
  rw [show (1 : Int) * 10 * 10 * 10 * 10 * 10 * 10 = 1000000 from rfl, w32_id (by omega) (by omega)]
/-- which is greatest, by what it keeps to -/
def GR (c n : Int → Int) (b : Int) : Prop := (b = -1 ∧ ∀ l, 0 ≤ l → l ≤ 2 → n l ≤ 0) ∨ ((0 ≤ b ∧ b ≤ 2) ∧ 0 < n b ∧ ∀ l, 0 ≤ l → l ≤ 2 → 0 < n l → (l < b → c l < c b) ∧ (b < l → c l ≤ c b))
theorem GR.un {c n : Int → Int} {a b : Int} (A : GR c n a) (B : GR c n b) : a = b := by
  rcases A with ⟨a1, a2⟩ | ⟨a1, a2, a3⟩
  · rcases B with ⟨b1, b2⟩ | ⟨b1, b2, b3⟩
    · omega
    · have := a2 b b1.1 b1.2; omega
  · rcases B with ⟨b1, b2⟩ | ⟨b1, b2, b3⟩
    · have := b2 a a1.1 a1.2; omega
    · have h1 := a3 b b1.1 b1.2 b2
      have h2 := b3 a a1.1 a1.2 a2
      have : ¬ a < b := fun h => by have := h1.2 h; have := h2.1 h; omega
      have : ¬ b < a := fun h => by have := h1.1 h; have := h2.2 h; omega
      omega
theorem GR.of (c n : Int → Int) : GR c n (grS c n) := by
  have l3 : ∀ l : Int, 0 ≤ l → l ≤ 2 → l = 0 ∨ l = 1 ∨ l = 2 := fun l a b => by omega
  have key : ∀ b0 b1 : Int, b0 = (if 0 < n 0 then 0 else -1) → b1 = (if 0 < n 1 ∧ (b0 = -1 ∨ c b0 < c 1) then 1 else b0) → grS c n = (if 0 < n 2 ∧ (b1 = -1 ∨ c b1 < c 2) then 2 else b1) := fun b0 b1 h0 h1 => by rw [h1, h0]; rfl
  unfold GR
  by_cases c0 : 0 < n 0
  · by_cases c1 : 0 < n 1 ∧ ((0 : Int) = -1 ∨ c 0 < c 1)
    · have k := key 0 1 (if_pos c0).symm (if_pos c1).symm
      by_cases c2 : 0 < n 2 ∧ ((1 : Int) = -1 ∨ c 1 < c 2)
      · rw [if_pos c2] at k; rw [k]; refine Or.inr ⟨by decide, c2.1, fun l a b hl => ?_⟩; rcases l3 l a b with rfl | rfl | rfl <;> omega
      · rw [if_neg c2] at k; rw [k]; refine Or.inr ⟨by decide, c1.1, fun l a b hl => ?_⟩; rcases l3 l a b with rfl | rfl | rfl <;> omega
    · have k := key 0 0 (if_pos c0).symm (if_neg c1).symm
      by_cases c2 : 0 < n 2 ∧ ((0 : Int) = -1 ∨ c 0 < c 2)
      · rw [if_pos c2] at k; rw [k]; refine Or.inr ⟨by decide, c2.1, fun l a b hl => ?_⟩; rcases l3 l a b with rfl | rfl | rfl <;> omega
      · rw [if_neg c2] at k; rw [k]; refine Or.inr ⟨by decide, c0, fun l a b hl => ?_⟩; rcases l3 l a b with rfl | rfl | rfl <;> omega
  · by_cases c1 : 0 < n 1
    · have k := key (-1) 1 (if_neg c0).symm (if_pos ⟨c1, Or.inl rfl⟩).symm
      by_cases c2 : 0 < n 2 ∧ ((1 : Int) = -1 ∨ c 1 < c 2)
      · rw [if_pos c2] at k; rw [k]; refine Or.inr ⟨by decide, c2.1, fun l a b hl => ?_⟩; rcases l3 l a b with rfl | rfl | rfl <;> omega
      · rw [if_neg c2] at k; rw [k]; refine Or.inr ⟨by decide, c1, fun l a b hl => ?_⟩; rcases l3 l a b with rfl | rfl | rfl <;> omega
    · have k := key (-1) (-1) (if_neg c0).symm (if_neg (fun e => c1 e.1)).symm
      by_cases c2 : 0 < n 2
      · rw [if_pos ⟨c2, Or.inl rfl⟩] at k; rw [k]; refine Or.inr ⟨by decide, c2, fun l a b hl => ?_⟩; rcases l3 l a b with rfl | rfl | rfl <;> omega
      · rw [if_neg (fun e => c2 e.1)] at k; rw [k]; refine Or.inl ⟨rfl, fun l a b => ?_⟩; rcases l3 l a b with rfl | rfl | rfl <;> omega
/-- the greatest of more stays the greatest of fewer -/
theorem grS_sub {c n m : Int → Int} {b : Int} (h : grS c m = b) (h0 : 0 ≤ b) (hb : 0 < n b) (hs : ∀ l, 0 ≤ l → l ≤ 2 → 0 < n l → 0 < m l) : grS c n = b := by
  have A := GR.of c m
  rw [h] at A
  refine GR.un (GR.of c n) ?_
  rcases A with ⟨a1, -⟩ | ⟨a1, a2, a3⟩
  · omega
  · exact Or.inr ⟨a1, hb, fun l l0 l1 hl => a3 l l0 l1 (hs l l0 l1 hl)⟩
theorem pwS_congr {c : Int → Int} : ∀ (a : Nat) {n n' w : Int → Int}, (∀ l, 0 ≤ l → l ≤ 2 → n l = n' l) → pwS c a n w = pwS c a n' w
  | 0, _, _, _, _ => rfl
  | a + 1, n, n', w, h => by
    have hg : grS c n = grS c n' := by
      refine GR.un (GR.of c n) ?_
      rcases GR.of c n' with ⟨a1, a2⟩ | ⟨a1, a2, a3⟩
      · exact Or.inl ⟨a1, fun l l0 l1 => by rw [h l l0 l1]; exact a2 l l0 l1⟩
      · exact Or.inr ⟨a1, by rw [h _ a1.1 a1.2]; exact a2, fun l l0 l1 hl => a3 l l0 l1 (by rw [← h l l0 l1]; exact hl)⟩
    show (if grS c n = -1 then w else _) = (if grS c n' = -1 then w else _)
    rw [hg]
    by_cases e : grS c n' = -1
    · rw [if_pos e, if_pos e]
    · rw [if_neg e, if_neg e]
      refine pwS_congr a fun l l0 l1 => ?_
      unfold decS
      rw [h l l0 l1]
