/-! plain law: the odds on the system's side, answers -/
set_option maxRecDepth 100000
set_option maxHeartbeats 400000
theorem F_over_loop {h : XH} {m k : Nat} (hm : m + k ≤ 20) : ∀ (rest i fuel : Nat), i + rest = k → rest < fuel → F_X0_over_16 fuel ((m + k : Nat) : Int) (k : Int) (bin (m + i) i) ((i + 1 : Nat) : Int) h = some (bin (m + k) k, h)
  | 0, i, fuel, hi, hf => by
    cases fuel with
    | zero => omega
    | succ fuel => rw [F_X0_over_16, if_pos (by omega), show i = k by omega]
  | rest + 1, i, fuel, hi, hf => by
    cases fuel with
    | zero => omega
    | succ fuel =>
      have hb := bin_le20 (n := m + i) (k := i) (by omega)
      have hb2 := mul_le3 (b := ((m + i + 1 : Nat) : Int)) (B := 21) hb.1 (by omega) hb.2 (by omega)
      have hb3 := bin_le20 (n := m + (i + 1)) (k := i + 1) (by omega)
      rw [F_X0_over_16, if_neg (by omega), cz_ok (by omega), show w32 (((m + k : Nat) : Int) - (k : Int)) = (m : Int) by rw [w32_id (by omega) (by omega)]; omega, show w32 ((m : Int) + ((i + 1 : Nat) : Int)) = ((m + i + 1 : Nat) : Int) by rw [w32_id (by omega) (by omega)]; omega, w64_id (x := bin (m + i) i * _) (by omega) (by omega), bin_step, w64_id (by omega) (by omega), nm_eq, nm_eq, w32_id (by omega) (by omega), show ((i + 1 : Nat) : Int) + 1 = ((i + 1 + 1 : Nat) : Int) by omega]
      exact F_over_loop hm rest (i + 1) fuel (by omega) (by omega)
theorem F_over_eq {h : XH} {n k : Int} (hn : n ≤ 20) : F_X0_over n k h = some (chooseS n k, h) := by
  unfold F_X0_over
  by_cases c0 : k < 0
  · rw [if_pos c0, chooseS_neg c0]
  · rw [if_neg c0]
    by_cases c1 : k ≤ n
    · obtain ⟨k', rfl⟩ := Int.eq_ofNat_of_zero_le (show 0 ≤ k by omega)
      obtain ⟨m, hm⟩ := Int.eq_ofNat_of_zero_le (show 0 ≤ n - k' by omega)
      have en : n = ((m + k' : Nat) : Int) := by omega
      subst en
      rw [if_pos c1, chooseS_nat]
      have := F_over_loop (h := h) (m := m) (k := k') (by omega) k' 0 FU (by omega) (by rw [FU_eq]; omega)
      rw [bin_0] at this
      exact this
    · rw [if_neg c1]; unfold chooseS; rw [if_pos (Or.inr (by omega))]
theorem F_common_ok {h : XH} : ∀ (k x y fuel : Nat), y < 2 ^ k → 2 * k + 1 ≤ fuel → F_X0_common_6 fuel x y h = some (((Nat.gcd x y : Nat) : Int), h)
  | 0, x, y, fuel, hy, hf => by
    cases fuel with
    | zero => omega
    | succ fuel =>
      have : y = 0 := by simp at hy; exact hy
      subst this
      rw [F_X0_common_6, if_pos (show ((0 : Nat) : Int) = 0 from rfl), Nat.gcd_zero_right]
  | k + 1, x, y, fuel, hy, hf => by
    cases fuel with
    | zero => omega
    | succ fuel =>
      by_cases c : y = 0
      · subst c; rw [F_X0_common_6, if_pos (show ((0 : Nat) : Int) = 0 from rfl), Nat.gcd_zero_right]
      · have g1 : Nat.gcd x y = Nat.gcd y (x % y) := by rw [Nat.gcd_comm x y, Nat.gcd_rec y x, Nat.gcd_comm]
        rw [F_X0_common_6, if_neg (by omega), cz_ok (by omega), nm_eq, tmod_nat, g1]
        cases fuel with
        | zero => omega
        | succ fuel =>
          by_cases c2 : x % y = 0
          · rw [c2, F_X0_common_6, if_pos (show ((0 : Nat) : Int) = 0 from rfl), Nat.gcd_zero_right]
          · have g2 : Nat.gcd y (x % y) = Nat.gcd (x % y) (y % (x % y)) := by rw [Nat.gcd_comm y, Nat.gcd_rec (x % y) y, Nat.gcd_comm]
            rw [F_X0_common_6, if_neg (by omega), cz_ok (by omega), nm_eq, tmod_nat, g2]
            refine F_common_ok k _ _ fuel ?_ (by omega)
            have h1 : x % y < y := Nat.mod_lt _ (by omega)
            rw [Nat.pow_succ] at hy
            by_cases c3 : 2 * (x % y) ≤ y
            · have := Nat.mod_lt y (show 0 < x % y by omega); omega
            · have : y % (x % y) = y - x % y := by
                rw [Nat.mod_eq_sub_mod (by omega), Nat.mod_eq_of_lt (by omega)]
              omega
theorem F_common_eq {h : XH} {u l : Int} (hu : 0 ≤ u) (hl : 0 ≤ l) (hb : l ≤ 9000000000000000000) : F_X0_common u l h = some ((Int.gcd u l : Int), h) := by
  obtain ⟨x, rfl⟩ := Int.eq_ofNat_of_zero_le hu
  obtain ⟨y, rfl⟩ := Int.eq_ofNat_of_zero_le hl
  unfold F_X0_common
  rw [F_common_ok 63 x y FU (by omega) (by rw [FU_eq]; decide)]
  rfl
/-- a share -/
theorem F_share_eq {h : XH} {z u l : Int} (hu : 0 ≤ u) (h1 : u ≤ 9000000000000000000) (hl : 1 ≤ l) (hb : l ≤ 9000000000000000000) (o : OB h z 17) : F_X19_init z u l h = some (0, hset (hset h z 0 (redS u l 0)) z 1 (redS u l 1)) := by
  have hg := gcd_pos (u := u) hl
  have d1 := Int.ediv_le_self (Int.gcd u l : Int) hu
  have d2 := Int.ediv_le_self (Int.gcd u l : Int) (show 0 ≤ l by omega)
  have e1 : 0 ≤ u / (Int.gcd u l : Int) := Int.ediv_nonneg hu (by omega)
  have e2 : 0 ≤ l / (Int.gcd u l : Int) := Int.ediv_nonneg (by omega) (by omega)
  have o1 : ∀ x, OB (hset h z 0 x) z 17 := fun _ => o
  unfold F_X19_init
  rw [pz_ok (by have := o.1; omega), F_common_eq (by omega) hu h1, mb_some, Int.gcd_comm, cz_ok (by omega), obk o, nm_eq, cz_ok (by omega), obk (o1 _), nm_eq, Int.tdiv_eq_ediv_of_nonneg hu, w64_id (x := u / _) (by omega) (by omega), Int.tdiv_eq_ediv_of_nonneg (by omega), w64_id (by omega) (by omega)]
  rfl
theorem redS_scale {u l part p : Int} (hp : 0 < p) : redS (u * p) (l * p) part = redS u l part := by
  unfold redS
  have hg : (Int.gcd (u * p) (l * p) : Int) = (Int.gcd u l : Int) * p := by
    rw [Int.gcd_mul_right]
    show ((Int.gcd u l * p.natAbs : Nat) : Int) = _
    rw [Int.natCast_mul]
    congr 1; omega
  rw [hg, Int.mul_ediv_mul_of_pos_left _ _ hp, Int.mul_ediv_mul_of_pos_left _ _ hp]
theorem red_parts {u l : Int} (hl : 1 ≤ l) : ∃ g, 0 < g ∧ u = redS u l 0 * g ∧ l = redS u l 1 * g := by
  have hg := gcd_pos (u := u) hl
  refine ⟨(Int.gcd u l : Int), by omega, ?_, ?_⟩
  · unfold redS; rw [if_pos rfl, Int.ediv_mul_cancel (Int.gcd_dvd_left u l)]
  · unfold redS; rw [if_neg (by decide), Int.ediv_mul_cancel (Int.gcd_dvd_right u l)]
theorem mil_red {u l : Int} (hl : 1 ≤ l) : milS (redS u l 0) (redS u l 1) = milS u l := by
  obtain ⟨g, hg, h1, h2⟩ := red_parts (u := u) hl
  unfold milS
  have e : u * 1000000 / l = (redS u l 0 * 1000000 * g) / (redS u l 1 * g) := by
    rw [← h2]
    congr 1
    rw [Int.mul_assoc, Int.mul_comm 1000000 g, ← Int.mul_assoc, ← h1]
  rw [e, Int.mul_ediv_mul_of_pos_left _ _ hg]
theorem red_eq_iff {u l : Int} (hl : 1 ≤ l) : redS u l 0 = redS u l 1 ↔ u = l := by
  obtain ⟨g, hg, h1, h2⟩ := red_parts (u := u) hl
  constructor
  · intro e; rw [e] at h1; exact h1.trans h2.symm
  · intro e
    have : redS u l 0 * g = redS u l 1 * g := by rw [← h1, ← h2, e]
    exact Int.eq_of_mul_eq_mul_right (by omega) this
theorem red_bd {u l : Int} (hu : 0 ≤ u) (h1 : u ≤ l) (hl : 1 ≤ l) : 0 ≤ redS u l 0 ∧ redS u l 0 ≤ redS u l 1 ∧ 1 ≤ redS u l 1 ∧ redS u l 1 ≤ l := by
  have hg := gcd_pos (u := u) hl
  have d2 := Int.ediv_le_self (Int.gcd u l : Int) (show 0 ≤ l by omega)
  have e1 : 0 ≤ u / (Int.gcd u l : Int) := Int.ediv_nonneg hu (by omega)
  have e2 : u / (Int.gcd u l : Int) ≤ l / (Int.gcd u l : Int) := Int.ediv_le_ediv (by omega) h1
  obtain ⟨g, g0, q1, q2⟩ := red_parts (u := u) hl
  have a0 : redS u l 0 = u / (Int.gcd u l : Int) := by unfold redS; rw [if_pos rfl]
  have a1 : redS u l 1 = l / (Int.gcd u l : Int) := by unfold redS; rw [if_neg (by decide)]
  refine ⟨by omega, by omega, ?_, by omega⟩
  have e3 : 0 ≤ l / (Int.gcd u l : Int) := Int.ediv_nonneg (by omega) (by omega)
  by_cases c : redS u l 1 = 0
  · rw [c, Int.zero_mul] at q2; omega
  · omega
theorem F_millionths_eq {h : XH} {z u l : Int} (o : OB h z 17) (e0 : xv h z 0 = u) (e1 : xv h z 1 = l) (h0 : 0 ≤ u) (h1 : u ≤ l) (hl : 1 ≤ l) (hb : l ≤ 900000000000000000) : F_X19_millionths z h = some (milS u l, h) := by
  have step : ∀ (p : Int) (fuel : Nat) (x8 : Int), 1 ≤ p → p ≤ 100000 → 0 ≤ x8 → x8 < 6 → F_X19_millionths_24 (fuel + 1) z (u * p % l) (u * p / l) x8 h = F_X19_millionths_24 fuel z (u * (p * 10) % l) (u * (p * 10) / l) (x8 + 1) h := fun p fuel x8 p0 p1 a b => by
    obtain ⟨q1, q2⟩ := mil_step (u := u) (l := l) (p := p) (by omega)
    have b1 := mil_le h0 h1 (show 0 < l by omega) (p := p) (P := 100000) (by omega) p1
    have b2 := mil_le h0 h1 (show 0 < l by omega) (p := p * 10) (P := 1000000) (by omega) (by omega)
    have m0 := Int.emod_nonneg (u * p) (show l ≠ 0 by omega)
    have m1 := Int.emod_lt_of_pos (u * p) (show 0 < l by omega)
    have d0 : 0 ≤ u * p % l * 10 / l := Int.ediv_nonneg (by omega) (by omega)
    rw [F_X19_millionths_24, if_neg (by omega), w64_id (x := u * p % l * 10) (by omega) (by omega), nm_eq, obk o, e1, cz_ok (by omega), Int.tdiv_eq_ediv_of_nonneg (by omega), w32_id (x := 10 * (u * p / l)) (by omega) (by omega), w64_id (x := u * p % l * 10 / l) (by omega) (by omega), w32_id (x := u * p % l * 10 / l) (by omega) (by omega), Int.mul_comm 10, ← q1, w32_id (by omega) (by omega), nm_eq, obk o, cz_ok (by omega), Int.tmod_eq_emod_of_nonneg (by omega), nm_eq, nm_eq, w32_id (by omega) (by omega), ← q2]
  have b0 := mil_le h0 h1 (show 0 < l by omega) (p := 1) (P := 1) (by omega) (by omega)
  have b6 := mil_le h0 h1 (show 0 < l by omega) (p := 1000000) (P := 1000000) (by omega) (by omega)
  obtain ⟨f, hf⟩ : ∃ f, FU = f + 1 + 1 + 1 + 1 + 1 + 1 + 1 := ⟨19993, by rw [FU_eq]⟩
  unfold F_X19_millionths
  have g1 : u.tdiv l = u * 1 / l := by rw [Int.mul_one, Int.tdiv_eq_ediv_of_nonneg h0]
  have g2 : u.tmod l = u * 1 % l := by rw [Int.mul_one, Int.tmod_eq_emod_of_nonneg h0]
  rw [obk o, obk o, e1, cz_ok (by omega), e0, g2, nm_eq, obk o, obk o, cz_ok (by omega), g1, w64_id (by omega) (by omega), w32_id (by omega) (by omega), nm_eq, hf, step 1 _ 0 (by decide) (by decide) (by decide) (by decide), step (1 * 10) _ _ (by decide) (by decide) (by decide) (by decide), step (1 * 10 * 10) _ _ (by decide) (by decide) (by decide) (by decide), step (1 * 10 * 10 * 10) _ _ (by decide) (by decide) (by decide) (by decide), step (1 * 10 * 10 * 10 * 10) _ _ (by decide) (by decide) (by decide) (by decide), step (1 * 10 * 10 * 10 * 10 * 10) _ _ (by decide) (by decide) (by decide) (by decide), F_X19_millionths_24, if_pos (by decide)]
  rfl
/-- an array of three -/
def A3 (h : XH) (a : Int) (f : Int → Int) : Prop := OB h a 100 ∧ xl h a = 3 ∧ ∀ l : Int, 0 ≤ l → l ≤ 2 → xv h a l = f l
theorem A3.fr {W : Int → Int → Prop} {c s : Nat} {h h' : XH} {a : Int} {f : Int → Int} (A : A3 h a f) (F : Fr W c s h h') (hW : ∀ j, ¬ W a j) : A3 h' a f := ⟨F.ob A.1, by rw [F.l A.1.2.1]; exact A.2.1, fun l l0 l1 => by rw [F.v A.1.2.1 (hW l)]; exact A.2.2 l l0 l1⟩
/-- answers -/
def AO (h : XH) (x : Int) (c : Int → Int) (most : Int) : Prop := OB h x 16 ∧ xv h x 1 = most ∧ A3 h (xv h x 0) c
theorem AO.fr {W : Int → Int → Prop} {c s : Nat} {h h' : XH} {x most : Int} {C : Int → Int} (A : AO h x C most) (F : Fr W c s h h') (h1 : ∀ j, ¬ W x j) (h2 : ∀ j, ¬ W (xv h x 0) j) : AO h' x C most := by
  have e : ∀ j, xv h' x j = xv h x j := fun j => F.v A.1.2.1 (h1 j)
  exact ⟨F.ob A.1, by rw [e]; exact A.2.1, by rw [e]; exact A.2.2.fr F h2⟩
theorem F_greatest_eq {h : XH} {x b most : Int} {c n : Int → Int} (A : AO h x c most) (B : A3 h b n) : F_X18_greatest x b h = some (grS c n, h) := by
  obtain ⟨a1, a2, a3⟩ := A
  have step : ∀ (f : Nat) (best l : Int), 0 ≤ l → l ≤ 2 → (best = -1 ∨ (0 ≤ best ∧ best ≤ 2)) → F_X18_greatest_4 (f + 1) x b best l h = F_X18_greatest_4 f x b (if 0 < n l ∧ (best = -1 ∨ c best < c l) then l else best) (l + 1) h := fun f best l l0 l1 hb => by
    rw [F_X18_greatest_4, if_neg (by omega), aik (t := 0) B.1 l0 (by rw [B.2.1]; omega), B.2.2 l l0 l1]
    unfold F_X18_greatest_35 F_X18_greatest_37
    rw [w32_id (by omega) (by omega), nm_eq, nm_eq]
    by_cases c1 : n l ≤ 0
    · rw [if_pos c1, if_neg (fun q => by omega)]
    · rw [if_neg c1]
      by_cases c2 : best = -1
      · rw [if_pos c2, if_pos ⟨by omega, Or.inl c2⟩]
      · rw [if_neg c2, obk a1, aik (t := 0) a3.1 l0 (by rw [a3.2.1]; omega), obk a1, aik (t := 0) a3.1 (by omega) (by rw [a3.2.1]; omega), a3.2.2 l l0 l1, a3.2.2 best (by omega) (by omega)]
        by_cases c3 : c l ≤ c best
        · rw [if_pos c3, if_neg (fun q => by rcases q.2 with q | q; exact c2 q; omega)]
        · rw [if_neg c3, if_pos ⟨by omega, Or.inr (by omega)⟩]
  obtain ⟨f, hf⟩ : ∃ f, FU = f + 1 + 1 + 1 + 1 := ⟨19996, by rw [FU_eq]⟩
  have r0 : (if 0 < n 0 ∧ ((-1 : Int) = -1 ∨ c (-1) < c 0) then (0 : Int) else -1) = (if 0 < n 0 then 0 else -1) := by
    by_cases q : 0 < n 0
    · rw [if_pos ⟨q, Or.inl rfl⟩, if_pos q]
    · rw [if_neg (fun e => q e.1), if_neg q]
  unfold F_X18_greatest
  rw [hf, step _ (-1) 0 (by decide) (by decide) (Or.inl rfl), r0]
  generalize h0 : (if 0 < n 0 then (0 : Int) else -1) = b0
  have hb0 : b0 = -1 ∨ (0 ≤ b0 ∧ b0 ≤ 2) := by rw [← h0]; split <;> simp
  rw [show (0 : Int) + 1 = 1 from rfl, step _ b0 1 (by decide) (by decide) hb0]
  generalize h1 : (if 0 < n 1 ∧ (b0 = -1 ∨ c b0 < c 1) then (1 : Int) else b0) = b1
  have hb1 : b1 = -1 ∨ (0 ≤ b1 ∧ b1 ≤ 2) := by rw [← h1]; split; exact Or.inr ⟨by decide, by decide⟩; exact hb0
  have hg : grS c n = (if 0 < n 2 ∧ (b1 = -1 ∨ c b1 < c 2) then 2 else b1) := by rw [← h1, ← h0]; rfl
  rw [show (1 : Int) + 1 = 2 from rfl, step _ b1 2 (by decide) (by decide) hb1, ← hg, F_X18_greatest_4, if_pos (by decide)]
/-- a long array's row of ways -/
def WO (h : XH) (a : Int) (len : Nat) (n : Int) (w : Int → Int) : Prop := OB h a 101 ∧ xl h a = len ∧ ∀ r : Int, 0 ≤ r → r < n → xv h a r = w64 (w r)
def fstS (c : Int → Int) (l : Int) (w : Int → Int) : Int → Int := if l = -1 then (fun r => w r * 100) else stpS (c l) w
section
variable {h : XH} {x most : Int} {c : Int → Int}
theorem of_74 {K38 : Int → Int → Int → Int → XH → Option XR} {A B k l : Int} {w : Int → Int} (AA : AO h x c most) (hc : pc3 c) (hl : l = -1 ∨ (0 ≤ l ∧ l ≤ 2)) (k0 : 0 ≤ k) (k1 : k < most) (hm : most ≤ 3) (W : WO h A (most + 1).toNat (most + 1) w) (hz : ∀ r, k < r → w r = 0) : ∃ h', F_X18_of_74 K38 FU x A B k l (k + 1) h = F_X18_of_162 K38 x A B k h' ∧ Fr (fun a _ => a = A) 0 0 h h' ∧ WO h' A (most + 1).toNat (most + 1) (fstS c l w) := by
  obtain ⟨w1, w2, w3⟩ := W
  have loop : ∀ (j fuel : Nat) (r : Int) (h1 : XH), j < fuel → r + 1 = j → r ≤ k + 1 → Fr (fun a _ => a = A) 0 0 h h1 → (∀ i, 0 ≤ i → i ≤ r → xv h1 A i = w64 (w i)) → (∀ i, r < i → i < most + 1 → xv h1 A i = w64 (fstS c l w i)) → ∃ h', F_X18_of_74 K38 fuel x A B k l r h1 = F_X18_of_162 K38 x A B k h' ∧ Fr (fun a _ => a = A) 0 0 h h' ∧ WO h' A (most + 1).toNat (most + 1) (fstS c l w) := by
    intro j
    induction j with
    | zero =>
      intro fuel r h1 hf hr hk F hlo hhi
      cases fuel with
      | zero => omega
      | succ fuel =>
        rw [F_X18_of_74, if_pos (by omega)]
        exact ⟨h1, rfl, F, F.ob w1, by rw [F.l w1.2.1]; exact w2, fun i i0 i1 => hhi i (by omega) i1⟩
    | succ j ih =>
      intro fuel r h1 hf hr hk F hlo hhi
      cases fuel with
      | zero => omega
      | succ fuel =>
        have oA := F.ob w1
        have lA : (xl h1 A : Int) = most + 1 := by rw [F.l w1.2.1, w2]; omega
        have a1 := AA.fr F (fun j q => OB.ne AA.1 w1 (by decide) q) (fun j q => OB.ne AA.2.2.1 w1 (by decide) q)
        have cl := fun q : 0 ≤ l ∧ l ≤ 2 => hc l q.1 q.2
        -- one place set
        have fin : ∀ y : Int, y = w64 (fstS c l w r) → ∃ h', F_X18_of_74 K38 fuel x A B k l (w32 (r + -1)) (hset h1 A r y) = F_X18_of_162 K38 x A B k h' ∧ Fr (fun a _ => a = A) 0 0 h h' ∧ WO h' A (most + 1).toNat (most + 1) (fstS c l w) := fun y hy => by
          rw [w32_id (by omega) (by omega)]
          refine ih fuel (r + -1) _ (by omega) (by omega) (by omega) (F.tr (Fr.set (W := fun a _ => a = A) (fun _ => rfl)) (fun _ _ _ q => q)) (fun i i0 i1 => by rw [hset_vj (by omega)]; exact hlo i i0 (by omega)) (fun i i0 i1 => ?_)
          by_cases e : i = r
          · rw [e, hset_vv, hy]
          · rw [hset_vj e]; exact hhi i (by omega) i1
        -- with what stays
        have e117 : ∀ y : Int, y = w64 (w r * (if l = -1 then 100 else 100 - c l)) → ∃ h', F_X18_of_117 K38 (F_X18_of_74 K38 fuel) y x A B k l r h1 = F_X18_of_162 K38 x A B k h' ∧ Fr (fun a _ => a = A) 0 0 h h' ∧ WO h' A (most + 1).toNat (most + 1) (fstS c l w) := fun y hy => by
          unfold F_X18_of_117 F_X18_of_153 F_X18_of_154
          by_cases c0 : r ≤ 0
          · have er : r = 0 := by omega
            rw [if_pos c0, aik (t := 1) oA (by omega) (by omega), nm_eq, nm_eq, Int.add_zero]
            refine fin _ ?_
            rw [hy, w64_w64]
            unfold fstS
            by_cases c2 : l = -1
            · rw [if_pos c2, if_pos c2]
            · rw [if_neg c2, if_neg c2]
              unfold stpS
              rw [if_neg (by omega), Int.add_zero]
          · rw [if_neg c0]
            by_cases c2 : l = -1
            · rw [if_pos c2, aik (t := 1) oA (by omega) (by omega), nm_eq, nm_eq, Int.add_zero]
              refine fin _ ?_
              rw [hy, w64_w64]
              unfold fstS
              rw [if_pos c2, if_pos c2]
            · have hl2 := hl.resolve_left c2
              have e1 := hlo (r - 1) (by omega) (by omega)
              rw [if_neg c2, w32_id (x := r - 1) (by omega) (by omega), aik (t := 1) oA (by omega) (by omega), obk a1.1, aik (t := 0) a1.2.2.1 hl2.1 (by rw [a1.2.2.2.1]; omega), a1.2.2.2.2 l hl2.1 hl2.2, e1, aik (t := 1) oA (by omega) (by omega), nm_eq, nm_eq]
              refine fin _ ?_
              rw [hy, w64_mul, w64_add]
              unfold fstS
              rw [if_neg c2, if_neg c2]
              unfold stpS
              rw [if_pos (by omega)]
        rw [F_X18_of_74, if_neg (by omega)]
        by_cases c1 : k < r
        · rw [if_pos c1]
          exact e117 0 (by rw [hz r c1, Int.zero_mul]; rfl)
        · rw [if_neg c1, aik (t := 1) oA (by omega) (by omega), hlo r (by omega) (Int.le_refl r)]
          unfold F_X18_of_111
          by_cases c2 : l = -1
          · rw [if_pos c2]
            exact e117 _ (by rw [w64_mul, if_pos c2])
          · have hl2 := hl.resolve_left c2
            have := cl hl2
            rw [if_neg c2, obk a1.1, aik (t := 0) a1.2.2.1 hl2.1 (by rw [a1.2.2.2.1]; omega), a1.2.2.2.2 l hl2.1 hl2.2, w32_id (x := 100 - c l) (by omega) (by omega)]
            exact e117 _ (by rw [w64_mul, if_neg c2])
  refine loop (k + 2).toNat FU (k + 1) h (by rw [FU_eq]; omega) (by omega) (Int.le_refl _) (Fr.rf.up (fun _ _ _ q => q) (Nat.le_refl _) (Nat.le_refl _)) (fun i i0 i1 => w3 i i0 (by omega)) (fun i i0 i1 => ?_)
  rw [w3 i (by omega) i1]
  have h1 := hz i (by omega)
  have h2 := hz (i - 1) (by omega)
  unfold fstS
  by_cases c2 : l = -1
  · rw [if_pos c2, h1, Int.zero_mul]
  · rw [if_neg c2]
    unfold stpS
    rw [if_pos (by omega), h1, h2]; simp
theorem fst_z {l : Int} {w : Int → Int} {k : Int} (k0 : 0 ≤ k) (hz : ∀ r, k < r → w r = 0) : ∀ r, k + 1 < r → fstS c l w r = 0 := fun r hr => by
  unfold fstS
  by_cases c2 : l = -1
  · rw [if_pos c2, hz r (by omega), Int.zero_mul]
  · rw [if_neg c2]
    unfold stpS
    rw [if_pos (by omega), hz r (by omega), hz (r - 1) (by omega)]; simp
theorem of_38 (hc : pc3 c) (m0 : 0 ≤ most) (hm : most ≤ 3) {A B : Int} (nAB : A ≠ B) : ∀ (j fuel : Nat) (k : Int) (n w : Int → Int) (h : XH), j < fuel → k + j = most → 0 ≤ k → AO h x c most → xv h x 0 ≠ B → A3 h B n → nn3 n → (∀ l, n l ≤ 1000) → WO h A (most + 1).toNat (most + 1) w → (∀ r, k < r → w r = 0) → ∃ h', F_X18_of_38 fuel x A B k h = some (A, h') ∧ Fr (fun a _ => a = A ∨ a = B) 0 0 h h' ∧ WO h' A (most + 1).toNat (most + 1) (xwS c j n w) := by
  intro j
  induction j with
  | zero =>
    intro fuel k n w h hf hk k0 AA nB BB hn hn2 W hz
    cases fuel with
    | zero => omega
    | succ fuel =>
      rw [F_X18_of_38, obk AA.1, AA.2.1, if_pos (by omega)]
      exact ⟨h, rfl, Fr.rf, W⟩
  | succ j ih =>
    intro fuel k n w h hf hk k0 AA nB BB hn hn2 W hz
    cases fuel with
    | zero => omega
    | succ fuel =>
      rw [F_X18_of_38, obk AA.1, AA.2.1, if_neg (by omega), obk AA.1, F_greatest_eq AA BB, mb_some]
      have hg := GR.of c n
      have hx : xwS c (j + 1) n w = xwS c j (if grS c n = -1 then n else decS n (grS c n)) (fstS c (grS c n) w) := by
        show (if grS c n = -1 then xwS c j n (fun r => w r * 100) else xwS c j (decS n (grS c n)) (stpS (c (grS c n)) w)) = _
        unfold fstS
        by_cases e : grS c n = -1
        · rw [if_pos e, if_pos e, if_pos e]
        · rw [if_neg e, if_neg e, if_neg e]
      rw [hx]
      generalize grS c n = l at *
      have hl : l = -1 ∨ (0 ≤ l ∧ l ≤ 2) := by rcases hg with g | g; exact Or.inl g.1; exact Or.inr g.1
      -- behind the choice
      have go : ∀ (h1 : XH) (n1 : Int → Int), Fr (fun a _ => a = A ∨ a = B) 0 0 h h1 → AO h1 x c most → xv h1 x 0 ≠ B → A3 h1 B n1 → nn3 n1 → (∀ l, n1 l ≤ 1000) → WO h1 A (most + 1).toNat (most + 1) w → ∃ h', F_X18_of_68 (F_X18_of_38 fuel) x A B k l h1 = some (A, h') ∧ Fr (fun a _ => a = A ∨ a = B) 0 0 h h' ∧ WO h' A (most + 1).toNat (most + 1) (xwS c j n1 (fstS c l w)) := fun h1 n1 F1 A1 nB1 B1 hn1 hn3 W1 => by
        unfold F_X18_of_68
        rw [nm_eq, w32_id (by omega) (by omega)]
        obtain ⟨h2, q1, q2, q3⟩ := of_74 (K38 := F_X18_of_38 fuel) (B := B) A1 hc hl k0 (by omega) hm W1 hz
        rw [q1]
        unfold F_X18_of_162
        rw [nm_eq, w32_id (by omega) (by omega)]
        have n1A : ∀ (a : Int) (k9 : Nat), OB h1 a k9 → k9 ≠ 101 → a ≠ A := fun a k9 o hk9 => OB.ne o W1.1 hk9
        have A2 := A1.fr q2 (fun j q => n1A x 16 A1.1 (by decide) q) (fun j q => n1A _ 100 A1.2.2.1 (by decide) q)
        have e20 : xv h2 x 0 = xv h1 x 0 := q2.v A1.1.2.1 (fun q => n1A x 16 A1.1 (by decide) q)
        obtain ⟨h3, r1, r2, r3⟩ := ih fuel (k + 1) n1 (fstS c l w) h2 (by omega) (by omega) (by omega) A2 (by rw [e20]; exact nB1) (B1.fr q2 (fun j q => n1A B 100 B1.1 (by decide) q)) hn1 hn3 q3 (fst_z k0 hz)
        exact ⟨h3, r1, (F1.tr q2 (fun a _ _ q => Or.inl q)).tr r2 (fun _ _ _ q => q), r3⟩
      by_cases c2 : l = -1
      · rw [if_pos c2, if_pos c2]
        exact go h n (Fr.rf) AA nB BB hn hn2 W
      · have hl2 := hl.resolve_left c2
        have hpos : 0 < n l := by rcases hg with g | g; exact absurd g.1 c2; exact g.2.1
        have hle := hn2 l
        rw [if_neg c2, if_neg c2, aik (t := 0) BB.1 hl2.1 (by rw [BB.2.1]; omega), aik (t := 0) BB.1 hl2.1 (by rw [BB.2.1]; omega), BB.2.2 l hl2.1 hl2.2, w32_id (by omega) (by omega), nm_eq]
        have F1 : Fr (fun a _ => a = A ∨ a = B) 0 0 h (hset h B l (n l - 1)) := Fr.set fun _ => Or.inr rfl
        have F2 : Fr (fun a _ => a = B) 0 0 h (hset h B l (n l - 1)) := Fr.set fun _ => rfl
        refine go _ (decS n l) F1 (AA.fr F2 (fun j q => OB.ne AA.1 BB.1 (by decide) q) (fun j q => nB q)) ?_ ⟨BB.1, BB.2.1, fun i i0 i1 => ?_⟩ (hn.dec hpos) (fun i => ?_) ⟨W.1, W.2.1, fun r r0 r1 => ?_⟩
        · rw [hset_vn (OB.ne AA.1 BB.1 (by decide))]; exact nB
        · unfold decS
          by_cases e : i = l
          · rw [e, hset_vv, if_pos rfl]
          · rw [hset_vj e, if_neg e]; exact BB.2.2 i i0 i1
        · unfold decS; split
          · rename_i e; rw [e]; omega
          · exact hn2 i
        · rw [hset_vn nAB]; exact W.2.2 r r0 r1
end
theorem nnF {h : XH} {k n : Nat} {W : Int → Int → Prop} : Fr W 1 n h (hnew h k n) := Fr.new
theorem F_ways_of {h : XH} {x lie : Int} {c n : Int → Int} {most : Nat} (hc : pc3 c) (hm : most ≤ 3) (A : AO h x c most) (B : A3 h lie n) (hn : nn3 n) (hn2 : ∀ l, 0 ≤ l → l ≤ 2 → n l ≤ 1000) : ∃ h', F_X18_of x lie h = some (hnx h, h') ∧ Fr (fun _ _ => False) 2 (most + 4) h h' ∧ WO h' (hnx h) (most + 1) ((most : Int) + 1) (xwS c most n w0S) := by
  obtain ⟨a1, a2, a3⟩ := A
  have A0 : AO h x c most := ⟨a1, a2, a3⟩
  unfold F_X18_of
  rw [obk a1, a2, w32_id (by omega) (by omega), nak (t := 1) (by omega) (by omega), aik (t := 1) (OB.nx h 101 _) (by decide) (by rw [hnew_l0]; omega), nm_eq, show ((most : Int) + 1).toNat = most + 1 by omega]
  have F1 : Fr (fun _ _ => False) 1 (most + 1) h (hset (hnew h 101 (most + 1)) (hnx h) 0 1) := (Fr.new).setN (by unfold hnx; omega)
  have o1 : OB (hset (hnew h 101 (most + 1)) (hnx h) 0 1) (hnx h) 101 := OB.nx h 101 _
  have l1 : xl (hset (hnew h 101 (most + 1)) (hnx h) 0 1) (hnx h) = most + 1 := hnew_l0 (k := 101)
  have v1 : ∀ r : Int, xv (hset (hnew h 101 (most + 1)) (hnx h) 0 1) (hnx h) r = w0S r := fun r => by
    unfold w0S
    by_cases e : r = 0
    · rw [e, hset_vv]; rfl
    · rw [hset_vj e, hnew_v0, if_neg e]
  have n1 : xn (hset (hnew h 101 (most + 1)) (hnx h) 0 1) = xn h + 1 := rfl
  generalize hset (hnew h 101 (most + 1)) (hnx h) 0 1 = h1 at *
  rw [nak (t := 0) (by decide) (by decide), show (3 : Int).toNat = 3 from rfl]
  have F2 : Fr (fun _ _ => False) 1 3 h1 (hnew h1 100 3) := Fr.new
  have F12 : Fr (fun _ _ => False) 2 (most + 4) h (hnew h1 100 3) := F1.tr F2 (fun _ _ _ q => q)
  have B2 : A3 (hnew h1 100 3) lie n := B.fr F12 (fun _ q => q)
  have o2 : OB (hnew h1 100 3) (hnx h1) 100 := OB.nx h1 100 3
  have nl : lie ≠ hnx h1 := fun e => by have := B.1.2.1; unfold hnx at e; omega
  have ea : hnx h1 = (xn h : Int) + 2 := by unfold hnx; omega
  have er : hnx h = (xn h : Int) + 1 := rfl
  rw [aik (t := 0) B2.1 (by decide) (by rw [B2.2.1]; decide), aik (t := 0) o2 (by decide) (by rw [hnew_l0]; decide), nm_eq, B2.2.2 0 (by decide) (by decide)]
  have B3 : A3 (hset (hnew h1 100 3) (hnx h1) 0 (n 0)) lie n := B2.fr (Fr.set (W := fun a _ => a = hnx h1) (fun _ => rfl)) (fun _ q => nl q)
  rw [aik (t := 0) B3.1 (by decide) (by rw [B3.2.1]; decide), aik (t := 0) (h := hset (hnew h1 100 3) (hnx h1) 0 (n 0)) o2 (by decide) (by show (1 : Int) < ((xl (hnew h1 100 3) (hnx h1) : Nat) : Int); rw [hnew_l0]; decide), nm_eq, B3.2.2 1 (by decide) (by decide)]
  have B4 : A3 (hset (hset (hnew h1 100 3) (hnx h1) 0 (n 0)) (hnx h1) 1 (n 1)) lie n := B3.fr (Fr.set (W := fun a _ => a = hnx h1) (fun _ => rfl)) (fun _ q => nl q)
  rw [aik (t := 0) B4.1 (by decide) (by rw [B4.2.1]; decide), aik (t := 0) (h := hset (hset (hnew h1 100 3) (hnx h1) 0 (n 0)) (hnx h1) 1 (n 1)) o2 (by decide) (by show (2 : Int) < ((xl (hnew h1 100 3) (hnx h1) : Nat) : Int); rw [hnew_l0]; decide), nm_eq, B4.2.2 2 (by decide) (by decide)]
  have F5 : Fr (fun _ _ => False) 2 (most + 4) h (hset (hset (hset (hnew h1 100 3) (hnx h1) 0 (n 0)) (hnx h1) 1 (n 1)) (hnx h1) 2 (n 2)) := ((F12.setN (by omega)).setN (by omega)).setN (by omega)
  have B5 : A3 (hset (hset (hset (hnew h1 100 3) (hnx h1) 0 (n 0)) (hnx h1) 1 (n 1)) (hnx h1) 2 (n 2)) (hnx h1) (fun l => if l = 0 then n 0 else if l = 1 then n 1 else if l = 2 then n 2 else 0) := ⟨o2, hnew_l0 (h := h1) (k := 100) (n := 3), fun l l0 l1 => by
    have : l = 0 ∨ l = 1 ∨ l = 2 := by omega
    rcases this with rfl | rfl | rfl
    · rw [hset_vj (by decide), hset_vj (by decide), hset_vv]; rfl
    · rw [hset_vj (by decide), hset_vv]; rfl
    · rw [hset_vv]; rfl⟩
  have W5 : WO (hset (hset (hset (hnew h1 100 3) (hnx h1) 0 (n 0)) (hnx h1) 1 (n 1)) (hnx h1) 2 (n 2)) (hnx h) ((most : Int) + 1).toNat ((most : Int) + 1) w0S := ⟨F2.ob o1, by show xl (hnew h1 100 3) (hnx h) = _; rw [F2.l o1.2.1, l1]; omega, fun r r0 r1 => by
    rw [hset_vn (by omega), hset_vn (by omega), hset_vn (by omega), F2.v o1.2.1 (fun q => q), v1 r]
    have : w0S r = 0 ∨ w0S r = 1 := by unfold w0S; split <;> simp
    rcases this with e | e <;> rw [e] <;> rfl⟩
  have A5 : AO (hset (hset (hset (hnew h1 100 3) (hnx h1) 0 (n 0)) (hnx h1) 1 (n 1)) (hnx h1) 2 (n 2)) x c most := A0.fr F5 (fun _ q => q) (fun _ q => q)
  have x0 : xv (hset (hset (hset (hnew h1 100 3) (hnx h1) 0 (n 0)) (hnx h1) 1 (n 1)) (hnx h1) 2 (n 2)) x 0 = xv h x 0 := F5.v a1.2.1 (fun q => q)
  generalize hset (hset (hset (hnew h1 100 3) (hnx h1) 0 (n 0)) (hnx h1) 1 (n 1)) (hnx h1) 2 (n 2) = h5 at *
  have hnn : ∀ l, 0 ≤ l → l ≤ 2 → (fun l : Int => if l = 0 then n 0 else if l = 1 then n 1 else if l = 2 then n 2 else 0) l = n l := fun l l0 l1 => by
    have : l = 0 ∨ l = 1 ∨ l = 2 := by omega
    rcases this with rfl | rfl | rfl <;> rfl
  obtain ⟨h6, q1, q2, q3⟩ := of_38 (x := x) (most := (most : Int)) hc (by omega) (by omega) (A := hnx h) (B := hnx h1) (by omega) most FU 0 _ w0S h5 (by rw [FU_eq]; omega) (by omega) (by decide) A5 (by rw [x0]; have := a3.1.2.1; omega) B5 ⟨hn.1, hn.2.1, hn.2.2⟩ (fun l => by
    show (if l = 0 then n 0 else if l = 1 then n 1 else if l = 2 then n 2 else 0) ≤ 1000
    have := hn2 0 (by decide) (by decide); have := hn2 1 (by decide) (by decide); have := hn2 2 (by decide) (by decide)
    split
    · omega
    · split
      · omega
      · split <;> omega) W5 (fun r hr => w0_ok.2.1 r hr)
  refine ⟨h6, q1, (F5.tr q2 (fun a _ ha q => by
    rcases q with q | q
    · omega
    · omega)).up (fun _ _ _ q => q) (by omega) (by omega), ?_⟩
  obtain ⟨y1, y2, y3⟩ := q3
  refine ⟨y1, by rw [y2]; omega, fun r r0 r1 => ?_⟩
  rw [y3 r r0 r1]
  have xc : ∀ (a : Nat) (n n' w : Int → Int), (∀ l, 0 ≤ l → l ≤ 2 → n l = n' l) → xwS c a n w = xwS c a n' w := by
    intro a
    induction a with
    | zero => intro n n' w _; rfl
    | succ a iha =>
      intro n n' w hh
      have hg : grS c n = grS c n' := by
        refine GR.un (GR.of c n) ?_
        rcases GR.of c n' with ⟨a1, a2⟩ | ⟨a1, a2, a3⟩
        · exact Or.inl ⟨a1, fun l l0 l1 => by rw [hh l l0 l1]; exact a2 l l0 l1⟩
        · exact Or.inr ⟨a1, by rw [hh _ a1.1 a1.2]; exact a2, fun l l0 l1 hl => a3 l l0 l1 (by rw [← hh l l0 l1]; exact hl)⟩
      show (if grS c n = -1 then xwS c a n _ else xwS c a _ _) = (if grS c n' = -1 then xwS c a n' _ else xwS c a _ _)
      rw [hg]
      by_cases e : grS c n' = -1
      · rw [if_pos e, if_pos e]; exact iha n n' _ hh
      · rw [if_neg e, if_neg e]
        refine iha _ _ _ fun l l0 l1 => ?_
        unfold decS
        rw [hh l l0 l1]
  rw [xc most _ n w0S hnn]
