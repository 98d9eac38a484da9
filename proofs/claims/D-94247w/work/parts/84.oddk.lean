/-! plain law: the odds on the model's side, all of them -/
set_option maxRecDepth 100000
set_option maxHeartbeats 400000
theorem SR.w {V : VV} {s y : Int → Int} {t : Int} (h : SR V (fun r => s r + w64 t * y r)) : SR V (fun r => s r + t * y r) := fun r r0 r1 => by
  rw [h r r0 r1, ← w64_addr, w64_mul, w64_addr]
theorem SR.c {V : VV} {s : Int → Int} {k : Nat} (h : SR V s) {V' : VV} {S : List Nat} (m : MF S V V') (hk : (27 : Nat) ∉ S) : SR V' s := fun r r0 r1 => by rw [m 27 hk]; exact h r r0 r1
/-- what the odds rest on -/
def OH (V : VV) (K c th lk : Int → Int) : Prop := V 3 = K ∧ (∀ l : Int, 0 ≤ l → l ≤ 2 → V 22 l = c l) ∧ (∀ l : Int, 0 ≤ l → l ≤ 2 → V 23 l = th l) ∧ ∀ l : Int, 0 ≤ l → l ≤ 2 → V 24 l = lk l
section
variable {K c th lk : Int → Int} {lean : Int}
theorem odds_244 (hc : pc3 c) (B : BWL K th lk lean) (hle : leanS K th lk lean = true) {V : VV} {s : Int → Int} (O : OH V K c th lk) (h28 : V 28 0 = lyS K th) (h29 : V 29 0 = ansS K th) (S : SR V s) : ∃ V', M_odds_244 FU lean (sizeS th) 0 V = some (0, V') ∧ MF [23, 25, 26, 27] V V' ∧ SR V' (fun r => s r + Sg (fun l => if lk l = 0 then 0 else lean * lk l * sizeS th * lotS c (ansS K th) (decS th l) (lyS K th - 1) l r) 3 0) := by
  have hcond := of_decide_eq_true hle
  have hly := B.ly
  have ha := B.ans
  have hd2 : lyS K th = K 100 := by unfold lyS; rw [if_pos hcond.2.2]
  obtain ⟨hn, hl, hlk, hs, k1, k2, k3, k4⟩ := B
  obtain ⟨d', hd'⟩ := Int.eq_ofNat_of_zero_le (show 0 ≤ lyS K th - 1 by omega)
  have step : ∀ (f : Nat) (l : Int) (V1 : VV) (s : Int → Int), 0 ≤ l → l ≤ 2 → OH V1 K c th lk → V1 28 0 = lyS K th → V1 29 0 = ansS K th → SR V1 s → ∃ V2, M_odds_244 (f + 1) lean (sizeS th) l V1 = M_odds_244 f lean (sizeS th) (l + 1) V2 ∧ MF [23, 25, 26, 27] V1 V2 ∧ OH V2 K c th lk ∧ V2 28 0 = lyS K th ∧ V2 29 0 = ansS K th ∧ SR V2 (fun r => s r + if lk l = 0 then 0 else lean * lk l * sizeS th * lotS c (ansS K th) (decS th l) (lyS K th - 1) l r) := fun f l V1 s l0 l1 O h28 h29 S => by
    obtain ⟨o1, o2, o3, o4⟩ := O
    rw [M_odds_244, if_neg (by omega), ck_ok l0 (by omega), o4 l l0 l1]
    unfold M_odds_311
    rw [nm_eq, w32_id (x := l + 1) (by omega) (by omega)]
    by_cases cz : lk l = 0
    · rw [if_pos cz]
      exact ⟨V1, rfl, MF.rf, ⟨o1, o2, o3, o4⟩, h28, h29, S.ext fun r => by show s r = s r + _; rw [if_pos cz, Int.add_zero]⟩
    · have hlk' := hlk l l0 l1
      have hlp := hl.at l0 l1
      have tle : th l ≤ 20 := by
        obtain ⟨q0, q1, q2⟩ := hn
        unfold sizeS at hs
        have : l = 0 ∨ l = 1 ∨ l = 2 := by omega
        rcases this with rfl | rfl | rfl <;> omega
      have hdn : nn3 (decS th l) := hn.dec (by omega)
      have L : LO (vup V1 23 l (th l - 1)) c (decS th l) (ansS K th) := by
        refine ⟨by rw [vupN (by decide)]; exact o2, fun i i0 i1 => ?_, by rw [vupN (by decide)]; exact h29⟩
        unfold decS
        by_cases e : i = l
        · rw [e, vup_at, if_pos rfl]
        · rw [vup_off e, if_neg e]; exact o3 i i0 i1
      have S1 : SR (vup V1 23 l (th l - 1)) s := fun r r0 r1 => by rw [vupN (by decide)]; exact S r r0 r1
      obtain ⟨V2, q1, q2, q3⟩ := M_lots_eq hc hdn (by rw [decS_size l0 l1]; omega) ha.1 (d := d') (by omega) (bes := l) (times := w64 (w64 (lean * lk l) * sizeS th)) (Or.inr ⟨l0, l1⟩) (by rw [if_neg (by omega)]; omega) L S1
      have e23 : V2 23 = vup V1 23 l (th l - 1) 23 := q2 23 (by decide)
      rw [if_neg cz, ck_ok l0 (by omega), ck_ok l0 (by omega), o3 l l0 l1, w32_id (x := th l - 1) (by omega) (by omega), nm_eq, ck_ok l0 (by omega), vupN (k := 23) (k' := 28) (by decide), h28, w32_id (x := lyS K th - 1) (by omega) (by omega), vupN (k := 23) (k' := 24) (by decide), o4 l l0 l1, hd', q1, mb_some, ck_ok l0 (by omega), ck_ok l0 (by omega), e23, vup_at, show th l - 1 + 1 = th l by omega, w32_id (x := th l) (by omega) (by omega), nm_eq]
      have mm : MF [23, 25, 26, 27] V1 (vup V2 23 l (th l)) := MF.ed ((MF.ed (MF.rf (V := V1)) (show (23 : Nat) ∈ [23] by decide)).tr (T := [23, 25, 26, 27]) (q2.up (by decide)) (by decide)) (by decide)
      refine ⟨vup V2 23 l (th l), rfl, mm, ⟨by rw [mm 3 (by decide)]; exact o1, by rw [mm 22 (by decide)]; exact o2, fun i i0 i1 => ?_, by rw [mm 24 (by decide)]; exact o4⟩, by rw [mm 28 (by decide)]; exact h28, by rw [mm 29 (by decide)]; exact h29, ?_⟩
      · by_cases e : i = l
        · rw [e, vup_at]
        · rw [vup_off e, e23, vup_off e]; exact o3 i i0 i1
      · have q4 := q3.w
        refine SR.ext (s := fun r => s r + lean * lk l * sizeS th * lotS c (ansS K th) (decS th l) (lyS K th - 1) l r) (fun r r0 r1 => ?_) (fun r => by show s r + _ = s r + _; rw [if_neg cz, hd'])
        rw [vupN (by decide), q4 r r0 r1, hd', ← w64_addr, Int.mul_assoc, w64_mul, ← Int.mul_assoc, w64_addr]
  obtain ⟨f, hf⟩ : ∃ f, FU = f + 1 + 1 + 1 + 1 := ⟨19996, by rw [FU_eq]⟩
  obtain ⟨V1, e1, m1, O1, a1, b1, S1⟩ := step (f + 1 + 1 + 1) 0 V s (by decide) (by decide) O h28 h29 S
  obtain ⟨V2, e2, m2, O2, a2, b2, S2⟩ := step (f + 1 + 1) 1 V1 _ (by decide) (by decide) O1 a1 b1 S1
  obtain ⟨V3, e3, m3, O3, a3, b3, S3⟩ := step (f + 1) 2 V2 _ (by decide) (by decide) O2 a2 b2 S2
  refine ⟨V3, ?_, (m1.tr m2 (fun _ h => h)).tr m3 (fun _ h => h), S3.ext fun r => ?_⟩
  · rw [hf, e1, show (0 : Int) + 1 = 1 from rfl, e2, show (1 : Int) + 1 = 2 from rfl, e3, M_odds_244, if_pos (by decide)]
  · have key : ∀ x a b c : Int, x + a + b + c = x + (a + (b + (c + 0))) := fun x a b c => by omega
    exact key _ _ _ _
theorem M_odds_eq (hc : pc3 c) (B : BWL K th lk lean) {V : VV} (O : OH V K c th lk) : ∃ V', M_odds lean V = some (0, V') ∧ MF [23, 25, 26, 27, 28, 29, 30] V V' ∧ (∀ r : Int, 0 ≤ r → r ≤ 3 → V' 27 r = sumsS K c th lk lean r) ∧ V' 30 0 = wholeS K th lk lean := by
  have hly := B.ly
  have ha := B.ans
  have hw := whole_ok B
  have hsum := sums_ok hc B
  have B0 := B
  obtain ⟨hn, hl, hlk, hs, k1, k2, k3, k4⟩ := B
  obtain ⟨o1, o2, o3, o4⟩ := O
  have e23 : w32 (w32 (V 23 0 + V 23 1) + V 23 2) = sizeS th := by
    rw [o3 0 (by decide) (by decide), o3 1 (by decide) (by decide), o3 2 (by decide) (by decide)]
    obtain ⟨q0, q1, q2⟩ := hn
    unfold sizeS at hs ⊢
    rw [w32_id (x := th 0 + th 1) (by omega) (by omega), w32_id (by omega) (by omega)]
  have hsk : 0 ≤ sizeS lk ∧ sizeS lk ≤ 20 := by
    have := hlk 0 (by decide) (by decide); have := hlk 1 (by decide) (by decide); have := hlk 2 (by decide) (by decide)
    obtain ⟨q0, q1, q2⟩ := hl
    unfold sizeS at hs ⊢; omega
  have e24 : w32 (w32 (V 24 0 + V 24 1) + V 24 2) = sizeS lk := by
    rw [o4 0 (by decide) (by decide), o4 1 (by decide) (by decide), o4 2 (by decide) (by decide)]
    obtain ⟨q0, q1, q2⟩ := hl
    unfold sizeS at hsk ⊢
    rw [w32_id (x := lk 0 + lk 1) (by omega) (by omega), w32_id (by omega) (by omega)]
  -- the end
  have fin : ∀ V', SR V' (sumsS K c th lk lean) → (∀ r : Int, 0 ≤ r → r ≤ 3 → V' 27 r = sumsS K c th lk lean r) := fun V' S r r0 r1 => by
    rw [S r r0 r1]
    have p0 := hsum.2.1 0; have p1 := hsum.2.1 1; have p2 := hsum.2.1 2; have p3 := hsum.2.1 3
    have p4 := hsum.1
    unfold S4 at p4
    have : r = 0 ∨ r = 1 ∨ r = 2 ∨ r = 3 := by omega
    refine w64_id ?_ ?_
    · rcases this with rfl | rfl | rfl | rfl <;> omega
    · rcases this with rfl | rfl | rfl | rfl <;> omega
  have L1 : ∀ (times : Int) (V : VV) (s : Int → Int), LO V c th (ansS K th) → SR V s → ∃ V', M_lots (lyS K th) (-1) times V = some (0, V') ∧ MF [25, 26, 27] V V' ∧ SR V' (fun r => s r + times * lotS c (ansS K th) th (lyS K th) (-1) r) := fun times V s L S => by
    have := M_lots_eq hc hn hs ha.1 (d := (lyS K th).toNat) (by omega) (bes := -1) (ans := ansS K th) (times := times) (Or.inl rfl) (by rw [if_pos rfl]; omega) L S
    rw [show (((lyS K th).toNat : Nat) : Int) = lyS K th by omega] at this
    exact this
  have e179 : ∀ (V1 : VV) (C : Int), OH V1 K c th lk → V1 28 0 = lyS K th → V1 29 0 = ansS K th → SR V1 (fun _ => 0) → V1 30 0 = w64 (chooseS (sizeS th) (lyS K th) * 100 ^ ansS K th) → C = (if leanS K th lk lean = true then 1 else 0) → ∃ V', M_odds_179 C lean (sizeS th) (sizeS lk) V1 = some (0, V') ∧ MF [23, 25, 26, 27, 28, 29, 30] V1 V' ∧ (∀ r : Int, 0 ≤ r → r ≤ 3 → V' 27 r = sumsS K c th lk lean r) ∧ V' 30 0 = wholeS K th lk lean := fun V1 C O1 h28 h29 S h30 hC => by
    obtain ⟨p1, p2, p3, p4⟩ := O1
    unfold M_odds_179
    by_cases cl : leanS K th lk lean = true
    · rw [if_pos cl] at hC
      have eW : w64 (w64 (w64 (V1 30 0 * 100) * sizeS lk) * V1 28 0) = wholeS K th lk lean := by
        rw [h30, h28, w64_mul (chooseS (sizeS th) (lyS K th) * 100 ^ ansS K th), w64_mul (chooseS (sizeS th) (lyS K th) * 100 ^ ansS K th * 100) (sizeS lk), w64_mul]
        unfold wholeS at hw ⊢
        rw [if_pos cl] at hw ⊢
        exact w64_id (by omega) (by omega)
      rw [if_neg (by omega), eW, nm_eq, vupN (by decide), h28, w32_id (x := 100 - lean) (by omega) (by omega)]
      obtain ⟨V2, q1, q2, q3⟩ := L1 (w64 (w64 ((100 - lean) * sizeS lk) * lyS K th)) (vup V1 30 0 (wholeS K th lk lean)) (fun _ => 0) ⟨by rw [vupN (by decide)]; exact p2, by rw [vupN (by decide)]; exact p3, by rw [vupN (by decide)]; exact h29⟩ (fun r r0 r1 => by rw [vupN (by decide)]; exact S r r0 r1)
      have q4 : SR V2 (fun r => 0 + (100 - lean) * sizeS lk * lyS K th * lotS c (ansS K th) th (lyS K th) (-1) r) := fun r r0 r1 => by
        rw [q3.w r r0 r1, ← w64_addr, Int.mul_assoc, w64_mul, ← Int.mul_assoc, w64_addr]
      have m2 : MF [25, 26, 27, 30] V1 V2 := (MF.ed (MF.rf (V := V1)) (show (30 : Nat) ∈ [30] by decide)).tr (T := [25, 26, 27, 30]) (q2.up (by decide)) (by decide)
      obtain ⟨V3, r1, r2, r3⟩ := odds_244 hc B0 cl (V := V2) ⟨by rw [m2 3 (by decide)]; exact p1, by rw [m2 22 (by decide)]; exact p2, by rw [m2 23 (by decide)]; exact p3, by rw [m2 24 (by decide)]; exact p4⟩ (by rw [m2 28 (by decide)]; exact h28) (by rw [m2 29 (by decide)]; exact h29) q4
      rw [q1, mb_some, r1]
      refine ⟨V3, rfl, (m2.up (T := [23, 25, 26, 27, 28, 29, 30]) (by decide)).tr (r2.up (by decide)) (fun _ h => h), fin V3 (r3.ext fun r => ?_), ?_⟩
      · unfold sumsS; rw [if_pos cl]; omega
      · rw [r2 30 (by decide), q2 30 (by decide), vup_at]
    · rw [if_neg cl] at hC
      rw [if_pos hC, h28]
      obtain ⟨V2, q1, q2, q3⟩ := L1 1 V1 (fun _ => 0) ⟨p2, p3, h29⟩ S
      rw [q1, mb_some]
      refine ⟨V2, rfl, q2.up (by decide), fin V2 (q3.ext fun r => ?_), ?_⟩
      · unfold sumsS; rw [if_neg cl]; omega
      · rw [q2 30 (by decide), h30]
        unfold wholeS at hw ⊢
        rw [if_neg cl] at hw ⊢
        exact w64_id (by omega) (by omega)
  have e157 : ∀ (V1 : VV), OH V1 K c th lk → V1 28 0 = lyS K th → V1 29 0 = ansS K th → SR V1 (fun _ => 0) → V1 30 0 = w64 (chooseS (sizeS th) (lyS K th) * 100 ^ ansS K th) → ∃ V', M_odds_157 lean (sizeS th) (sizeS lk) V1 = some (0, V') ∧ MF [23, 25, 26, 27, 28, 29, 30] V1 V' ∧ (∀ r : Int, 0 ≤ r → r ≤ 3 → V' 27 r = sumsS K c th lk lean r) ∧ V' 30 0 = wholeS K th lk lean := fun V1 O1 h28 h29 S h30 => by
    have no : ¬ (0 < lean ∧ 0 < sizeS lk ∧ K 100 < sizeS th) → leanS K th lk lean ≠ true := fun h e => h (of_decide_eq_true e)
    unfold M_odds_157 M_odds_178
    by_cases c1 : lean ≤ 0
    · rw [if_pos c1]; exact e179 V1 0 O1 h28 h29 S h30 (by rw [if_neg (no (by omega))])
    · rw [if_neg c1]
      by_cases c2 : sizeS lk ≤ 0
      · rw [if_pos c2]; exact e179 V1 0 O1 h28 h29 S h30 (by rw [if_neg (no (by omega))])
      · rw [if_neg c2, M_term_eq (by decide) (by decide), mb_some, O1.1, show (100 : Int) + 0 = 100 from rfl]
        by_cases c3 : sizeS th ≤ K 100
        · rw [if_pos c3]; exact e179 V1 0 O1 h28 h29 S h30 (by rw [if_neg (no (by omega))])
        · rw [if_neg c3]
          exact e179 V1 1 O1 h28 h29 S h30 (by rw [if_pos (show leanS K th lk lean = true from decide_eq_true (by omega))])
  have e130 : ∀ (k fuel : Nat) (i : Nat) (V1 : VV), k < fuel → i + k = ansS K th → OH V1 K c th lk → V1 28 0 = lyS K th → V1 29 0 = ansS K th → SR V1 (fun _ => 0) → V1 30 0 = w64 (chooseS (sizeS th) (lyS K th) * 100 ^ i) → ∃ V', M_odds_130 fuel lean (sizeS th) (sizeS lk) i V1 = some (0, V') ∧ MF [23, 25, 26, 27, 28, 29, 30] V1 V' ∧ (∀ r : Int, 0 ≤ r → r ≤ 3 → V' 27 r = sumsS K c th lk lean r) ∧ V' 30 0 = wholeS K th lk lean := by
    intro k
    induction k with
    | zero =>
      intro fuel i V1 hf hi O1 h28 h29 S h30
      cases fuel with
      | zero => omega
      | succ fuel =>
        rw [M_odds_130, h29, if_pos (by omega)]
        rw [show i = ansS K th by omega] at h30
        exact e157 V1 O1 h28 h29 S h30
    | succ k ih =>
      intro fuel i V1 hf hi O1 h28 h29 S h30
      cases fuel with
      | zero => omega
      | succ fuel =>
        rw [M_odds_130, h29, if_neg (by omega), h30, w64_mul, nm_eq, nm_eq, w32_id (by omega) (by omega), show ((i : Nat) : Int) + 1 = ((i + 1 : Nat) : Int) by omega]
        obtain ⟨p1, p2, p3, p4⟩ := O1
        obtain ⟨V', q1, q2, q3⟩ := ih fuel (i + 1) (vup V1 30 0 (w64 (chooseS (sizeS th) (lyS K th) * 100 ^ i * 100))) (by omega) (by omega) ⟨by rw [vupN (by decide)]; exact p1, by rw [vupN (by decide)]; exact p2, by rw [vupN (by decide)]; exact p3, by rw [vupN (by decide)]; exact p4⟩ (by rw [vupN (by decide)]; exact h28) (by rw [vupN (by decide)]; exact h29) (fun r r0 r1 => by rw [vupN (by decide)]; exact S r r0 r1) (by rw [vup_at, Int.mul_assoc, ← Int.pow_succ])
        exact ⟨V', q1, q2.st (by decide), q3⟩
  have e95 : ∀ (V1 : VV), OH V1 K c th lk → V1 28 0 = lyS K th → V1 29 0 = ansS K th → ∃ V', M_odds_95 FU lean (sizeS th) (sizeS lk) 0 V1 = some (0, V') ∧ MF [23, 25, 26, 27, 28, 29, 30] V1 V' ∧ (∀ r : Int, 0 ≤ r → r ≤ 3 → V' 27 r = sumsS K c th lk lean r) ∧ V' 30 0 = wholeS K th lk lean := fun V1 O1 h28 h29 => by
    have step : ∀ (f : Nat) (r : Int) (V1 : VV), 0 ≤ r → r ≤ 3 → M_odds_95 (f + 1) lean (sizeS th) (sizeS lk) r V1 = M_odds_95 f lean (sizeS th) (sizeS lk) (r + 1) (vup V1 27 r 0) := fun f r V1 r0 r1 => by
      rw [M_odds_95, if_neg (by omega), ck_ok r0 (by omega), nm_eq, nm_eq, w32_id (by omega) (by omega)]
    obtain ⟨f, hf⟩ : ∃ f, FU = f + 1 + 1 + 1 + 1 + 1 := ⟨19995, by rw [FU_eq]⟩
    have m : MF [27] V1 (vup (vup (vup (vup V1 27 0 0) 27 1 0) 27 2 0) 27 3 0) := MF.ed (MF.ed (MF.ed (MF.ed MF.rf (by decide)) (by decide)) (by decide)) (by decide)
    have W : SR (vup (vup (vup (vup V1 27 0 0) 27 1 0) 27 2 0) 27 3 0) (fun _ => 0) := fun r r0 r1 => by
      have : r = 0 ∨ r = 1 ∨ r = 2 ∨ r = 3 := by omega
      rcases this with rfl | rfl | rfl | rfl
      · rw [vup_off (by decide), vup_off (by decide), vup_off (by decide), vup_at]; rfl
      · rw [vup_off (by decide), vup_off (by decide), vup_at]; rfl
      · rw [vup_off (by decide), vup_at]; rfl
      · rw [vup_at]; rfl
    rw [hf, step _ 0 _ (by decide) (by decide), show (0 : Int) + 1 = 1 from rfl, step _ 1 _ (by decide) (by decide), show (1 : Int) + 1 = 2 from rfl, step _ 2 _ (by decide) (by decide), show (2 : Int) + 1 = 3 from rfl, step _ 3 _ (by decide) (by decide), M_odds_95, if_pos (by decide)]
    generalize vup (vup (vup (vup V1 27 0 0) 27 1 0) 27 2 0) 27 3 0 = V2 at *
    unfold M_odds_115
    obtain ⟨p1, p2, p3, p4⟩ := O1
    have e28 : V2 28 0 = lyS K th := by rw [m 28 (by decide)]; exact h28
    rw [e28, M_choose_eq hs, mb_some, nm_eq]
    have hch := chooseS_2 (n := sizeS th) (k := lyS K th) hs
    have hch0 := chooseS_nn (sizeS th) (lyS K th)
    obtain ⟨V', q1, q2, q3⟩ := e130 (ansS K th) FU 0 (vup V2 30 0 (chooseS (sizeS th) (lyS K th))) (by rw [FU_eq]; omega) (by omega) ⟨by rw [vupN (by decide), m 3 (by decide)]; exact p1, by rw [vupN (by decide), m 22 (by decide)]; exact p2, by rw [vupN (by decide), m 23 (by decide)]; exact p3, by rw [vupN (by decide), m 24 (by decide)]; exact p4⟩ (by rw [vupN (by decide)]; exact e28) (by rw [vupN (by decide), m 29 (by decide)]; exact h29) (fun r r0 r1 => by rw [vupN (by decide)]; exact W r r0 r1) (by rw [vup_at, show (100 : Int) ^ 0 = 1 from rfl, Int.mul_one, w64_id (by omega) (by omega)])
    exact ⟨V', q1, (m.up (T := [23, 25, 26, 27, 28, 29, 30]) (by decide)).tr (q2.st (by decide)) (fun _ h => h), q3⟩
  -- the front
  have e89 : ∀ (V1 : VV) (x : Int), OH V1 K c th lk → V1 28 0 = lyS K th → x = ansS K th → ∃ V', M_odds_89 x lean (sizeS th) (sizeS lk) V1 = some (0, V') ∧ MF [23, 25, 26, 27, 28, 29, 30] V1 V' ∧ (∀ r : Int, 0 ≤ r → r ≤ 3 → V' 27 r = sumsS K c th lk lean r) ∧ V' 30 0 = wholeS K th lk lean := fun V1 x O1 h28 hx => by
    obtain ⟨p1, p2, p3, p4⟩ := O1
    unfold M_odds_89
    rw [nm_eq]
    obtain ⟨V', q1, q2, q3⟩ := e95 (vup V1 29 0 x) ⟨by rw [vupN (by decide)]; exact p1, by rw [vupN (by decide)]; exact p2, by rw [vupN (by decide)]; exact p3, by rw [vupN (by decide)]; exact p4⟩ (by rw [vupN (by decide)]; exact h28) (by rw [vup_at]; exact hx)
    exact ⟨V', q1, q2.st (by decide), q3⟩
  have e61 : ∀ (x : Int), x = lyS K th → ∃ V', M_odds_61 x lean (sizeS th) (sizeS lk) V = some (0, V') ∧ MF [23, 25, 26, 27, 28, 29, 30] V V' ∧ (∀ r : Int, 0 ≤ r → r ≤ 3 → V' 27 r = sumsS K c th lk lean r) ∧ V' 30 0 = wholeS K th lk lean := fun x hx => by
    unfold M_odds_61
    have O1 : OH (vup V 28 0 x) K c th lk := ⟨by rw [vupN (by decide)]; exact o1, by rw [vupN (by decide)]; exact o2, by rw [vupN (by decide)]; exact o3, by rw [vupN (by decide)]; exact o4⟩
    have ea : (ansS K th : Int) = if K 101 < lyS K th then K 101 else lyS K th := by
      unfold ansS
      split <;> omega
    rw [nm_eq, M_term_eq (by decide) (by decide), mb_some, M_term_eq (by decide) (by decide), mb_some, vup_at, O1.1, show (100 : Int) + 1 = 101 from rfl]
    by_cases c1 : x ≤ K 101
    · rw [if_pos c1]
      obtain ⟨V', q1, q2, q3⟩ := e89 (vup V 28 0 x) x O1 (by rw [vup_at]; exact hx) (by rw [ea, if_neg (by omega)]; exact hx)
      exact ⟨V', q1, q2.st (by decide), q3⟩
    · rw [if_neg c1]
      obtain ⟨V', q1, q2, q3⟩ := e89 (vup V 28 0 x) (K 101) O1 (by rw [vup_at]; exact hx) (by rw [ea, if_pos (by omega)])
      exact ⟨V', q1, q2.st (by decide), q3⟩
  unfold M_odds
  rw [e23, e24, nm_eq, nm_eq, M_term_eq (by decide) (by decide), mb_some, M_term_eq (by decide) (by decide), mb_some, o1, show (100 : Int) + 0 = 100 from rfl]
  by_cases c1 : sizeS th ≤ K 100
  · rw [if_pos c1]; exact e61 _ (by unfold lyS; rw [if_neg (by omega)])
  · rw [if_neg c1]; exact e61 _ (by unfold lyS; rw [if_pos (by omega)])
end
theorem Sg_add (f g : Int → Int) (n : Nat) (a : Int) : Sg (fun i => f i + g i) n a = Sg f n a + Sg g n a := by
  rw [Sg_Sn, Sg_Sn, Sg_Sn, ← Sn_add]
theorem Sg_mono {f g : Int → Int} {n : Nat} {a : Int} (h : ∀ i : Int, a ≤ i → i < a + n → f i ≤ g i) : Sg f n a ≤ Sg g n a := by
  rw [Sg_Sn, Sg_Sn]
  exact Sn_le fun i hi => h _ (by omega) (by omega)
theorem chS_pc (cl : CLS) : pc3 (chS cl) := fun l _ _ => clampS_in (lo := 0) (hi := 100) (by decide)
/-- a question as if at a level -/
def AS (K : Int → Int) (as_ l : Int) : Prop := as_ = -1 ∨ ((0 ≤ as_ ∧ as_ < K 390) ∧ 0 ≤ l ∧ l ≤ 2)
theorem asS_in {K : Int → Int} (KK : KI K) {as_ l q : Int} (h : AS K as_ l) (q0 : 0 ≤ q) (q1 : q < K 390) : 0 ≤ asS K as_ l q ∧ asS K as_ l q ≤ 2 := by
  have k := (KK.2.1 q q0 q1).2.2.1
  unfold asS
  by_cases e : q = as_
  · rw [if_pos e]; rcases h with h | h <;> omega
  · rw [if_neg e]; exact k
theorem bwl_th {K : Int → Int} (KK : KI K) {as_ l lean : Int} (h : AS K as_ l) (hl : 0 ≤ lean ∧ lean ≤ 100) : BWL K (thS K as_ l) (lkS K as_ l) lean := by
  have hn := KK.1.1
  have k := KK.2.2.1
  have h1 : ∀ i : Int, 0 ≤ thS K as_ l i := fun i => (Sg_le (B := 1) fun q _ _ => by split <;> simp).1
  have kq : ∀ q : Int, 0 ≤ q → q < 0 + ((K 390).toNat : Int) → 0 ≤ K (5 * q + 3) ∧ K (5 * q + 3) ≤ 1 := fun q a b => (KK.2.1 q a (by omega)).2.2.2.1
  have h2 : ∀ i : Int, 0 ≤ lkS K as_ l i := fun i => (Sg_le (B := 1) fun q a b => by
    have := kq q a b
    split
    · exact this
    · simp).1
  refine ⟨⟨h1 0, h1 1, h1 2⟩, ⟨h2 0, h2 1, h2 2⟩, fun i _ _ => ?_, ?_, k.1, k.2.1, k.2.2.1, hl⟩
  · refine Sg_mono fun q a b => ?_
    have := kq q a b
    split
    · omega
    · exact Int.le_refl 0
  · have e : sizeS (thS K as_ l) = Sg (fun q => ((if K (5 * q + 4) = 0 ∧ asS K as_ l q = 0 then 1 else 0) + (if K (5 * q + 4) = 0 ∧ asS K as_ l q = 1 then 1 else 0)) + (if K (5 * q + 4) = 0 ∧ asS K as_ l q = 2 then 1 else 0)) (K 390).toNat 0 := by
      rw [Sg_add, Sg_add]; rfl
    rw [e]
    have := (Sg_le (B := 1) (n := (K 390).toNat) (a := 0) (f := fun q => ((if K (5 * q + 4) = 0 ∧ asS K as_ l q = 0 then (1 : Int) else 0) + (if K (5 * q + 4) = 0 ∧ asS K as_ l q = 1 then 1 else 0)) + (if K (5 * q + 4) = 0 ∧ asS K as_ l q = 2 then 1 else 0)) fun q _ _ => by
      show 0 ≤ ((if _ then (1 : Int) else 0) + (if _ then 1 else 0)) + (if _ then 1 else 0) ∧ _ ≤ (1 : Int)
      split <;> split <;> split <;> omega).2
    omega
section
variable {V : VV} {P : Nat → CLS}
theorem M_laysChances_eq (KK : KI (V 3)) (PP : PR (V 3) P) : ∃ V', M_laysChances V = some (0, V') ∧ MF [18, 19, 20, 21, 22] V V' ∧ ∀ l : Int, 0 ≤ l → l ≤ 2 → V' 22 l = chS (curP (V 3) P) l := by
  have step : ∀ (f : Nat) (l : Int) (V1 : VV), 0 ≤ l → l ≤ 2 → MF [18, 19, 20, 21, 22] V V1 → (∀ i : Int, 0 ≤ i → i < l → V1 22 i = chS (curP (V 3) P) i) → ∃ V2, M_laysChances_2 (f + 1) l V1 = M_laysChances_2 f (l + 1) V2 ∧ MF [18, 19, 20, 21, 22] V V2 ∧ (∀ i : Int, 0 ≤ i → i < l + 1 → V2 22 i = chS (curP (V 3) P) i) := fun f l V1 l0 l1 m h => by
    have e3 : V1 3 = V 3 := m 3 (by decide)
    obtain ⟨V2, q1, q2⟩ := M_chanceOf_eq (V := V1) (P := P) (by rw [e3]; exact KK) (by rw [e3]; exact PP) l0 l1
    rw [e3] at q1
    rw [M_laysChances_2, if_neg (by omega), q1, mb_some, ck_ok l0 (by omega), nm_eq, nm_eq, w32_id (by omega) (by omega)]
    refine ⟨_, rfl, MF.ed (m.tr (T := [18, 19, 20, 21, 22]) (q2.up (by decide)) (fun _ h => h)) (by decide), fun i i0 i1 => ?_⟩
    by_cases e : i = l
    · rw [e, vup_at]
    · rw [vup_off e, q2 22 (by decide)]; exact h i i0 (by omega)
  obtain ⟨f, hf⟩ : ∃ f, FU = f + 1 + 1 + 1 + 1 := ⟨19996, by rw [FU_eq]⟩
  obtain ⟨V1, e1, m1, h1⟩ := step (f + 1 + 1 + 1) 0 V (by decide) (by decide) MF.rf (fun i a b => by omega)
  obtain ⟨V2, e2, m2, h2⟩ := step (f + 1 + 1) 1 V1 (by decide) (by decide) m1 h1
  obtain ⟨V3, e3, m3, h3⟩ := step (f + 1) 2 V2 (by decide) (by decide) m2 h2
  refine ⟨V3, ?_, m3, fun l l0 l1 => h3 l l0 (by omega)⟩
  unfold M_laysChances
  rw [hf, e1, show (0 : Int) + 1 = 1 from rfl, e2, show (1 : Int) + 1 = 2 from rfl, e3, M_laysChances_2, if_pos (by decide)]
def KF : List Nat := [18, 19, 20, 21, 22, 23, 24, 25, 26, 27, 28, 29, 30]
def OD (V : VV) (K c th lk : Int → Int) (lean : Int) : Prop := (∀ r : Int, 0 ≤ r → r ≤ 3 → V 27 r = sumsS K c th lk lean r) ∧ V 30 0 = wholeS K th lk lean
theorem M_known_eq (KK : KI (V 3)) (PP : PR (V 3) P) {as_ l : Int} (h : AS (V 3) as_ l) : ∃ V', M_known as_ l V = some (0, V') ∧ MF KF V V' ∧ OD V' (V 3) (chS (curP (V 3) P)) (thS (V 3) as_ l) (lkS (V 3) as_ l) (V 3 103) := by
  have hn := KK.1.1
  have k := KK.2.2.1
  obtain ⟨V0, c1, c2, c3⟩ := M_laysChances_eq KK PP
  -- the loop over the questions
  have loop : ∀ (n fuel : Nat) (q : Int) (V1 : VV) (t u : Int → Int), n < fuel → 0 ≤ q → q + n = V 3 390 → MF [18, 19, 20, 21, 22, 23, 24] V V1 → (∀ i, 0 ≤ i → i ≤ 2 → V1 22 i = chS (curP (V 3) P) i) → (∀ i, 0 ≤ i → i ≤ 2 → V1 23 i = t i ∧ V1 24 i = u i ∧ 0 ≤ t i ∧ t i ≤ q ∧ 0 ≤ u i ∧ u i ≤ q) → ∃ V2, M_known_33 fuel as_ l q V1 = M_known_102 V2 ∧ MF [18, 19, 20, 21, 22, 23, 24] V V2 ∧ (∀ i, 0 ≤ i → i ≤ 2 → V2 22 i = chS (curP (V 3) P) i) ∧ (∀ i, 0 ≤ i → i ≤ 2 → V2 23 i = t i + Sg (fun q => if V 3 (5 * q + 4) = 0 ∧ asS (V 3) as_ l q = i then 1 else 0) n q ∧ V2 24 i = u i + Sg (fun q => if V 3 (5 * q + 4) = 0 ∧ asS (V 3) as_ l q = i then V 3 (5 * q + 3) else 0) n q) := by
    intro n
    induction n with
    | zero =>
      intro fuel q V1 t u hf q0 q1 m h22 h23
      cases fuel with
      | zero => omega
      | succ fuel =>
        have e3 : V1 3 = V 3 := m 3 (by decide)
        rw [M_known_33, M_questions_eq, mb_some, e3, if_pos (by omega)]
        exact ⟨V1, rfl, m, h22, fun i i0 i1 => ⟨by show _ = t i + 0; rw [(h23 i i0 i1).1]; omega, by show _ = u i + 0; rw [(h23 i i0 i1).2.1]; omega⟩⟩
    | succ n ih =>
      intro fuel q V1 t u hf q0 q1 m h22 h23
      cases fuel with
      | zero => omega
      | succ fuel =>
        have e3 : V1 3 = V 3 := m 3 (by decide)
        have kq := KK.2.1 q q0 (by omega)
        have has := asS_in KK h q0 (by omega)
        rw [M_known_33, M_questions_eq, mb_some, e3, if_neg (by omega), M_isBowl_eq q0 (by omega), mb_some, e3]
        by_cases c4 : V 3 (5 * q + 4) = 0
        · rw [if_pos c4, if_neg (by decide)]
          have e67 : ∃ V2, M_known_67 (M_known_33 fuel) (asS (V 3) as_ l q) as_ l q V1 = M_known_102 V2 ∧ MF [18, 19, 20, 21, 22, 23, 24] V V2 ∧ (∀ i, 0 ≤ i → i ≤ 2 → V2 22 i = chS (curP (V 3) P) i) ∧ (∀ i, 0 ≤ i → i ≤ 2 → V2 23 i = t i + Sg (fun q => if V 3 (5 * q + 4) = 0 ∧ asS (V 3) as_ l q = i then 1 else 0) (n + 1) q ∧ V2 24 i = u i + Sg (fun q => if V 3 (5 * q + 4) = 0 ∧ asS (V 3) as_ l q = i then V 3 (5 * q + 3) else 0) (n + 1) q) := by
            obtain ⟨a1, a2, a3, a4, a5, a6⟩ := h23 _ has.1 has.2
            unfold M_known_67 M_known_96
            rw [ck_ok has.1 (by omega), ck_ok has.1 (by omega), nm_eq, ck_ok has.1 (by omega), M_factOf_eq q0 (by omega) (by decide) (by decide), mb_some, ck_ok has.1 (by omega), nm_eq, nm_eq, vupN (k := 23) (k' := 24) (by decide), vupN (k := 23) (k' := 3) (by decide), e3, a1, a2, w32_id (x := t (asS (V 3) as_ l q) + 1) (by omega) (by omega), w32_id (x := u (asS (V 3) as_ l q) + V 3 (5 * q + 3)) (by omega) (by omega), w32_id (x := q + 1) (by omega) (by omega)]
            obtain ⟨V2, r1, r2, r3, r4⟩ := ih fuel (q + 1) (vup (vup V1 23 (asS (V 3) as_ l q) (t (asS (V 3) as_ l q) + 1)) 24 (asS (V 3) as_ l q) (u (asS (V 3) as_ l q) + V 3 (5 * q + 3))) (fun i => if i = asS (V 3) as_ l q then t i + 1 else t i) (fun i => if i = asS (V 3) as_ l q then u i + V 3 (5 * q + 3) else u i) (by omega) (by omega) (by omega) (MF.ed (MF.ed m (by decide)) (by decide)) (fun i i0 i1 => by rw [vupN (by decide), vupN (by decide)]; exact h22 i i0 i1) (fun i i0 i1 => by
              obtain ⟨b1, b2, b3, b4, b5, b6⟩ := h23 i i0 i1
              show _ = (if i = asS (V 3) as_ l q then t i + 1 else t i) ∧ _ = (if i = asS (V 3) as_ l q then u i + V 3 (5 * q + 3) else u i) ∧ 0 ≤ (if i = asS (V 3) as_ l q then t i + 1 else t i) ∧ (if i = asS (V 3) as_ l q then t i + 1 else t i) ≤ q + 1 ∧ 0 ≤ (if i = asS (V 3) as_ l q then u i + V 3 (5 * q + 3) else u i) ∧ (if i = asS (V 3) as_ l q then u i + V 3 (5 * q + 3) else u i) ≤ q + 1
              rw [vupN (k := 24) (k' := 23) (by decide)]
              by_cases e : i = asS (V 3) as_ l q
              · rw [if_pos e, if_pos e, e, vup_at, vup_at, ← e]; omega
              · rw [if_neg e, if_neg e, vup_off e, vup_off e, vupN (by decide)]; omega)
            refine ⟨V2, r1, r2, r3, fun i i0 i1 => ?_⟩
            obtain ⟨s1, s2⟩ := r4 i i0 i1
            rw [s1, s2]
            constructor
            · show (if i = asS (V 3) as_ l q then t i + 1 else t i) + Sg _ n (q + 1) = t i + ((if V 3 (5 * q + 4) = 0 ∧ asS (V 3) as_ l q = i then 1 else 0) + Sg _ n (q + 1))
              by_cases e : i = asS (V 3) as_ l q
              · rw [if_pos e, if_pos ⟨c4, e.symm⟩]; omega
              · rw [if_neg e, if_neg (fun w => e w.2.symm)]; omega
            · show (if i = asS (V 3) as_ l q then u i + V 3 (5 * q + 3) else u i) + Sg _ n (q + 1) = u i + ((if V 3 (5 * q + 4) = 0 ∧ asS (V 3) as_ l q = i then V 3 (5 * q + 3) else 0) + Sg _ n (q + 1))
              by_cases e : i = asS (V 3) as_ l q
              · rw [if_pos e, if_pos ⟨c4, e.symm⟩]; omega
              · rw [if_neg e, if_neg (fun w => e w.2.symm)]; omega
          by_cases c5 : q = as_
          · have ea : asS (V 3) as_ l q = l := by unfold asS; rw [if_pos c5]
            rw [if_pos c5]
            rw [ea] at e67
            exact e67
          · have ea : asS (V 3) as_ l q = V 3 (5 * q + 2) := by unfold asS; rw [if_neg c5]
            rw [if_neg c5, M_factOf_eq q0 (by omega) (by decide) (by decide), mb_some, e3]
            rw [ea] at e67
            exact e67
        · rw [if_neg c4, if_pos rfl]
          unfold M_known_96
          rw [nm_eq, w32_id (x := q + 1) (by omega) (by omega)]
          obtain ⟨V2, r1, r2, r3, r4⟩ := ih fuel (q + 1) V1 t u (by omega) (by omega) (by omega) m h22 (fun i i0 i1 => by have := h23 i i0 i1; omega)
          refine ⟨V2, r1, r2, r3, fun i i0 i1 => ?_⟩
          obtain ⟨s1, s2⟩ := r4 i i0 i1
          rw [s1, s2]
          constructor
          · show t i + Sg _ n (q + 1) = t i + ((if V 3 (5 * q + 4) = 0 ∧ asS (V 3) as_ l q = i then 1 else 0) + Sg _ n (q + 1))
            rw [if_neg (fun w => c4 w.1)]; omega
          · show u i + Sg _ n (q + 1) = u i + ((if V 3 (5 * q + 4) = 0 ∧ asS (V 3) as_ l q = i then V 3 (5 * q + 3) else 0) + Sg _ n (q + 1))
            rw [if_neg (fun w => c4 w.1)]; omega
  have step : ∀ (f : Nat) (i : Int) (V1 : VV), 0 ≤ i → i ≤ 2 → M_known_6 (f + 1) as_ l i V1 = M_known_6 f as_ l (i + 1) (vup (vup V1 23 i 0) 24 i 0) := fun f i V1 i0 i1 => by
    rw [M_known_6, if_neg (by omega), ck_ok i0 (by omega), nm_eq, ck_ok i0 (by omega), nm_eq, nm_eq, w32_id (by omega) (by omega)]
  obtain ⟨f, hf⟩ : ∃ f, FU = f + 1 + 1 + 1 + 1 := ⟨19996, by rw [FU_eq]⟩
  have e0 : M_known as_ l V = M_known_31 as_ l (vup (vup (vup (vup (vup (vup V0 23 0 0) 24 0 0) 23 1 0) 24 1 0) 23 2 0) 24 2 0) := by
    unfold M_known
    rw [c1, mb_some, hf, step _ 0 _ (by decide) (by decide), show (0 : Int) + 1 = 1 from rfl, step _ 1 _ (by decide) (by decide), show (1 : Int) + 1 = 2 from rfl, step _ 2 _ (by decide) (by decide), M_known_6, if_pos (by decide)]
  have m0 : MF [18, 19, 20, 21, 22, 23, 24] V (vup (vup (vup (vup (vup (vup V0 23 0 0) 24 0 0) 23 1 0) 24 1 0) 23 2 0) 24 2 0) := MF.ed (MF.ed (MF.ed (MF.ed (MF.ed (MF.ed (c2.up (by decide)) (by decide)) (by decide)) (by decide)) (by decide)) (by decide)) (by decide)
  have z23 : ∀ i : Int, 0 ≤ i → i ≤ 2 → vup (vup (vup (vup (vup (vup V0 23 0 0) 24 0 0) 23 1 0) 24 1 0) 23 2 0) 24 2 0 23 i = 0 := fun i i0 i1 => by
    rw [vupN (by decide)]
    have : i = 0 ∨ i = 1 ∨ i = 2 := by omega
    rcases this with rfl | rfl | rfl
    · rw [vup_off (by decide), vupN (by decide), vup_off (by decide), vupN (by decide), vup_at]
    · rw [vup_off (by decide), vupN (by decide), vup_at]
    · rw [vup_at]
  have z24 : ∀ i : Int, 0 ≤ i → i ≤ 2 → vup (vup (vup (vup (vup (vup V0 23 0 0) 24 0 0) 23 1 0) 24 1 0) 23 2 0) 24 2 0 24 i = 0 := fun i i0 i1 => by
    have : i = 0 ∨ i = 1 ∨ i = 2 := by omega
    rcases this with rfl | rfl | rfl
    · rw [vup_off (by decide), vupN (by decide), vup_off (by decide), vupN (by decide), vup_at]
    · rw [vup_off (by decide), vupN (by decide), vup_at]
    · rw [vup_at]
  have z22 : ∀ i : Int, 0 ≤ i → i ≤ 2 → vup (vup (vup (vup (vup (vup V0 23 0 0) 24 0 0) 23 1 0) 24 1 0) 23 2 0) 24 2 0 22 i = chS (curP (V 3) P) i := fun i i0 i1 => by
    rw [vupN (by decide), vupN (by decide), vupN (by decide), vupN (by decide), vupN (by decide), vupN (by decide)]; exact c3 i i0 i1
  generalize vup (vup (vup (vup (vup (vup V0 23 0 0) 24 0 0) 23 1 0) 24 1 0) 23 2 0) 24 2 0 = V1 at *
  obtain ⟨V2, r1, r2, r3, r4⟩ := loop (V 3 390).toNat FU 0 V1 (fun _ => 0) (fun _ => 0) (by rw [FU_eq]; omega) (by decide) (by omega) m0 z22 (fun i i0 i1 => ⟨z23 i i0 i1, z24 i i0 i1, Int.le_refl 0, Int.le_refl 0, Int.le_refl 0, Int.le_refl 0⟩)
  have B := bwl_th KK h (lean := V 3 103) k.2.2.2.1
  have e3 : V2 3 = V 3 := r2 3 (by decide)
  obtain ⟨V', s1, s2, s3, s4⟩ := M_odds_eq (chS_pc (curP (V 3) P)) B (V := V2) ⟨e3, r3, fun i i0 i1 => by rw [(r4 i i0 i1).1, Int.zero_add]; rfl, fun i i0 i1 => by rw [(r4 i i0 i1).2, Int.zero_add]; rfl⟩
  refine ⟨V', ?_, (r2.up (T := KF) (by decide)).tr (s2.up (by decide)) (fun _ h => h), s3, s4⟩
  rw [e0]
  unfold M_known_31
  rw [r1]
  unfold M_known_102
  rw [M_term_eq (by decide) (by decide), mb_some, e3, show (100 : Int) + 3 = 103 from rfl, s1, mb_some]
end
