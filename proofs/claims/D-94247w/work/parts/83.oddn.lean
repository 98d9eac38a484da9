/-! plain law: the odds on the model's side, answers and lots -/
set_option maxRecDepth 100000
set_option maxHeartbeats 400000
theorem b8 : ∀ y : Nat, y < 8 → ∀ b : Nat, b < 3 → (0 ≤ ior y (ishl 1 b) ∧ ior y (ishl 1 b) < 8) ∧ ∀ l : Nat, l < 3 → tb (ior y (ishl 1 b)) l = if l = b then 1 else tb y l := by decide +kernel
theorem b8i {y b : Int} (y0 : 0 ≤ y) (y1 : y < 8) (b0 : 0 ≤ b) (b1 : b ≤ 2) : (0 ≤ ior y (ishl 1 b) ∧ ior y (ishl 1 b) < 8) ∧ ∀ l : Int, 0 ≤ l → l ≤ 2 → tb (ior y (ishl 1 b)) l = if l = b then 1 else tb y l := by
  obtain ⟨y', rfl⟩ := Int.eq_ofNat_of_zero_le y0
  obtain ⟨b', rfl⟩ := Int.eq_ofNat_of_zero_le b0
  obtain ⟨h1, h2⟩ := b8 y' (by omega) b' (by omega)
  refine ⟨h1, fun l l0 l1 => ?_⟩
  obtain ⟨l', rfl⟩ := Int.eq_ofNat_of_zero_le l0
  rw [h2 l' (by omega)]
  by_cases e : l' = b'
  · rw [if_pos e, if_pos (by omega)]
  · rw [if_neg e, if_neg (by omega)]
/-- what is not done yet -/
def mkS (D : Int) (n : Int → Int) : Int → Int := fun l => if tb D l = 1 then 0 else n l
def WR (V : VV) (w : Int → Int) : Prop := ∀ r : Int, 0 ≤ r → r ≤ 3 → V 26 r = w64 (w r)
def AN (V : VV) (c n : Int → Int) : Prop := (∀ l : Int, 0 ≤ l → l ≤ 2 → V 22 l = c l) ∧ (∀ l : Int, 0 ≤ l → l ≤ 2 → V 25 l = n l)
theorem AN.mf {V V' : VV} {c n : Int → Int} (h : AN V c n) (m : MF [26] V V') : AN V' c n := by
  unfold AN; rw [m 22 (by decide), m 25 (by decide)]; exact h
section
variable {c n : Int → Int}
theorem ans_116 {K35 : Int → Int → VV → Option (Int × VV)} {K98 : Int → Int → Int → Int → VV → Option (Int × VV)} {V : VV} {w : Int → Int} {x1 x2 b x4 : Int} (A : AN V c n) (hc : pc3 c) (b0 : 0 ≤ b) (b1 : b ≤ 2) (W : WR V w) : ∃ V1, M_answers_116 K35 K98 FU x1 x2 b x4 3 V = M_answers_179 K35 K98 x1 x2 b x4 V1 ∧ MF [26] V V1 ∧ WR V1 (stpS (c b) w) := by
  have hcb := hc b b0 b1
  have step : ∀ (f : Nat) (r : Int) (V1 : VV), MF [26] V V1 → 0 ≤ r → r ≤ 3 → (∀ i, 0 ≤ i → i ≤ r → V1 26 i = w64 (w i)) → (∀ i, r < i → i ≤ 3 → V1 26 i = w64 (stpS (c b) w i)) → ∃ V2, M_answers_116 K35 K98 (f + 1) x1 x2 b x4 r V1 = M_answers_116 K35 K98 f x1 x2 b x4 (r - 1) V2 ∧ MF [26] V V2 ∧ (∀ i, 0 ≤ i → i ≤ r - 1 → V2 26 i = w64 (w i)) ∧ (∀ i, r - 1 < i → i ≤ 3 → V2 26 i = w64 (stpS (c b) w i)) := fun f r V1 m r0 r1 hlo hhi => by
    have e22 : V1 22 b = c b := by rw [m 22 (by decide)]; exact A.1 b b0 b1
    have fin : ∀ x : Int, x = w64 (stpS (c b) w r) → M_answers_116 K35 K98 f x1 x2 b x4 (w32 (r + -1)) (vup V1 26 r x) = M_answers_116 K35 K98 f x1 x2 b x4 (r - 1) (vup V1 26 r (w64 (stpS (c b) w r))) := fun x hx => by rw [hx, w32_id (by omega) (by omega)]; rfl
    refine ⟨vup V1 26 r (w64 (stpS (c b) w r)), ?_, MF.ed m (by decide), fun i i0 i1 => by rw [vup_off (by omega)]; exact hlo i i0 (by omega), fun i i0 i1 => ?_⟩
    · rw [M_answers_116, if_neg (by omega), ck_ok r0 (by omega), ck_ok b0 (by omega), e22, w32_id (x := 100 - c b) (by omega) (by omega), hlo r r0 (Int.le_refl r)]
      by_cases c0 : r ≤ 0
      · rw [if_pos c0]
        unfold M_answers_171
        rw [ck_ok r0 (by omega), nm_eq, nm_eq]
        refine fin _ ?_
        rw [w64_mul, w64_addl]
        unfold stpS
        rw [if_neg (by omega)]
      · rw [if_neg c0, w32_id (by omega) (by omega), ck_ok (by omega) (by omega), ck_ok b0 (by omega), hlo (r - 1) (by omega) (by omega)]
        unfold M_answers_171
        rw [ck_ok r0 (by omega), nm_eq, nm_eq]
        refine fin _ ?_
        rw [w64_mul, w64_mul, w64_add]
        unfold stpS
        rw [if_pos (by omega)]
    · by_cases e : i = r
      · rw [e, vup_at]
      · rw [vup_off e]; exact hhi i (by omega) i1
  obtain ⟨f, hf⟩ : ∃ f, FU = f + 1 + 1 + 1 + 1 + 1 := ⟨19995, by rw [FU_eq]⟩
  obtain ⟨V1, e1, m1, l1, g1⟩ := step (f + 1 + 1 + 1 + 1) 3 V MF.rf (by decide) (by decide) (fun i a b => W i a b) (fun i a b => by omega)
  obtain ⟨V2, e2, m2, l2, g2⟩ := step (f + 1 + 1 + 1) 2 V1 m1 (by decide) (by decide) l1 g1
  obtain ⟨V3, e3, m3, l3, g3⟩ := step (f + 1 + 1) 1 V2 m2 (by decide) (by decide) l2 g2
  obtain ⟨V4, e4, m4, l4, g4⟩ := step (f + 1) 0 V3 m3 (by decide) (by decide) l3 g3
  refine ⟨V4, ?_, m4, fun r r0 r1 => g4 r (by omega) r1⟩
  rw [hf, e1, show (3 : Int) - 1 = 2 from rfl, e2, show (2 : Int) - 1 = 1 from rfl, e3, show (1 : Int) - 1 = 0 from rfl, e4, M_answers_116, if_pos (by decide)]
theorem ans_44 {K35 : Int → Int → VV → Option (Int × VV)} {V : VV} {left D : Int} (A : AN V c n) (d0 : 0 ≤ D) (d1 : D < 8) : M_answers_44 K35 FU left D (-1) 0 V = M_answers_89 K35 left D (grS c (mkS D (fun _ => 1))) V := by
  have step : ∀ (f : Nat) (best l : Int), 0 ≤ l → l ≤ 2 → (best = -1 ∨ (0 ≤ best ∧ best ≤ 2)) → M_answers_44 K35 (f + 1) left D best l V = M_answers_44 K35 f left D (if 0 < mkS D (fun _ => 1) l ∧ (best = -1 ∨ c best < c l) then l else best) (l + 1) V := fun f best l l0 l1 hb => by
    have e0 : 0 < mkS D (fun _ => 1) l ↔ tb D l = 0 := by
      unfold mkS
      rcases tb_01 D l with e | e <;> rw [e] <;> simp
    rw [M_answers_44, if_neg (by omega), bit_eq d0 (by omega) l0 (by omega)]
    unfold M_answers_80 M_answers_83
    rw [nm_eq, nm_eq, w32_id (by omega) (by omega)]
    by_cases c1 : tb D l = 0
    · rw [if_pos c1]
      by_cases c2 : best = -1
      · rw [if_pos c2, if_pos ⟨e0.2 c1, Or.inl c2⟩]
      · rw [if_neg c2, ck_ok l0 (by omega), ck_ok (by omega) (by omega), A.1 l l0 l1, A.1 best (by omega) (by omega)]
        by_cases c3 : c l ≤ c best
        · rw [if_pos c3, if_neg (fun q => by rcases q.2 with q | q; exact c2 q; omega)]
        · rw [if_neg c3, if_pos ⟨e0.2 c1, Or.inr (by omega)⟩]
    · rw [if_neg c1, if_neg (fun q => c1 (e0.1 q.1))]
  obtain ⟨f, hf⟩ : ∃ f, FU = f + 1 + 1 + 1 + 1 := ⟨19996, by rw [FU_eq]⟩
  generalize hm : mkS D (fun _ => 1) = m at *
  have r0 : (if 0 < m 0 ∧ ((-1 : Int) = -1 ∨ c (-1) < c 0) then (0 : Int) else -1) = (if 0 < m 0 then 0 else -1) := by
    by_cases q : 0 < m 0
    · rw [if_pos ⟨q, Or.inl rfl⟩, if_pos q]
    · rw [if_neg (fun e => q e.1), if_neg q]
  generalize h0 : (if 0 < m 0 then (0 : Int) else -1) = b0 at *
  have hb0 : b0 = -1 ∨ (0 ≤ b0 ∧ b0 ≤ 2) := by rw [← h0]; split <;> simp
  generalize h1 : (if 0 < m 1 ∧ (b0 = -1 ∨ c b0 < c 1) then (1 : Int) else b0) = b1 at *
  have hb1 : b1 = -1 ∨ (0 ≤ b1 ∧ b1 ≤ 2) := by rw [← h1]; split; exact Or.inr ⟨by decide, by decide⟩; exact hb0
  have hg : grS c m = (if 0 < m 2 ∧ (b1 = -1 ∨ c b1 < c 2) then 2 else b1) := by rw [← h1, ← h0]; rfl
  rw [hf, step _ (-1) 0 (by decide) (by decide) (Or.inl rfl), r0, show (0 : Int) + 1 = 1 from rfl, step _ b0 1 (by decide) (by decide) hb0, h1, show (1 : Int) + 1 = 2 from rfl, step _ b1 2 (by decide) (by decide) hb1, ← hg, M_answers_44, if_pos (by decide)]
theorem ans_35 (hc : pc3 c) (hn : nn3 n) (hn2 : ∀ l, 0 ≤ l → l ≤ 2 → n l ≤ 1000) : ∀ (u fuel : Nat) (D left : Int) (w : Int → Int) (V : VV), u < fuel → 0 ≤ D → D < 8 → (3 : Int) = u + (tb D 0 + tb D 1 + tb D 2) → 0 ≤ left → left ≤ sizeS (mkS D n) → AN V c n → WR V w → ∃ V', M_answers_35 fuel left D V = some (0, V') ∧ MF [26] V V' ∧ WR V' (pwS c left.toNat (mkS D n) w) := by
  intro u
  induction u with
  | zero =>
    intro fuel D left w V hf d0 d1 hu l0 l1 A W
    cases fuel with
    | zero => omega
    | succ fuel =>
      have t0 := tb_01 D 0; have t1 := tb_01 D 1; have t2 := tb_01 D 2
      have z : sizeS (mkS D n) = 0 := by
        unfold sizeS mkS
        have u0 : tb D 0 = 1 := by omega
        have u1 : tb D 1 = 1 := by omega
        have u2 : tb D 2 = 1 := by omega
        rw [u0, u1, u2]; rfl
      have el : left = 0 := by omega
      subst el
      rw [M_answers_35, if_pos (by decide)]
      exact ⟨V, rfl, MF.rf, W⟩
  | succ u ih =>
    intro fuel D left w V hf d0 d1 hu l0 l1 A W
    cases fuel with
    | zero => omega
    | succ fuel =>
      by_cases cl : left ≤ 0
      · have el : left = 0 := by omega
        subst el
        rw [M_answers_35, if_pos (by decide)]
        exact ⟨V, rfl, MF.rf, W⟩
      · rw [M_answers_35, if_neg cl, ans_44 A d0 d1]
        have t0 := tb_01 D 0; have t1 := tb_01 D 1; have t2 := tb_01 D 2
        have hg := GR.of c (mkS D (fun _ => 1))
        generalize hb : grS c (mkS D (fun _ => 1)) = b at hg
        have hbb : (0 ≤ b ∧ b ≤ 2) ∧ 0 < mkS D (fun _ => 1) b := by
          rcases hg with ⟨g1, g2⟩ | ⟨g1, g2, -⟩
          · exfalso
            have q0 := g2 0 (by decide) (by decide)
            have q1 := g2 1 (by decide) (by decide)
            have q2 := g2 2 (by decide) (by decide)
            have one : ∀ l, mkS D (fun _ => 1) l ≤ 0 → tb D l = 1 := fun l hl => by
              unfold mkS at hl
              by_cases e : tb D l = 1
              · exact e
              · rw [if_neg e] at hl; exact absurd (show (1 : Int) ≤ 0 from hl) (by decide)
            have := one 0 q0; have := one 1 q1; have := one 2 q2
            omega
          · exact ⟨g1, g2⟩
        obtain ⟨⟨b0, b1⟩, hpos⟩ := hbb
        have htb : tb D b = 0 := by
          unfold mkS at hpos
          rcases tb_01 D b with e | e
          · exact e
          · rw [if_pos e] at hpos; omega
        obtain ⟨⟨d0', d1'⟩, hD⟩ := b8i d0 d1 b0 b1
        have hu' : (3 : Int) = u + (tb (ior D (ishl 1 b)) 0 + tb (ior D (ishl 1 b)) 1 + tb (ior D (ishl 1 b)) 2) := by
          rw [hD 0 (by decide) (by decide), hD 1 (by decide) (by decide), hD 2 (by decide) (by decide)]
          have : b = 0 ∨ b = 1 ∨ b = 2 := by omega
          rcases this with rfl | rfl | rfl
          · rw [if_pos rfl, if_neg (by decide), if_neg (by decide)]; omega
          · rw [if_neg (by decide), if_pos rfl, if_neg (by decide)]; omega
          · rw [if_neg (by decide), if_neg (by decide), if_pos rfl]; omega
        have nb0 : 0 ≤ n b := hn.at b0 b1
        have nb1 := hn2 b b0 b1
        -- what is left once k of the best are done
        have inner : ∀ (j f2 : Nat) (k left : Int) (w : Int → Int) (V : VV), j < f2 → 0 ≤ k → k + j = n b → 0 ≤ left → left ≤ sizeS (fun l => if l = b then n b - k else mkS D n l) → AN V c n → WR V w → ∃ V', M_answers_98 (M_answers_35 fuel) f2 left (ior D (ishl 1 b)) b k V = some (0, V') ∧ MF [26] V V' ∧ WR V' (pwS c left.toNat (fun l => if l = b then n b - k else mkS D n l) w) := by
          have hend : ∀ l, 0 ≤ l → l ≤ 2 → mkS (ior D (ishl 1 b)) n l = (fun l => if l = b then n b - n b else mkS D n l) l := fun l a1 a2 => by
            show (if tb (ior D (ishl 1 b)) l = 1 then 0 else n l) = (if l = b then n b - n b else mkS D n l)
            rw [hD l a1 a2]
            by_cases e : l = b
            · rw [if_pos e, if_pos e, if_pos rfl]; omega
            · rw [if_neg e, if_neg e]; rfl
          intro j
          induction j with
          | zero =>
            intro f2 k left w V hf2 k0 k1 l0 l1 A W
            cases f2 with
            | zero => omega
            | succ f2 =>
              have ek : k = n b := by omega
              subst ek
              rw [M_answers_98, ck_ok b0 (by omega), A.2 b b0 b1, if_pos (Int.le_refl _)]
              unfold M_answers_188
              rw [← pwS_congr left.toNat hend]
              refine ih fuel _ left w V (by omega) d0' d1' hu' l0 ?_ A W
              have e : sizeS (mkS (ior D (ishl 1 b)) n) = sizeS (fun l => if l = b then n b - n b else mkS D n l) := by
                unfold sizeS
                rw [hend 0 (by decide) (by decide), hend 1 (by decide) (by decide), hend 2 (by decide) (by decide)]
              rw [e]; exact l1
          | succ j ihj =>
            intro f2 k left w V hf2 k0 k1 l0 l1 A W
            cases f2 with
            | zero => omega
            | succ f2 =>
              rw [M_answers_98, ck_ok b0 (by omega), A.2 b b0 b1, if_neg (by omega)]
              by_cases cl : left ≤ 0
              · have el : left = 0 := by omega
                subst el
                rw [if_pos (by decide)]
                unfold M_answers_188
                obtain ⟨V', e1, e2, e3⟩ := ih fuel _ 0 w V (by omega) d0' d1' hu' (by decide) (by
                  have q : ∀ l, 0 ≤ l → l ≤ 2 → 0 ≤ mkS (ior D (ishl 1 b)) n l := fun l a1 a2 => by
                    unfold mkS
                    split
                    · exact Int.le_refl 0
                    · exact hn.at a1 a2
                  have := q 0 (by decide) (by decide); have := q 1 (by decide) (by decide); have := q 2 (by decide) (by decide)
                  unfold sizeS; omega) A W
                exact ⟨V', e1, e2, e3⟩
              · rw [if_neg cl]
                obtain ⟨V1, e1, m1, W1⟩ := ans_116 (K35 := M_answers_35 fuel) (K98 := M_answers_98 (M_answers_35 fuel) f2) (x1 := left) (x2 := ior D (ishl 1 b)) (x4 := k) A hc b0 b1 W
                rw [e1]
                unfold M_answers_179
                rw [nm_eq, nm_eq, w32_id (x := k + 1) (by omega) (by omega)]
                have lle : left ≤ 4000 := by
                  have q : ∀ l, 0 ≤ l → l ≤ 2 → (fun l => if l = b then n b - k else mkS D n l) l ≤ 1000 := fun l a1 a2 => by
                    show (if l = b then n b - k else mkS D n l) ≤ 1000
                    unfold mkS
                    split
                    · omega
                    · split
                      · decide
                      · exact hn2 l a1 a2
                  have := q 0 (by decide) (by decide); have := q 1 (by decide) (by decide); have := q 2 (by decide) (by decide)
                  unfold sizeS at l1; omega
                rw [w32_id (by omega) (by omega)]
                have hgb : grS c (fun l => if l = b then n b - k else mkS D n l) = b := by
                  refine grS_sub hb b0 (by show 0 < (if b = b then n b - k else _); rw [if_pos rfl]; omega) (fun l a1 a2 hl => ?_)
                  by_cases e : l = b
                  · rw [e]; exact hpos
                  · have hl2 : 0 < mkS D n l := by
                      have h3 : 0 < (if l = b then n b - k else mkS D n l) := hl
                      rw [if_neg e] at h3; exact h3
                    unfold mkS at hl2 ⊢
                    by_cases e2 : tb D l = 1
                    · rw [if_pos e2] at hl2; omega
                    · rw [if_neg e2]; show (0 : Int) < 1; decide
                have hdec : decS (fun l => if l = b then n b - k else mkS D n l) b = (fun l => if l = b then n b - (k + 1) else mkS D n l) := by
                  funext l
                  show (if l = b then (if l = b then n b - k else mkS D n l) - 1 else (if l = b then n b - k else mkS D n l)) = _
                  by_cases e : l = b
                  · rw [if_pos e, if_pos e, if_pos e]; omega
                  · rw [if_neg e, if_neg e, if_neg e]
                have hpw : pwS c left.toNat (fun l => if l = b then n b - k else mkS D n l) w = pwS c (left + -1).toNat (fun l => if l = b then n b - (k + 1) else mkS D n l) (stpS (c b) w) := by
                  obtain ⟨p, hp⟩ : ∃ p : Nat, left.toNat = p + 1 := ⟨left.toNat - 1, by omega⟩
                  rw [hp, show (left + -1).toNat = p by omega]
                  show (if grS c _ = -1 then w else pwS c p (decS _ (grS c _)) (stpS (c (grS c _)) w)) = _
                  rw [hgb, if_neg (by omega), hdec]
                rw [hpw]
                obtain ⟨V', q1, q2, q3⟩ := ihj f2 (k + 1) (left + -1) (stpS (c b) w) V1 (by omega) (by omega) (by omega) (by omega) (by
                  rw [← hdec, decS_size b0 b1]; omega) (A.mf m1) W1
                exact ⟨V', q1, m1.tr q2 (fun _ h => h), q3⟩
        unfold M_answers_89
        rw [nm_eq]
        have estart : ∀ l, 0 ≤ l → l ≤ 2 → mkS D n l = (fun l => if l = b then n b - 0 else mkS D n l) l := fun l a1 a2 => by
          show _ = (if l = b then n b - 0 else mkS D n l)
          by_cases e : l = b
          · rw [if_pos e, e]
            unfold mkS
            rw [if_neg (by rw [htb]; decide)]; omega
          · rw [if_neg e]
        have es : sizeS (mkS D n) = sizeS (fun l => if l = b then n b - 0 else mkS D n l) := by
          unfold sizeS
          rw [estart 0 (by decide) (by decide), estart 1 (by decide) (by decide), estart 2 (by decide) (by decide)]
        obtain ⟨V', q1, q2, q3⟩ := inner (n b).toNat FU 0 left w V (by rw [FU_eq]; omega) (by decide) (by omega) l0 (by rw [← es]; exact l1) A W
        refine ⟨V', q1, q2, ?_⟩
        rw [pwS_congr left.toNat estart]; exact q3
theorem M_answers_eq {V : VV} {ans : Nat} (hc : pc3 c) (hn : nn3 n) (hn2 : ∀ l, 0 ≤ l → l ≤ 2 → n l ≤ 1000) (A : AN V c n) (ha : V 29 0 = ans) (hs : (ans : Int) ≤ sizeS n) : ∃ V', M_answers V = some (0, V') ∧ MF [26] V V' ∧ WR V' (pwS c ans n w0S) := by
  have step : ∀ (f : Nat) (r : Int) (V1 : VV), 0 ≤ r → r ≤ 3 → M_answers_2 (f + 1) r V1 = M_answers_2 f (r + 1) (vup V1 26 r (w0S r)) := fun f r V1 r0 r1 => by
    rw [M_answers_2, if_neg (by omega), nm_eq, ck_ok r0 (by omega), nm_eq, nm_eq, w32_id (by omega) (by omega)]; rfl
  obtain ⟨f, hf⟩ : ∃ f, FU = f + 1 + 1 + 1 + 1 + 1 := ⟨19995, by rw [FU_eq]⟩
  have m : MF [26] V (vup (vup (vup (vup V 26 0 (w0S 0)) 26 1 (w0S 1)) 26 2 (w0S 2)) 26 3 (w0S 3)) := MF.ed (MF.ed (MF.ed (MF.ed MF.rf (by decide)) (by decide)) (by decide)) (by decide)
  have W : WR (vup (vup (vup (vup V 26 0 (w0S 0)) 26 1 (w0S 1)) 26 2 (w0S 2)) 26 3 (w0S 3)) w0S := fun r r0 r1 => by
    have : r = 0 ∨ r = 1 ∨ r = 2 ∨ r = 3 := by omega
    rcases this with rfl | rfl | rfl | rfl
    · rw [vup_off (by decide), vup_off (by decide), vup_off (by decide), vup_at]; rfl
    · rw [vup_off (by decide), vup_off (by decide), vup_at]; rfl
    · rw [vup_off (by decide), vup_at]; rfl
    · rw [vup_at]; rfl
  have e0 : M_answers V = M_answers_28 (vup (vup (vup (vup V 26 0 (w0S 0)) 26 1 (w0S 1)) 26 2 (w0S 2)) 26 3 (w0S 3)) := by
    unfold M_answers
    rw [hf, step _ 0 _ (by decide) (by decide), show (0 : Int) + 1 = 1 from rfl, step _ 1 _ (by decide) (by decide), show (1 : Int) + 1 = 2 from rfl, step _ 2 _ (by decide) (by decide), show (2 : Int) + 1 = 3 from rfl, step _ 3 _ (by decide) (by decide), M_answers_2, if_pos (by decide)]
  generalize vup (vup (vup (vup V 26 0 (w0S 0)) 26 1 (w0S 1)) 26 2 (w0S 2)) 26 3 (w0S 3) = V1 at *
  have z : ∀ l, 0 ≤ l → l ≤ 2 → tb 0 l = 0 := fun l l0 l1 => by
    have : l = 0 ∨ l = 1 ∨ l = 2 := by omega
    rcases this with rfl | rfl | rfl <;> rfl
  have em : ∀ l, 0 ≤ l → l ≤ 2 → mkS 0 n l = n l := fun l l0 l1 => by unfold mkS; rw [if_neg (by rw [z l l0 l1]; decide)]
  have e29 : V1 29 0 = ans := by rw [m 29 (by decide)]; exact ha
  obtain ⟨V', q1, q2, q3⟩ := ans_35 hc hn hn2 3 FU 0 (ans : Int) w0S V1 (by rw [FU_eq]; decide) (by decide) (by decide) (by rw [z 0 (by decide) (by decide), z 1 (by decide) (by decide), z 2 (by decide) (by decide)]; rfl) (by omega) (by
    unfold sizeS at hs ⊢
    rw [em 0 (by decide) (by decide), em 1 (by decide) (by decide), em 2 (by decide) (by decide)]; exact hs) (A.mf m) W
  refine ⟨V', ?_, m.tr q2 (fun _ h => h), ?_⟩
  · rw [e0]; unfold M_answers_28; rw [nm_eq, e29, q1]
  · rw [← pwS_congr ans em]; exact q3
/-- the lots of so many -/
def LO (V : VV) (c th : Int → Int) (ans : Nat) : Prop := (∀ l : Int, 0 ≤ l → l ≤ 2 → V 22 l = c l) ∧ (∀ l : Int, 0 ≤ l → l ≤ 2 → V 23 l = th l) ∧ V 29 0 = ans
def SR (V : VV) (s : Int → Int) : Prop := ∀ r : Int, 0 ≤ r → r ≤ 3 → V 27 r = w64 (s r)
theorem LO.mf {V V' : VV} {th : Int → Int} {ans : Nat} (h : LO V c th ans) (m : MF [25, 26, 27] V V') : LO V' c th ans := by
  unfold LO; rw [m 22 (by decide), m 23 (by decide), m 29 (by decide)]; exact h
variable {th : Int → Int} {ans : Nat}
theorem lots_123 {K3 : Int → Int → Int → Int → VV → Option (Int × VV)} {K12 : Int → Int → Int → Int → Int → VV → Option (Int × VV)} {V : VV} {s p : Int → Int} {x1 x2 x3 x5 x6 x8 : Int} (S : SR V s) (W : WR V p) : ∃ V', M_lots_123 K3 K12 FU x1 x2 x3 x5 x6 x8 0 V = M_lots_157 K3 K12 x1 x2 x3 x5 x6 V' ∧ MF [27] V V' ∧ SR V' (fun r => s r + x3 * (x8 * p r)) := by
  have step : ∀ (f : Nat) (r : Int) (V1 : VV), MF [27] V V1 → 0 ≤ r → r ≤ 3 → (∀ i, r ≤ i → i ≤ 3 → V1 27 i = w64 (s i)) → (∀ i, 0 ≤ i → i < r → V1 27 i = w64 (s i + x3 * (x8 * p i))) → ∃ V2, M_lots_123 K3 K12 (f + 1) x1 x2 x3 x5 x6 x8 r V1 = M_lots_123 K3 K12 f x1 x2 x3 x5 x6 x8 (r + 1) V2 ∧ MF [27] V V2 ∧ (∀ i, r + 1 ≤ i → i ≤ 3 → V2 27 i = w64 (s i)) ∧ (∀ i, 0 ≤ i → i < r + 1 → V2 27 i = w64 (s i + x3 * (x8 * p i))) := fun f r V1 m r0 r1 hhi hlo => by
    refine ⟨vup V1 27 r (w64 (s r + x3 * (x8 * p r))), ?_, MF.ed m (by decide), fun i i0 i1 => by rw [vup_off (by omega)]; exact hhi i (by omega) i1, fun i i0 i1 => ?_⟩
    · have e26 : V1 26 r = w64 (p r) := by rw [m 26 (by decide)]; exact W r r0 r1
      rw [M_lots_123, if_neg (by omega), ck_ok r0 (by omega), ck_ok r0 (by omega), ck_ok r0 (by omega), nm_eq, nm_eq, w32_id (by omega) (by omega), hhi r (Int.le_refl r) r1, e26, w64_mulr, w64_mul, w64_add, Int.mul_assoc]
    · by_cases e : i = r
      · rw [e, vup_at]
      · rw [vup_off e]; exact hlo i i0 (by omega)
  obtain ⟨f, hf⟩ : ∃ f, FU = f + 1 + 1 + 1 + 1 + 1 := ⟨19995, by rw [FU_eq]⟩
  obtain ⟨V1, e1, m1, l1, g1⟩ := step (f + 1 + 1 + 1 + 1) 0 V MF.rf (by decide) (by decide) (fun i a b => S i a b) (fun i a b => by omega)
  obtain ⟨V2, e2, m2, l2, g2⟩ := step (f + 1 + 1 + 1) 1 V1 m1 (by decide) (by decide) l1 g1
  obtain ⟨V3, e3, m3, l3, g3⟩ := step (f + 1 + 1) 2 V2 m2 (by decide) (by decide) l2 g2
  obtain ⟨V4, e4, m4, l4, g4⟩ := step (f + 1) 3 V3 m3 (by decide) (by decide) l3 g3
  refine ⟨V4, ?_, m4, fun r r0 r1 => g4 r r0 (by omega)⟩
  rw [hf, e1, show (0 : Int) + 1 = 1 from rfl, e2, show (1 : Int) + 1 = 2 from rfl, e3, show (2 : Int) + 1 = 3 from rfl, e4, M_lots_123, if_pos (by decide)]
theorem SR.ext {V : VV} {s s' : Int → Int} (h : SR V s) (e : ∀ r, s r = s' r) : SR V s' := fun r r0 r1 => by rw [← e r]; exact h r r0 r1
theorem lots_12 (hc : pc3 c) (hn : nn3 th) (hs : sizeS th ≤ 20) (ha : ans ≤ 3) {K3 : Int → Int → Int → Int → VV → Option (Int × VV)} {d : Nat} (hd : d ≤ 20) {bes times : Int} (hb : bes = -1 ∨ (0 ≤ bes ∧ bes ≤ 2)) (hans : (ans : Int) ≤ d + (if bes = -1 then 0 else 1)) {a : Int} (a0 : 0 ≤ a) (a1 : a ≤ d) : ∀ (k fuel : Nat) (b : Int) (s : Int → Int) (V : VV), k < fuel → 0 ≤ b → a + b + k = d + 1 → LO V c th ans → SR V s → ∃ V', M_lots_12 K3 fuel d bes times a b V = K3 d bes times (a + 1) V' ∧ MF [25, 26, 27] V V' ∧ SR V' (fun r => s r + times * Sg (fun b => setS th d a b * pwS c ans (lieS d bes a b) w0S r) k b) := by
  intro k
  induction k with
  | zero =>
    intro fuel b s V hf b0 hk L S
    cases fuel with
    | zero => omega
    | succ fuel =>
      rw [M_lots_12, w32_id (by omega) (by omega), if_pos (by omega)]
      unfold M_lots_163
      rw [nm_eq, w32_id (by omega) (by omega)]
      exact ⟨V, rfl, MF.rf, S.ext fun r => by show s r = s r + times * 0; rw [Int.mul_zero, Int.add_zero]⟩
  | succ k ih =>
    intro fuel b s V hf b0 hk L S
    cases fuel with
    | zero => omega
    | succ fuel =>
      obtain ⟨L1, L2, L3⟩ := L
      obtain ⟨a', ha'⟩ := Int.eq_ofNat_of_zero_le a0
      obtain ⟨b', hb'⟩ := Int.eq_ofNat_of_zero_le b0
      have h20 : ∀ l, 0 ≤ l → l ≤ 2 → th l ≤ 20 := fun l l0 l1 => by
        obtain ⟨q0, q1, q2⟩ := hn
        unfold sizeS at hs
        have : l = 0 ∨ l = 1 ∨ l = 2 := by omega
        rcases this with rfl | rfl | rfl <;> omega
      have t0 := h20 0 (by decide) (by decide); have t1 := h20 1 (by decide) (by decide); have t2 := h20 2 (by decide) (by decide)
      have u0 := chooseS_2 (k := a) t0; have u1 := chooseS_2 (k := b) t1; have u2 := chooseS_2 (k := (d : Int) - a - b) t2
      have v0 := chooseS_nn (th 0) a; have v1 := chooseS_nn (th 1) b; have v2 := chooseS_nn (th 2) ((d : Int) - a - b)
      have w1 := mul_le3 v0 v1 u0 u1
      have w2 := mul_le3 w1.1 v2 w1.2 u2
      have eset : w64 (w64 (chooseS (th 0) a * chooseS (th 1) b) * chooseS (th 2) ((d : Int) - a - b)) = setS th d a b := by
        rw [w64_id (x := chooseS (th 0) a * chooseS (th 1) b) (by omega) (by omega), w64_id (by omega) (by omega)]; rfl
      -- the rest
      have rest : ∀ (V1 : VV) (s1 : Int → Int), MF [25, 26, 27] V V1 → SR V1 s1 → (∀ r, s1 r = s r + times * (setS th d a b * pwS c ans (lieS d bes a b) w0S r)) → ∃ V', M_lots_157 K3 (M_lots_12 K3 fuel) d bes times a b V1 = K3 d bes times (a + 1) V' ∧ MF [25, 26, 27] V V' ∧ SR V' (fun r => s r + times * Sg (fun b => setS th d a b * pwS c ans (lieS d bes a b) w0S r) (k + 1) b) := fun V1 s1 m1 S1 hs1 => by
        unfold M_lots_157
        rw [nm_eq, w32_id (by omega) (by omega)]
        obtain ⟨V', q1, q2, q3⟩ := ih fuel (b + 1) s1 V1 (by omega) (by omega) (by omega) (LO.mf ⟨L1, L2, L3⟩ m1) S1
        refine ⟨V', q1, m1.tr q2 (fun _ h => h), q3.ext fun r => ?_⟩
        show s1 r + times * Sg _ k (b + 1) = s r + times * (setS th d a b * pwS c ans (lieS d bes a b) w0S r + Sg _ k (b + 1))
        rw [hs1 r, Int.mul_add]; omega
      rw [M_lots_12, w32_id (x := a + b) (by omega) (by omega), if_neg (by omega), w32_id (x := (d : Int) - a) (by omega) (by omega), w32_id (x := (d : Int) - a - b) (by omega) (by omega), nm_eq, L2 0 (by decide) (by decide), M_choose_eq t0, mb_some, L2 1 (by decide) (by decide), M_choose_eq t1, mb_some, L2 2 (by decide) (by decide), M_choose_eq t2, mb_some, eset, nm_eq]
      by_cases cz : setS th d a b = 0
      · rw [if_pos cz]
        exact rest V s MF.rf S (fun r => by rw [cz, Int.zero_mul, Int.mul_zero, Int.add_zero])
      · rw [if_neg cz, nm_eq, nm_eq, nm_eq]
        have m3 : MF [25] V (vup (vup (vup V 25 0 a) 25 1 b) 25 2 ((d : Int) - a - b)) := MF.ed (MF.ed (MF.ed MF.rf (by decide)) (by decide)) (by decide)
        have e25 : ∀ l, 0 ≤ l → l ≤ 2 → vup (vup (vup V 25 0 a) 25 1 b) 25 2 ((d : Int) - a - b) 25 l = tri a b ((d : Int) - a - b) l := fun l l0 l1 => by
          have : l = 0 ∨ l = 1 ∨ l = 2 := by omega
          rcases this with rfl | rfl | rfl
          · rw [vup_off (by decide), vup_off (by decide), vup_at]; rfl
          · rw [vup_off (by decide), vup_at]; rfl
          · rw [vup_at]; rfl
        generalize vup (vup (vup V 25 0 a) 25 1 b) 25 2 ((d : Int) - a - b) = V2 at *
        obtain ⟨n1, n2⟩ := lieS_ok (d := d) (a := a') (b := b') (by omega) hb
        rw [← ha', ← hb'] at n1 n2
        have go : ∀ V3 : VV, MF [25] V V3 → (∀ l, 0 ≤ l → l ≤ 2 → V3 25 l = lieS d bes a b l) → ∃ V', M_lots_116 K3 (M_lots_12 K3 fuel) d bes times a b (setS th d a b) V3 = K3 d bes times (a + 1) V' ∧ MF [25, 26, 27] V V' ∧ SR V' (fun r => s r + times * Sg (fun b => setS th d a b * pwS c ans (lieS d bes a b) w0S r) (k + 1) b) := fun V3 m e => by
          have A : AN V3 c (lieS d bes a b) := ⟨by rw [m 22 (by decide)]; exact L1, e⟩
          have hn2 : ∀ l, 0 ≤ l → l ≤ 2 → lieS d bes a b l ≤ 1000 := fun l l0 l1 => by
            obtain ⟨q0, q1, q2⟩ := n1
            have hsz : sizeS (lieS d bes a b) ≤ 21 := by rw [n2]; split <;> omega
            unfold sizeS at hsz
            have : l = 0 ∨ l = 1 ∨ l = 2 := by omega
            rcases this with rfl | rfl | rfl <;> omega
          obtain ⟨V4, q1, q2, q3⟩ := M_answers_eq hc n1 hn2 A (by rw [m 29 (by decide)]; exact L3) (by rw [n2]; exact hans)
          have S4' : SR V4 s := fun r r0 r1 => by rw [q2 27 (by decide), m 27 (by decide)]; exact S r r0 r1
          obtain ⟨V5, p1, p2, p3⟩ := lots_123 (K3 := K3) (K12 := M_lots_12 K3 fuel) (x1 := d) (x2 := bes) (x3 := times) (x5 := a) (x6 := b) (x8 := setS th d a b) S4' q3
          unfold M_lots_116
          rw [q1, mb_some, p1]
          exact rest V5 _ ((m.tr (T := [25, 26, 27]) (q2.up (by decide)) (by decide)).tr (p2.up (by decide)) (fun _ h => h)) p3 (fun r => rfl)
        by_cases cb : bes = -1
        · rw [if_pos cb]
          exact go V2 m3 (fun l l0 l1 => by rw [e25 l l0 l1]; unfold lieS; rw [if_pos cb])
        · have hb2 : 0 ≤ bes ∧ bes ≤ 2 := hb.resolve_left cb
          have hin : tri a b ((d : Int) - a - b) bes ≤ 20 ∧ 0 ≤ tri a b ((d : Int) - a - b) bes := by
            have : bes = 0 ∨ bes = 1 ∨ bes = 2 := by omega
            rcases this with rfl | rfl | rfl
            · show a ≤ 20 ∧ 0 ≤ a; omega
            · show b ≤ 20 ∧ 0 ≤ b; omega
            · show (d : Int) - a - b ≤ 20 ∧ 0 ≤ (d : Int) - a - b; omega
          rw [if_neg cb, ck_ok hb2.1 (by omega), ck_ok hb2.1 (by omega), e25 bes hb2.1 hb2.2, w32_id (by omega) (by omega), nm_eq]
          refine go _ (MF.ed m3 (by decide)) (fun l l0 l1 => ?_)
          unfold lieS incS
          rw [if_neg cb]
          by_cases e : l = bes
          · rw [e, vup_at, if_pos rfl]
          · rw [vup_off e, if_neg e, e25 l l0 l1]
theorem M_lots_eq (hc : pc3 c) (hn : nn3 th) (hs : sizeS th ≤ 20) (ha : ans ≤ 3) {d : Nat} (hd : d ≤ 20) {bes times : Int} (hb : bes = -1 ∨ (0 ≤ bes ∧ bes ≤ 2)) (hans : (ans : Int) ≤ d + (if bes = -1 then 0 else 1)) {V : VV} {s : Int → Int} (L : LO V c th ans) (S : SR V s) : ∃ V', M_lots d bes times V = some (0, V') ∧ MF [25, 26, 27] V V' ∧ SR V' (fun r => s r + times * lotS c ans th d bes r) := by
  have loop : ∀ (k fuel : Nat) (a : Int) (s : Int → Int) (V : VV), k < fuel → 0 ≤ a → a + k = d + 1 → LO V c th ans → SR V s → ∃ V', M_lots_3 fuel d bes times a V = some (0, V') ∧ MF [25, 26, 27] V V' ∧ SR V' (fun r => s r + times * Sg (fun a => Sg (fun b => setS th d a b * pwS c ans (lieS d bes a b) w0S r) ((d : Int) - a + 1).toNat 0) k a) := by
    intro k
    induction k with
    | zero =>
      intro fuel a s V hf a0 hk L S
      cases fuel with
      | zero => omega
      | succ fuel =>
        rw [M_lots_3, if_pos (by omega)]
        exact ⟨V, rfl, MF.rf, S.ext fun r => by show s r = s r + times * 0; rw [Int.mul_zero, Int.add_zero]⟩
    | succ k ih =>
      intro fuel a s V hf a0 hk L S
      cases fuel with
      | zero => omega
      | succ fuel =>
        obtain ⟨V1, q1, q2, q3⟩ := lots_12 hc hn hs ha (K3 := M_lots_3 fuel) hd (times := times) hb hans a0 (by omega) ((d : Int) - a + 1).toNat FU 0 s V (by rw [FU_eq]; omega) (Int.le_refl 0) (by omega) L S
        obtain ⟨V2, p1, p2, p3⟩ := ih fuel (a + 1) _ V1 (by omega) (by omega) (by omega) (L.mf q2) q3
        rw [M_lots_3, if_neg (by omega), q1]
        refine ⟨V2, p1, q2.tr p2 (fun _ h => h), p3.ext fun r => ?_⟩
        show s r + times * Sg _ _ 0 + times * Sg _ k (a + 1) = s r + times * (Sg _ _ 0 + Sg _ k (a + 1))
        rw [Int.mul_add]; omega
  unfold M_lots lotS
  exact loop ((d : Int) + 1).toNat FU 0 s V (by rw [FU_eq]; omega) (Int.le_refl 0) (by omega) L S
end
