/-! plain law: the odds on the model's side, what is answered -/
set_option maxRecDepth 100000
set_option maxHeartbeats 400000
theorem S4_bd {f : Int → Int} {W : Int} (h : S4 f = W) (h0 : ∀ r, 0 ≤ f r) : (0 ≤ f 0 ∧ f 0 ≤ W) ∧ (0 ≤ f 1 ∧ f 1 ≤ W) ∧ (0 ≤ f 2 ∧ f 2 ≤ W) ∧ (0 ≤ f 3 ∧ f 3 ≤ W) := by
  have a0 := h0 0; have a1 := h0 1; have a2 := h0 2; have a3 := h0 3
  unfold S4 at h
  omega
theorem S4_at {f : Int → Int} {W : Int} (h : S4 f = W) (h0 : ∀ r, 0 ≤ f r) {r : Int} (r0 : 0 ≤ r) (r1 : r ≤ 3) : 0 ≤ f r ∧ f r ≤ W := by
  obtain ⟨a, b, c, d⟩ := S4_bd h h0
  have : r = 0 ∨ r = 1 ∨ r = 2 ∨ r = 3 := by omega
  rcases this with rfl | rfl | rfl | rfl
  · exact a
  · exact b
  · exact c
  · exact d
theorem Sg3 (f : Int → Int) {k : Int} (h0 : 1 ≤ k) (h1 : k ≤ 3) : Sg f (4 - k).toNat k = if k = 1 then f 1 + f 2 + f 3 else if k = 2 then f 2 + f 3 else f 3 := by
  have : k = 1 ∨ k = 2 ∨ k = 3 := by omega
  rcases this with rfl | rfl | rfl
  · show f 1 + (f (1 + 1) + (f (1 + 1 + 1) + 0)) = _
    rw [if_pos rfl, show (1 : Int) + 1 = 2 from rfl, show (2 : Int) + 1 = 3 from rfl]; omega
  · show f 2 + (f (2 + 1) + 0) = _
    rw [if_neg (by decide), if_pos rfl, show (2 : Int) + 1 = 3 from rfl]; omega
  · show f 3 + 0 = _
    rw [if_neg (by decide), if_neg (by decide)]; omega
section
variable {K c th lk : Int → Int} {lean : Int}
theorem pass_ok (hc : pc3 c) (B : BWL K th lk lean) : 0 ≤ passS K c th lk lean ∧ passS K c th lk lean ≤ wholeS K th lk lean := by
  obtain ⟨a, b, d, e⟩ := S4_bd (sums_ok hc B).1 (sums_ok hc B).2.1
  have hs := (sums_ok hc B).1
  have k := B.2.2.2.2.2.2.1
  unfold S4 at hs
  unfold passS
  rw [Sg3 _ k.1 k.2]
  split
  · omega
  · split <;> omega
theorem M_passes_eq (hc : pc3 c) (B : BWL K th lk lean) {V : VV} (e3 : V 3 = K) (O : OD V K c th lk lean) : M_passes V = some (passS K c th lk lean, V) := by
  have k := B.2.2.2.2.2.2.1
  have hp := pass_ok hc B
  have hw := whole_ok B
  have loop : ∀ (n fuel : Nat) (r acc : Int), n < fuel → 0 ≤ r → r + n = 4 → M_passes_8 fuel (w64 acc) r V = some (w64 (acc + Sg (sumsS K c th lk lean) n r), V) := by
    intro n
    induction n with
    | zero =>
      intro fuel r acc hf r0 r1
      cases fuel with
      | zero => omega
      | succ fuel =>
        rw [M_passes_8, if_pos (by omega)]
        show _ = some (w64 (acc + 0), V)
        rw [Int.add_zero]
    | succ n ih =>
      intro fuel r acc hf r0 r1
      cases fuel with
      | zero => omega
      | succ fuel =>
        rw [M_passes_8, if_neg (by omega), ck_ok r0 (by omega), O.1 r r0 (by omega), w64_addl, nm_eq, nm_eq, w32_id (by omega) (by omega), ih fuel (r + 1) _ (by omega) (by omega) (by omega)]
        show some (w64 (acc + sumsS K c th lk lean r + Sg _ n (r + 1)), V) = some (w64 (acc + (sumsS K c th lk lean r + Sg _ n (r + 1))), V)
        rw [Int.add_assoc]
  have := loop (4 - K 102).toNat FU (K 102) 0 (by rw [FU_eq]; omega) (by omega) (by omega)
  rw [w64_id (x := 0) (by decide) (by decide), Int.zero_add] at this
  unfold M_passes
  rw [M_term_eq (by decide) (by decide), mb_some, e3, show (100 : Int) + 2 = 102 from rfl, this]
  show some (w64 (passS K c th lk lean), V) = _
  rw [w64_id (by omega) (by omega)]
end
/-- by what is known -/
def pS (K : Int → Int) (cl : CLS) (as_ l : Int) : Int := passS K (chS cl) (thS K as_ l) (lkS K as_ l) (K 103)
def wS (K : Int → Int) (as_ l : Int) : Int := wholeS K (thS K as_ l) (lkS K as_ l) (K 103)
def sS (K : Int → Int) (cl : CLS) (as_ l r : Int) : Int := sumsS K (chS cl) (thS K as_ l) (lkS K as_ l) (K 103) r
theorem bwl_tri {K : Int → Int} (KK : KI K) {half well : Int} (h0 : 0 ≤ half) (w0 : 0 ≤ well) (h : half + well ≤ bowlN K) : BWL K (tri (bowlN K - half - well) half well) zeroS 0 := by
  have hb := bowlN_le (K := K) KK.1.1.1
  have hn := KK.1.1
  have k := KK.2.2.1
  have hs : sizeS (tri (bowlN K - half - well) half well) = bowlN K := by
    show bowlN K - half - well + half + well = _; omega
  refine ⟨⟨by show 0 ≤ bowlN K - half - well; omega, h0, w0⟩, ⟨Int.le_refl 0, Int.le_refl 0, Int.le_refl 0⟩, fun l a b => ?_, by rw [hs]; omega, k.1, k.2.1, k.2.2.1, by decide⟩
  have : l = 0 ∨ l = 1 ∨ l = 2 := by omega
  rcases this with rfl | rfl | rfl
  · show 0 ≤ bowlN K - half - well; omega
  · exact h0
  · exact w0
theorem tri_whole {K : Int → Int} {half well : Int} : wholeS K (tri (bowlN K - half - well) half well) zeroS 0 = wwS K := by
  have hs : sizeS (tri (bowlN K - half - well) half well) = bowlN K := by
    show bowlN K - half - well + half + well = _; omega
  have hs0 : sizeS (tri (bowlN K) 0 0) = bowlN K := by
    show bowlN K + 0 + 0 = _; omega
  unfold wwS wholeS
  have l1 : ∀ th, leanS K th zeroS 0 ≠ true := fun th e => absurd (of_decide_eq_true e).1 (by decide)
  rw [if_neg (l1 _), if_neg (l1 _)]
  unfold ansS lyS
  rw [hs, hs0]
theorem ww_ok {K : Int → Int} (KK : KI K) : 1 ≤ wwS K ∧ wwS K ≤ 1100000000000 := by
  have hb := bowlN_le (K := K) KK.1.1.1
  have hn := KK.1.1
  have hs0 : sizeS (tri (bowlN K) 0 0) = bowlN K := by
    show bowlN K + 0 + 0 = _; omega
  have B := bwl_tri KK (half := 0) (well := 0) (by decide) (by decide) (by omega)
  rw [show bowlN K - 0 - 0 = bowlN K by omega] at B
  have hly := B.ly
  have ha := B.ans
  have hch := chooseS_pos hly.1 hly.2.1
  have hch2 := chooseS_2 (n := sizeS (tri (bowlN K) 0 0)) (k := lyS K (tri (bowlN K) 0 0)) B.2.2.2.1
  have hp := pow100 ha.1
  have h1 := mul_le3 (by omega) (by omega) hch2 hp.2
  have h2 := Int.mul_le_mul hch hp.1 (by decide) (by omega)
  unfold wwS wholeS
  have l1 : ∀ th, leanS K th zeroS 0 ≠ true := fun th e => absurd (of_decide_eq_true e).1 (by decide)
  rw [if_neg (l1 _)]
  omega
theorem with_ok {K : Int → Int} (KK : KI K) (cl : CLS) {half well : Int} (h0 : 0 ≤ half) (w0 : 0 ≤ well) (h : half + well ≤ bowlN K) : 0 ≤ withS K cl half well ∧ withS K cl half well ≤ wwS K := by
  have := pass_ok (chS_pc cl) (bwl_tri KK h0 w0 h)
  rw [tri_whole] at this
  exact this
section
variable {V : VV} {P : Nat → CLS}
theorem M_passesWith_eq (KK : KI (V 3)) {cl : CLS} (h22 : ∀ l : Int, 0 ≤ l → l ≤ 2 → V 22 l = chS cl l) {half well : Int} (h0 : 0 ≤ half) (w0 : 0 ≤ well) (h : half + well ≤ bowlN (V 3)) : ∃ V', M_passesWith half well V = some (withS (V 3) cl half well, V') ∧ MF [23, 24, 25, 26, 27, 28, 29, 30] V V' ∧ V' 30 0 = wwS (V 3) := by
  have hb := bowlN_le (K := V 3) KK.1.1.1
  have hn := KK.1.1
  have B := bwl_tri KK h0 w0 h
  have e23 : ∀ l : Int, 0 ≤ l → l ≤ 2 → vup (vup (vup V 23 0 (bowlN (V 3) - half - well)) 23 1 half) 23 2 well 23 l = tri (bowlN (V 3) - half - well) half well l := fun l l0 l1 => by
    have : l = 0 ∨ l = 1 ∨ l = 2 := by omega
    rcases this with rfl | rfl | rfl
    · rw [vup_off (by decide), vup_off (by decide), vup_at]; rfl
    · rw [vup_off (by decide), vup_at]; rfl
    · rw [vup_at]; rfl
  have m : MF [23] V (vup (vup (vup V 23 0 (bowlN (V 3) - half - well)) 23 1 half) 23 2 well) := MF.ed (MF.ed (MF.ed MF.rf (by decide)) (by decide)) (by decide)
  have step : ∀ (f : Nat) (i : Int) (V1 : VV), 0 ≤ i → i ≤ 2 → M_passesWith_30 (f + 1) i V1 = M_passesWith_30 f (i + 1) (vup V1 24 i 0) := fun f i V1 i0 i1 => by
    rw [M_passesWith_30, if_neg (by omega), ck_ok i0 (by omega), nm_eq, nm_eq, w32_id (by omega) (by omega)]
  obtain ⟨f, hf⟩ : ∃ f, FU = f + 1 + 1 + 1 + 1 := ⟨19996, by rw [FU_eq]⟩
  unfold M_passesWith
  rw [M_bowl_eq hn.1 hn.2, mb_some, w32_id (x := bowlN (V 3) - half) (by omega) (by omega), w32_id (by omega) (by omega), nm_eq, nm_eq, nm_eq]
  generalize vup (vup (vup V 23 0 (bowlN (V 3) - half - well)) 23 1 half) 23 2 well = V1 at *
  rw [hf, step _ 0 _ (by decide) (by decide), show (0 : Int) + 1 = 1 from rfl, step _ 1 _ (by decide) (by decide), show (1 : Int) + 1 = 2 from rfl, step _ 2 _ (by decide) (by decide), M_passesWith_30, if_pos (by decide)]
  have m2 : MF [23, 24] V (vup (vup (vup V1 24 0 0) 24 1 0) 24 2 0) := MF.ed (MF.ed (MF.ed (m.up (by decide)) (by decide)) (by decide)) (by decide)
  have e24 : ∀ l : Int, 0 ≤ l → l ≤ 2 → vup (vup (vup V1 24 0 0) 24 1 0) 24 2 0 24 l = zeroS l := fun l l0 l1 => by
    have : l = 0 ∨ l = 1 ∨ l = 2 := by omega
    rcases this with rfl | rfl | rfl
    · rw [vup_off (by decide), vup_off (by decide), vup_at]; rfl
    · rw [vup_off (by decide), vup_at]; rfl
    · rw [vup_at]; rfl
  have e23' : ∀ l : Int, 0 ≤ l → l ≤ 2 → vup (vup (vup V1 24 0 0) 24 1 0) 24 2 0 23 l = tri (bowlN (V 3) - half - well) half well l := fun l l0 l1 => by
    rw [vupN (by decide), vupN (by decide), vupN (by decide)]; exact e23 l l0 l1
  generalize vup (vup (vup V1 24 0 0) 24 1 0) 24 2 0 = V2 at *
  have e3 : V2 3 = V 3 := m2 3 (by decide)
  obtain ⟨V', q1, q2, q3⟩ := M_odds_eq (chS_pc cl) B (V := V2) ⟨e3, by rw [m2 22 (by decide)]; exact h22, e23', e24⟩
  have e3' : V' 3 = V 3 := (q2 3 (by decide)).trans e3
  unfold M_passesWith_48
  rw [q1, mb_some, M_passes_eq (chS_pc cl) B e3' q3, mb_some]
  exact ⟨V', rfl, (m2.up (T := [23, 24, 25, 26, 27, 28, 29, 30]) (by decide)).tr (q2.up (by decide)) (fun _ h => h), by rw [q3.2, tri_whole]⟩
theorem M_pass_eq (KK : KI (V 3)) (PP : PR (V 3) P) {part : Int} (h0 : 0 ≤ part) (h1 : part ≤ 1) : ∃ V', M_pass part V = some (redS (pS (V 3) (curP (V 3) P) (-1) 0) (wS (V 3) (-1) 0) part, V') ∧ MF KF V V' := by
  obtain ⟨V', q1, q2, q3⟩ := M_known_eq KK PP (as_ := -1) (l := 0) (Or.inl rfl)
  have B := bwl_th KK (as_ := -1) (l := 0) (Or.inl rfl) KK.2.2.1.2.2.2.1
  have hp := pass_ok (chS_pc (curP (V 3) P)) B
  have hw := whole_ok B
  refine ⟨V', ?_, q2⟩
  unfold M_pass
  rw [M_lies_t h0 h1, mb_some, if_neg (by decide), q1, mb_some, M_passes_eq (chS_pc _) B (q2 3 (by decide)) q3, mb_some, q3.2, M_reduced_eq hp.1 (by omega) hw.1 (by omega), mb_some]
  rfl
theorem M_right_eq (KK : KI (V 3)) (PP : PR (V 3) P) {many part : Int} (m0 : 0 ≤ many) (m1 : many ≤ 3) (h0 : 0 ≤ part) (h1 : part ≤ 1) : ∃ V', M_right many part V = some (redS (sS (V 3) (curP (V 3) P) (-1) 0 many) (wS (V 3) (-1) 0) part, V') ∧ MF KF V V' := by
  obtain ⟨V', q1, q2, q3⟩ := M_known_eq KK PP (as_ := -1) (l := 0) (Or.inl rfl)
  have B := bwl_th KK (as_ := -1) (l := 0) (Or.inl rfl) KK.2.2.1.2.2.2.1
  have hw := whole_ok B
  have hs := S4_at (sums_ok (chS_pc (curP (V 3) P)) B).1 (sums_ok (chS_pc (curP (V 3) P)) B).2.1 m0 m1
  refine ⟨V', ?_, q2⟩
  unfold M_right
  rw [M_lies_t m0 m1, mb_some, if_neg (by decide), M_lies_t h0 h1, mb_some, if_neg (by decide), q1, mb_some, ck_ok m0 (by omega), q3.1 many m0 m1, q3.2, M_reduced_eq hs.1 (by omega) hw.1 (by omega), mb_some]
  rfl
def mnS (K : Int → Int) (cl : CLS) : Int := sS K cl (-1) 0 1 + 2 * sS K cl (-1) 0 2 + 3 * sS K cl (-1) 0 3
theorem M_mean_eq (KK : KI (V 3)) (PP : PR (V 3) P) {part : Int} (h0 : 0 ≤ part) (h1 : part ≤ 1) : ∃ V', M_mean part V = some (redS (mnS (V 3) (curP (V 3) P)) (wS (V 3) (-1) 0) part, V') ∧ MF KF V V' := by
  obtain ⟨V', q1, q2, q3⟩ := M_known_eq KK PP (as_ := -1) (l := 0) (Or.inl rfl)
  have B := bwl_th KK (as_ := -1) (l := 0) (Or.inl rfl) KK.2.2.1.2.2.2.1
  have hw := whole_ok B
  obtain ⟨a, b, d, e⟩ := S4_bd (sums_ok (chS_pc (curP (V 3) P)) B).1 (sums_ok (chS_pc (curP (V 3) P)) B).2.1
  refine ⟨V', ?_, q2⟩
  unfold M_mean
  rw [M_lies_t h0 h1, mb_some, if_neg (by decide), q1, mb_some, q3.1 1 (by decide) (by decide), q3.1 2 (by decide) (by decide), q3.1 3 (by decide) (by decide), q3.2, w64_id (x := 2 * _) (by omega) (by omega), w64_id (x := 3 * _) (by omega) (by omega), w64_id (x := sumsS _ _ _ _ _ 1 + _) (by omega) (by omega), w64_id (by omega) (by omega), M_reduced_eq (by omega) (by omega) hw.1 (by omega), mb_some]
  rfl
theorem M_sure_eq (KK : KI (V 3)) (PP : PR (V 3) P) {many part : Int} (m0 : 0 ≤ many) (m1 : many ≤ bowlN (V 3)) (h0 : 0 ≤ part) (h1 : part ≤ 1) : ∃ V', M_sure many part V = some (redS (withS (V 3) (curP (V 3) P) 0 many) (wwS (V 3)) part, V') ∧ MF KF V V' := by
  have hn := KK.1.1
  obtain ⟨V1, c1, c2, c3⟩ := M_laysChances_eq KK PP
  have e3 : V1 3 = V 3 := c2 3 (by decide)
  obtain ⟨V2, q1, q2, q3⟩ := M_passesWith_eq (V := V1) (by rw [e3]; exact KK) c3 (half := 0) (well := many) (by decide) m0 (by rw [e3]; omega)
  rw [e3] at q1 q3
  have hp := with_ok KK (curP (V 3) P) (half := 0) (by decide) m0 (by omega)
  have hw := ww_ok KK
  refine ⟨V2, ?_, (c2.up (T := KF) (by decide)).tr (q2.up (by decide)) (fun _ h => h)⟩
  unfold M_sure
  rw [M_bowl_eq hn.1 hn.2, mb_some, M_lies_t m0 m1, mb_some, if_neg (by decide), M_lies_t h0 h1, mb_some, if_neg (by decide), c1, mb_some, q1, mb_some, q3, M_reduced_eq hp.1 (by omega) hw.1 (by omega), mb_some]
def safeS (K : Int → Int) (cl : CLS) : Nat → Int → Int
  | 0, _ => -1
  | n + 1, m => if withS K cl 0 m = wwS K then m else safeS K cl n (m + 1)
theorem M_safe_eq (KK : KI (V 3)) (PP : PR (V 3) P) : ∃ V', M_safe V = some (safeS (V 3) (curP (V 3) P) (bowlN (V 3) + 1).toNat 0, V') ∧ MF KF V V' := by
  have hn := KK.1.1
  have hb := bowlN_le (K := V 3) KK.1.1.1
  obtain ⟨V1, c1, c2, c3⟩ := M_laysChances_eq KK PP
  have loop : ∀ (n fuel : Nat) (m : Int) (V1 : VV), n < fuel → 0 ≤ m → m + n = bowlN (V 3) + 1 → MF KF V V1 → (∀ l : Int, 0 ≤ l → l ≤ 2 → V1 22 l = chS (curP (V 3) P) l) → ∃ V', M_safe_6 fuel m V1 = some (safeS (V 3) (curP (V 3) P) n m, V') ∧ MF KF V V' := by
    intro n
    induction n with
    | zero =>
      intro fuel m V1 hf m0 m1 mm h22
      cases fuel with
      | zero => omega
      | succ fuel =>
        have e3 : V1 3 = V 3 := mm 3 (by decide)
        rw [M_safe_6, M_bowl_eq (by rw [e3]; exact hn.1) (by rw [e3]; exact hn.2), mb_some, e3, if_pos (by omega)]
        exact ⟨V1, rfl, mm⟩
    | succ n ih =>
      intro fuel m V1 hf m0 m1 mm h22
      cases fuel with
      | zero => omega
      | succ fuel =>
        have e3 : V1 3 = V 3 := mm 3 (by decide)
        obtain ⟨V2, q1, q2, q3⟩ := M_passesWith_eq (V := V1) (by rw [e3]; exact KK) h22 (half := 0) (well := m) (by decide) m0 (by rw [e3]; omega)
        rw [e3] at q1 q3
        have m2 : MF KF V V2 := mm.tr (q2.up (by decide)) (fun _ h => h)
        rw [M_safe_6, M_bowl_eq (by rw [e3]; exact hn.1) (by rw [e3]; exact hn.2), mb_some, e3, if_neg (by omega), q1, mb_some, q3, nm_eq, w32_id (by omega) (by omega)]
        rw [show safeS (V 3) (curP (V 3) P) (n + 1) m = if withS (V 3) (curP (V 3) P) 0 m = wwS (V 3) then m else safeS (V 3) (curP (V 3) P) n (m + 1) from rfl]
        by_cases e : withS (V 3) (curP (V 3) P) 0 m = wwS (V 3)
        · rw [if_pos e, if_pos e]; exact ⟨V2, rfl, m2⟩
        · rw [if_neg e, if_neg e]
          exact ih fuel (m + 1) V2 (by omega) (by omega) (by omega) m2 (by rw [q2 22 (by decide)]; exact h22)
  unfold M_safe
  rw [c1, mb_some]
  exact loop (bowlN (V 3) + 1).toNat FU 0 V1 (by rw [FU_eq]; omega) (by decide) (by omega) (c2.up (by decide)) c3
theorem mil_in {u l : Int} (h0 : 0 ≤ u) (h1 : u ≤ l) (hl : 1 ≤ l) : 0 ≤ milS u l ∧ milS u l ≤ 1000000 := mil_le h0 h1 (by omega) (p := 1000000) (P := 1000000) (by decide) (by decide)
theorem M_worth_eq (KK : KI (V 3)) (PP : PR (V 3) P) {q : Int} (h0 : 0 ≤ q) (h1 : q < V 3 390) (hb : V 3 (5 * q + 4) = 0) : ∃ V', M_worth q V = some (milS (pS (V 3) (curP (V 3) P) q 2) (wS (V 3) q 2) - milS (pS (V 3) (curP (V 3) P) q 0) (wS (V 3) q 0), V') ∧ MF KF V V' := by
  have hn := KK.1.1
  have A2 : AS (V 3) q 2 := Or.inr ⟨⟨h0, h1⟩, by decide, by decide⟩
  have A0 : AS (V 3) q 0 := Or.inr ⟨⟨h0, h1⟩, by decide, by decide⟩
  obtain ⟨V1, q1, q2, q3⟩ := M_known_eq KK PP A2
  have e3 : V1 3 = V 3 := q2 3 (by decide)
  obtain ⟨V2, r1, r2, r3⟩ := M_known_eq (V := V1) (P := P) (by rw [e3]; exact KK) (by rw [e3]; exact PP) (as_ := q) (l := 0) (by rw [e3]; exact A0)
  rw [e3] at r3
  have B2 := bwl_th KK A2 KK.2.2.1.2.2.2.1
  have B0 := bwl_th KK A0 KK.2.2.1.2.2.2.1
  have hp2 := pass_ok (chS_pc (curP (V 3) P)) B2
  have hp0 := pass_ok (chS_pc (curP (V 3) P)) B0
  have hw2 := whole_ok B2
  have hw0 := whole_ok B0
  have n2 := mil_in hp2.1 hp2.2 hw2.1
  have n0 := mil_in hp0.1 hp0.2 hw0.1
  refine ⟨V2, ?_, q2.tr r2 (fun _ h => h)⟩
  unfold M_worth
  rw [M_isQuestion_t hn.1 hn.2 h0 h1, mb_some, if_neg (by decide), M_isBowl_eq h0 (by omega), mb_some, if_pos hb, if_neg (by decide), q1, mb_some, M_passes_eq (chS_pc _) B2 e3 q3, mb_some, q3.2, M_millionths_eq hp2.1 hp2.2 hw2.1 (by omega), mb_some, r1, mb_some, M_passes_eq (chS_pc _) B0 ((r2 3 (by decide)).trans e3) r3, mb_some, r3.2, M_millionths_eq hp0.1 hp0.2 hw0.1 (by omega), mb_some, w32_id (by omega) (by omega)]
  rfl
end
