/-! plain law: feed -/
set_option maxRecDepth 100000
set_option maxHeartbeats 400000
def WT : Int → Int → Prop := fun a j => (a = 1 ∧ j = 12) ∨ a = 16
theorem w8_w8 (x : Int) : w8 (w8 x) = w8 x := w8_id (w8_in x).1 (w8_in x).2
theorem SH.wt {c s : Nat} {h h' : XH} (H : SH h) (f : Fr WT c s h h') : SH h' := H.fr f (fun j hj q => by unfold WT at q; omega) (fun q => by unfold WT at q; omega) (fun q => by unfold WT at q; omega)
theorem four_loop (v : Int) : ∀ (i n : Nat) (h : XH) (t : Int), i < n → i ≤ 4 → SH h → xv h 1 12 = t → 0 ≤ t → t + i ≤ 400 → ∃ h', F_X0_four_3 n 1 v (8 * i - 8) h = some (0, h') ∧ Fr WT 0 0 h h' ∧ xv h' 1 12 = t + i ∧ ∀ j, xv h' 16 j = if t ≤ j ∧ j < t + i then w8 (ishr v (8 * (t + i - 1 - j))) else xv h 16 j := by
  intro i
  induction i with
  | zero =>
    intro n h t hn hi H ht h0 h1
    cases n with
    | zero => omega
    | succ n =>
      refine ⟨h, ?_, Fr.rf, by rw [ht]; simp, fun j => by rw [if_neg (by omega)]⟩
      rw [F_X0_four_3, if_pos (by decide)]
  | succ i ih =>
    intro n h t hn hi H ht h0 h1
    cases n with
    | zero => omega
    | succ n =>
      have f1 : Fr WT 0 0 h (hset (hset h 16 t (w8 (ishr v (8 * (i : Int))))) 1 12 (t + 1)) := (Fr.set (fun _ => Or.inr rfl)).tr (Fr.set (W := WT) (fun _ => Or.inl ⟨rfl, rfl⟩)) (fun _ _ _ q => q)
      obtain ⟨h', e1, e2, e3, e4⟩ := ih n (hset (hset h 16 t (w8 (ishr v (8 * (i : Int))))) 1 12 (t + 1)) (t + 1) (by omega) (by omega) (H.wt f1) hset_vv (by omega) (by omega)
      refine ⟨h', ?_, f1.tr e2 (fun _ _ _ q => q), by rw [e3]; omega, fun j => ?_⟩
      · have ex : 8 * ((i + 1 : Nat) : Int) - 8 = 8 * (i : Int) := by omega
        have e12 : xv (hset h 16 t (w8 (ishr v (8 * (i : Int))))) 1 12 = t := (hset_vn (by decide)).trans ht
        rw [F_X0_four_3, ex, if_neg (by omega), obk H.x1, obk H.x1, H.f11, ht, aik (t := 2) H.x16 h0 (by rw [H.l16]; omega), w8_w8, nm_eq, obk (h := hset h 16 t _) H.x1, obk (h := hset h 16 t _) H.x1, e12, w32_id (by omega) (by omega), nm_eq, nm_eq, w32_id (by omega) (by omega), show 8 * (i : Int) + -8 = 8 * (i : Int) - 8 by omega]
        exact e1
      · rw [e4]
        by_cases c : t + 1 ≤ j ∧ j < t + 1 + i
        · rw [if_pos c, if_pos (by omega)]
          congr 2; omega
        · rw [if_neg c, hset_vn (by decide)]
          by_cases c2 : j = t
          · rw [c2, hset_vv, if_pos (by omega)]
            congr 2; omega
          · rw [hset_vj c2, if_neg (by omega)]
theorem four_eq (v : Int) {h : XH} {t : Int} (H : SH h) (ht : xv h 1 12 = t) (h0 : 0 ≤ t) (h1 : t + 4 ≤ 400) : ∃ h', F_X0_four 1 v h = some (0, h') ∧ Fr WT 0 0 h h' ∧ xv h' 1 12 = t + 4 ∧ ∀ j, xv h' 16 j = if t ≤ j ∧ j < t + 4 then w8 (ishr v (8 * (t + 3 - j))) else xv h 16 j := by
  obtain ⟨h', e1, e2, e3, e4⟩ := four_loop v 4 FU h t (by rw [FU_eq]; decide) (by decide) H ht h0 h1
  refine ⟨h', ?_, e2, e3, fun j => ?_⟩
  · unfold F_X0_four; exact e1
  · rw [e4]
    by_cases c : t ≤ j ∧ j < t + 4
    · rw [if_pos c, if_pos (by omega)]; congr 2; omega
    · rw [if_neg c, if_neg (by omega)]
theorem M_feed_loop : ∀ (r n : Nat) (k : Int) (V : VV), r < n → 0 ≤ k → k + r = 20 → 0 ≤ V 9 0 → V 9 0 + 20 ≤ 400 → ∃ V', M_feed_55 n k V = some (V 9 0 + 20, V') ∧ MF [7, 9] V V' ∧ V' 9 0 = V 9 0 + 20 ∧ ∀ j, V' 7 j = if V 9 0 + k ≤ j ∧ j < V 9 0 + 20 then w8 (ishr (V 8 ((j - V 9 0) / 4)) (24 - 8 * ((j - V 9 0) % 4))) else V 7 j := by
  intro r
  induction r with
  | zero =>
    intro n k V hn k0 k1 h0 h1
    cases n with
    | zero => omega
    | succ n =>
      refine ⟨vup V 9 0 (V 9 0 + 20), ?_, MF.ed MF.rf (by decide), vup_at, fun j => by rw [if_neg (by omega), vupN (by decide)]⟩
      rw [M_feed_55, if_pos (by omega)]
      unfold M_feed_101
      rw [w32_id (by omega) (by omega), nm_eq, vup_at]
  | succ r ih =>
    intro n k V hn k0 k1 h0 h1
    cases n with
    | zero => omega
    | succ n =>
      have e9 : vup V 7 (V 9 0 + k) (w8 (ishr (V 8 (k / 4)) (24 - 8 * (k % 4)))) 9 = V 9 := vupN (by decide)
      have e8 : vup V 7 (V 9 0 + k) (w8 (ishr (V 8 (k / 4)) (24 - 8 * (k % 4)))) 8 = V 8 := vupN (by decide)
      obtain ⟨V', q1, q2, q3, q4⟩ := ih n (k + 1) (vup V 7 (V 9 0 + k) (w8 (ishr (V 8 (k / 4)) (24 - 8 * (k % 4))))) (by omega) (by omega) (by omega) (by rw [e9]; exact h0) (by rw [e9]; exact h1)
      rw [e9] at q1 q3
      rw [e9, e8] at q4
      refine ⟨V', ?_, MF.st q2 (by decide), q3, fun j => ?_⟩
      · have t4 : k.tdiv 4 = k / 4 := Int.tdiv_eq_ediv_of_nonneg k0
        have m4 : k.tmod 4 = k % 4 := Int.tmod_eq_emod_of_nonneg k0
        rw [M_feed_55, if_neg (by omega), t4, m4, w32_id (x := k / 4) (by omega) (by omega), ck_ok (by omega) (by omega), w32_id (x := V 9 0 + k) (by omega) (by omega), ck_ok (by omega) (by omega), w32_id (x := 8 * (k % 4)) (by omega) (by omega), w32_id (x := 24 - 8 * (k % 4)) (by omega) (by omega), w8_w8, nm_eq, nm_eq, w32_id (by omega) (by omega)]
        exact q1
      · rw [q4]
        by_cases c : V 9 0 + (k + 1) ≤ j ∧ j < V 9 0 + 20
        · rw [if_pos c, if_pos (by omega)]
        · rw [if_neg c]
          by_cases c2 : j = V 9 0 + k
          · rw [c2, vup_at, if_pos (by omega), show V 9 0 + k - V 9 0 = k by omega]
          · rw [vup_off c2, if_neg (by omega)]
theorem op_feed : OP_feed Rel := by
  intro n h V hn _ _ ⟨g, P, R⟩ a ha b hb d hd e he x hx
  have H := R.sh
  obtain ⟨s1, s2, s3, s4, s5, s6, s7⟩ := R.sc
  by_cases c : V 9 0 + 20 ≤ 400
  · obtain ⟨h1, p1, f1, t1, v1⟩ := four_eq a H s5 s6.1 (by omega)
    have H1 := H.wt f1
    obtain ⟨h2, p2, f2, t2, v2⟩ := four_eq b H1 t1 (by omega) (by omega)
    have H2 := H1.wt f2
    obtain ⟨h3, p3, f3, t3, v3⟩ := four_eq d H2 t2 (by omega) (by omega)
    have H3 := H2.wt f3
    obtain ⟨h4, p4, f4, t4, v4⟩ := four_eq e H3 t3 (by omega) (by omega)
    have H4 := H3.wt f4
    obtain ⟨h5, p5, f5, t5, v5⟩ := four_eq x H4 t4 (by omega) (by omega)
    have H5 := H4.wt f5
    have fw : Fr WT 0 0 h h5 := (((f1.tr f2 (fun _ _ _ q => q)).tr f3 (fun _ _ _ q => q)).tr f4 (fun _ _ _ q => q)).tr f5 (fun _ _ _ q => q)
    have f : Fr XW 0 0 h h5 := fw.up (fun a j _ q => by unfold WT at q; unfold XW; omega) (Nat.le_refl _) (Nat.le_refl _)
    have hn1 := H.1
    have x1 : ∀ j, j ≠ 12 → xv h5 1 j = xv h 1 j := fun j hj => fw.v (by omega) (fun q => by unfold WT at q; omega)
    have x14 : ∀ j, xv h5 14 j = xv h 14 j := fun j => fw.v (by omega) (fun q => by unfold WT at q; omega)
    obtain ⟨V', q1, q2, q3, q4⟩ := M_feed_loop 20 FU 0 (vup (vup (vup (vup (vup V 8 0 a) 8 1 b) 8 2 d) 8 3 e) 8 4 x) (by rw [FU_eq]; decide) (by decide) (by decide) (by rw [vupN (by decide), vupN (by decide), vupN (by decide), vupN (by decide), vupN (by decide)]; exact s6.1) (by rw [vupN (by decide), vupN (by decide), vupN (by decide), vupN (by decide), vupN (by decide)]; exact c)
    have e9 : vup (vup (vup (vup (vup V 8 0 a) 8 1 b) 8 2 d) 8 3 e) 8 4 x 9 = V 9 := by rw [vupN (by decide), vupN (by decide), vupN (by decide), vupN (by decide), vupN (by decide)]
    have e7 : vup (vup (vup (vup (vup V 8 0 a) 8 1 b) 8 2 d) 8 3 e) 8 4 x 7 = V 7 := by rw [vupN (by decide), vupN (by decide), vupN (by decide), vupN (by decide), vupN (by decide)]
    rw [e9] at q1 q3
    rw [e9, e7] at q4
    have m : MF [7, 8, 9] V V' := MF.st (MF.st (MF.st (MF.st (MF.st (q2.up (by decide)) (by decide)) (by decide)) (by decide)) (by decide)) (by decide)
    have ev : ∀ k, k ∉ [7, 8, 9] → V' k = V k := m
    refine (R.stepX f (ev 3 (by decide)) (ev 4 (by decide)) (ev 5 (by decide)) (ev 6 (by decide)) ?_ (R.tb.xw f (x1 8 (by decide)) (ev _ (by decide)) (ev _ (by decide)) (ev _ (by decide)) H) (R.ca.keep (fun k hk => ev k (by intro q; revert hk q; revert k; decide)) ?_) ?_ (by decide) (by decide)).op hn (r := V 9 0 + 20) ?_ ?_
    · unfold SC
      rw [ev 0 (by decide), ev 2 (by decide), ev 10 (by decide), ev 59 (by decide), x1 5 (by decide), x1 6 (by decide), x1 7 (by decide), q3]
      refine ⟨s1, fun k k0 k1 => by rw [x14]; exact s2 k k0 k1, s3, s4, by rw [t5]; omega, by omega, fun k k0 k1 => ?_⟩
      rw [q4, v5, v4, v3, v2, v1, s7 k k0 k1]
      by_cases c0 : V 9 0 ≤ k ∧ k < V 9 0 + 20
      · rw [if_pos (show V 9 0 + 0 ≤ k ∧ k < V 9 0 + 20 by omega)]
        generalize ey : k - V 9 0 = y
        have hy : y / 4 = 0 ∨ y / 4 = 1 ∨ y / 4 = 2 ∨ y / 4 = 3 ∨ y / 4 = 4 := by omega
        rcases hy with hy | hy | hy | hy | hy
        · rw [if_neg (by omega), if_neg (by omega), if_neg (by omega), if_neg (by omega), if_pos (by omega), hy, vup_off (by decide), vup_off (by decide), vup_off (by decide), vup_off (by decide), vup_at]; congr 2; omega
        · rw [if_neg (by omega), if_neg (by omega), if_neg (by omega), if_pos (by omega), hy, vup_off (by decide), vup_off (by decide), vup_off (by decide), vup_at]; congr 2; omega
        · rw [if_neg (by omega), if_neg (by omega), if_pos (by omega), hy, vup_off (by decide), vup_off (by decide), vup_at]; congr 2; omega
        · rw [if_neg (by omega), if_pos (by omega), hy, vup_off (by decide), vup_at]; congr 2; omega
        · rw [if_pos (by omega), hy, vup_at]; congr 2; omega
      · rw [if_neg (by omega), if_neg (by omega), if_neg (by omega), if_neg (by omega), if_neg (by omega), if_neg (by omega)]
    · rw [x1 9 (by decide)]
      rcases R.ca.2.2.2.2 with q | q
      · exact Or.inl q
      · exact Or.inr (q.xw R.er H f)
    · rw [ev 1 (by decide)]; have := R.vr; omega
    · unfold F_X0_feed
      rw [obk H.x1, s5, w32_id (by omega) (by omega), if_pos c, obk H.x1, p1, mb_some, obk H1.x1, p2, mb_some, obk H2.x1, p3, mb_some, obk H3.x1, p4, mb_some, obk H4.x1, p5, mb_some, obk H5.x1, t5]
      congr 2; omega
    · unfold M_feed
      rw [w32_id (by omega) (by omega), if_pos c, nm_eq, nm_eq, nm_eq, nm_eq, nm_eq]
      exact q1
  · refine R.same.op hn (r := -1) ?_ ?_
    · unfold F_X0_feed
      rw [obk H.x1, s5, w32_id (by omega) (by omega), if_neg c]
    · unfold M_feed
      rw [w32_id (by omega) (by omega), if_neg c]
