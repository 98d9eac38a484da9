/-! plain law: the two ends of a step, over MID -/
set_option maxRecDepth 100000
set_option maxHeartbeats 400000
theorem RelG.finWas {g g' : Int → Int} {P P' : Nat → CLS} {n : Nat} {h h1 : XH} {V V1 : VV} (hn : n < 64) (R : RelG g P n h V) (M : MID g' h V h1) (E1 : ER g' 1 h1 (xv h 1 0) (V1 3) P') (K1 : KI (V1 3)) (P1 : PR (V1 3) P') (m : MF [3] V V1) (hc : xc h1 ≤ xc h + 18000) (hs : xs h1 ≤ xs h + 80000) : RelG g' P' (n + 1) (hset (hset h1 1 9 0) 1 5 0) (vup (vup V1 0 0 0) 1 0 (w32 (V1 1 0 + 1))) := by
  obtain ⟨H1, G1, I1, e1, e14, e16, T1⟩ := M
  have hvr := R.vr
  have f2 : Fr XW 0 0 h1 (hset (hset h1 1 9 0) 1 5 0) := (Fr.set (fun _ => Or.inl ⟨rfl, by omega⟩)).tr (Fr.set (W := XW) (fun _ => Or.inl ⟨rfl, by omega⟩)) (fun _ _ _ q => q)
  have ev : ∀ k, k ≠ 0 → k ≠ 1 → vup (vup V1 0 0 0) 1 0 (w32 (V1 1 0 + 1)) k = V1 k := fun k a b => (vupN b).trans (vupN a)
  have ev2 : ∀ k, k ≠ 0 → k ≠ 1 → k ≠ 3 → vup (vup V1 0 0 0) 1 0 (w32 (V1 1 0 + 1)) k = V k := fun k a b d => (ev k a b).trans (m k (by intro q; simp at q; exact d q))
  have x8 : xv (hset (hset h1 1 9 0) 1 5 0) 1 8 = xv h1 1 8 := (hset_vj (by decide)).trans (hset_vj (by decide))
  have e10 : V1 1 = V 1 := m 1 (by decide)
  have ew : w32 (V1 1 0 + 1) = V 1 0 + 1 := by rw [e10]; exact w32_id (by omega) (by omega)
  have ok := XW.ok H1 G1
  refine ⟨H1.fr f2 (fun j hj q => by unfold XW at q; omega) (fun q => by unfold XW at q; omega) (fun q => by unfold XW at q; omega), G1.fr f2, ?_, ?_, ?_, ⟨?_, ?_⟩, ?_, ?_, ?_, ?_, ?_, ?_⟩
  · rw [ev 3 (by decide) (by decide), hset_vj (by decide), hset_vj (by decide), e1]
    exact E1.fr K1.1.1.2 (by decide) ok f2
  · rw [ev 3 (by decide) (by decide)]; exact K1
  · rw [ev 3 (by decide) (by decide)]; exact P1
  · exact I1.1.fr (by decide) ok f2 ((hset_vn (by decide)).trans (hset_vn (by decide))) (ev2 4 (by decide) (by decide) (by decide)) (ev2 5 (by decide) (by decide) (by decide))
  · exact I1.2.fr (by decide) ok f2 ((hset_vn (by decide)).trans (hset_vn (by decide))) (ev2 4 (by decide) (by decide) (by decide)) (ev2 5 (by decide) (by decide) (by decide))
  · obtain ⟨s1, s2, s3, s4, s5, s6, s7⟩ := R.sc
    unfold SC
    rw [ev2 2 (by decide) (by decide) (by decide), ev2 10 (by decide) (by decide) (by decide), ev2 59 (by decide) (by decide) (by decide), ev2 9 (by decide) (by decide) (by decide), ev2 7 (by decide) (by decide) (by decide)]
    refine ⟨?_, fun k k0 k1 => ?_, ?_, ?_, ?_, s6, fun k k0 k1 => ?_⟩
    · rw [hset_vv, vupN (by decide), vup_at]
    · rw [hset_vn (by decide), hset_vn (by decide), e14]; exact s2 k k0 k1
    · rw [hset_vj (by decide), hset_vj (by decide), e1]; exact s3
    · rw [hset_vj (by decide), hset_vj (by decide), e1]; exact s4
    · rw [hset_vj (by decide), hset_vj (by decide), e1]; exact s5
    · rw [hset_vn (by decide), hset_vn (by decide), e16]; exact s7 k k0 k1
  · exact T1.xw f2 x8 (ev2 _ (by decide) (by decide) (by decide)) (ev2 _ (by decide) (by decide) (by decide)) (ev2 _ (by decide) (by decide) (by decide)) H1
  · unfold MW; rw [ev2 6 (by decide) (by decide) (by decide)]; exact R.mw
  · refine R.ca.bump (ev2 35 (by decide) (by decide) (by decide)) (ev2 58 (by decide) (by decide) (by decide)) (by rw [vup_at, ew]) (Or.inl ?_)
    rw [hset_vj (by decide), hset_vv]
  · rw [vup_at, ew]; omega
  · have := R.rm; have e := f2.1.2; constructor <;> omega
theorem RelG.finTell {g g' : Int → Int} {P P' : Nat → CLS} {n : Nat} {h h1 : XH} {V V1 : VV} (hn : n < 64) (R : RelG g P n h V) (M : MID g' h V h1) (E1 : ER g' 1 h1 (xv h 1 0) (V1 3) P') (K1 : KI (V1 3)) (P1 : PR (V1 3) P') (m : MF [3] V V1) (fs : xv h 1 9 = 0 ∨ FS h1 (xv h 1 9) (V1 3) (curP (V1 3) P')) (hc : xc h1 ≤ xc h + 18000) (hs : xs h1 ≤ xs h + 80000) : RelG g' P' (n + 1) (hset h1 1 5 0) (vup (vup V1 0 0 0) 1 0 (w32 (V1 1 0 + 1))) := by
  obtain ⟨H1, G1, I1, e1, e14, e16, T1⟩ := M
  have hvr := R.vr
  have f2 : Fr XW 0 0 h1 (hset h1 1 5 0) := Fr.set (fun _ => Or.inl ⟨rfl, by omega⟩)
  have ev : ∀ k, k ≠ 0 → k ≠ 1 → vup (vup V1 0 0 0) 1 0 (w32 (V1 1 0 + 1)) k = V1 k := fun k a b => (vupN b).trans (vupN a)
  have ev2 : ∀ k, k ≠ 0 → k ≠ 1 → k ≠ 3 → vup (vup V1 0 0 0) 1 0 (w32 (V1 1 0 + 1)) k = V k := fun k a b d => (ev k a b).trans (m k (by intro q; simp at q; exact d q))
  have x8 : xv (hset h1 1 5 0) 1 8 = xv h1 1 8 := hset_vj (by decide)
  have x9 : xv (hset h1 1 5 0) 1 9 = xv h 1 9 := (hset_vj (by decide)).trans (e1 9)
  have e10 : V1 1 = V 1 := m 1 (by decide)
  have ew : w32 (V1 1 0 + 1) = V 1 0 + 1 := by rw [e10]; exact w32_id (by omega) (by omega)
  have ok := XW.ok H1 G1
  refine ⟨H1.fr f2 (fun j hj q => by unfold XW at q; omega) (fun q => by unfold XW at q; omega) (fun q => by unfold XW at q; omega), G1.fr f2, ?_, ?_, ?_, ⟨?_, ?_⟩, ?_, ?_, ?_, ?_, ?_, ?_⟩
  · rw [ev 3 (by decide) (by decide), hset_vj (by decide), e1]
    exact E1.fr K1.1.1.2 (by decide) ok f2
  · rw [ev 3 (by decide) (by decide)]; exact K1
  · rw [ev 3 (by decide) (by decide)]; exact P1
  · exact I1.1.fr (by decide) ok f2 (hset_vn (by decide)) (ev2 4 (by decide) (by decide) (by decide)) (ev2 5 (by decide) (by decide) (by decide))
  · exact I1.2.fr (by decide) ok f2 (hset_vn (by decide)) (ev2 4 (by decide) (by decide) (by decide)) (ev2 5 (by decide) (by decide) (by decide))
  · obtain ⟨s1, s2, s3, s4, s5, s6, s7⟩ := R.sc
    unfold SC
    rw [ev2 2 (by decide) (by decide) (by decide), ev2 10 (by decide) (by decide) (by decide), ev2 59 (by decide) (by decide) (by decide), ev2 9 (by decide) (by decide) (by decide), ev2 7 (by decide) (by decide) (by decide)]
    refine ⟨?_, fun k k0 k1 => ?_, ?_, ?_, ?_, s6, fun k k0 k1 => ?_⟩
    · rw [hset_vv, vupN (by decide), vup_at]
    · rw [hset_vn (by decide), e14]; exact s2 k k0 k1
    · rw [hset_vj (by decide), e1]; exact s3
    · rw [hset_vj (by decide), e1]; exact s4
    · rw [hset_vj (by decide), e1]; exact s5
    · rw [hset_vn (by decide), e16]; exact s7 k k0 k1
  · exact T1.xw f2 x8 (ev2 _ (by decide) (by decide) (by decide)) (ev2 _ (by decide) (by decide) (by decide)) (ev2 _ (by decide) (by decide) (by decide)) H1
  · unfold MW; rw [ev2 6 (by decide) (by decide) (by decide)]; exact R.mw
  · refine R.ca.bump (ev2 35 (by decide) (by decide) (by decide)) (ev2 58 (by decide) (by decide) (by decide)) (by rw [vup_at, ew]) ?_
    rw [x9, ev 3 (by decide) (by decide)]
    rcases fs with q | q3
    · exact Or.inl q
    · refine Or.inr (q3.gen H1 K1.1.1.1 f2 (fun a j _ _ w => ?_) (fun _ k => ?_))
      · rcases w with ⟨rfl, w⟩ | rfl | rfl
        · rw [H1.x1.2.2]; exact ⟨by decide, by decide, by decide, fun e => absurd e (by decide)⟩
        · rw [H1.x14.2.2]; exact ⟨by decide, by decide, by decide, fun e => absurd e (by decide)⟩
        · rw [H1.x16.2.2]; exact ⟨by decide, by decide, by decide, fun e => absurd e (by decide)⟩
      · have o1 := E1.o
        have L := E1.lq
        have e10 : xv (hset h1 1 5 0) 1 0 = xv h1 1 0 := hset_vj (by decide)
        have e11 : xv h1 1 0 = xv h 1 0 := e1 0
        rw [e10, e11]
        have hx : ∀ a k, OB h1 a k → k ≠ 1 → ∀ j, xv (hset h1 1 5 0) a j = xv h1 a j := fun a k ob hk j => hset_vn (OB.ne ob H1.x1 hk)
        rw [hx _ _ o1 (by decide)]
        unfold nth
        rw [hx _ _ L.1 (by decide)]
        rcases L.2.2.2.2 with ⟨l1, l2⟩ | ⟨l1, -⟩
        · rw [l1]; exact hset_vn (by decide)
        · exact hx _ _ l1 (by decide) k
  · rw [vup_at, ew]; omega
  · have := R.rm; have e := f2.1.2; constructor <;> omega
