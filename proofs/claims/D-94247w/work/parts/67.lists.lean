/-! plain law: a list grows by one -/
set_option maxRecDepth 100000
set_option maxHeartbeats 400000
def isObj (h : XH) (x : Int) : Prop := 1 ≤ x ∧ x ≤ (xn h : Int) ∧ xk h x < 27 ∧ (xCls (xk h x) = "java/lang/Object" ∨ Cond.castable (xCls (xk h x)) "java/lang/Object" ∈ lw_tbl)
theorem exk {β : Type} {h : XH} {x : Int} {r : Option β} (H : isObj h x) : ex h "java/lang/Object" x r = r := by
  unfold ex
  exact if_pos (Or.inr H)
theorem isObj.ob {h h' : XH} {x : Int} (H : isObj h x) (hn : xn h ≤ xn h') (hk : xk h' x = xk h x) : isObj h' x := ⟨H.1, by have := H.2.1; omega, by rw [hk]; exact H.2.2.1, by rw [hk]; exact H.2.2.2⟩
theorem alok {β : Type} {h : XH} {a : Int} {r : Option β} (H : a = -1 ∨ OB h a 109) : alo h a r = r := if_pos H
def AW (h : XH) (l n : Int) : Int → Int → Prop := fun a j => a = l ∨ (a = xv h l 1 ∧ j = n ∧ 1 ≤ a)
def Added (h h' : XH) (l n x : Int) : Prop := Fr (AW h l n) 1 300 h h' ∧ xv h' l 2 = n + 1 ∧ OB h' l 26 ∧ OB h' (xv h' l 1) 109 ∧ n + 1 ≤ (xl h' (xv h' l 1) : Int) ∧ (xv h' l 1 = xv h l 1 ∨ xv h' l 1 = hnx h) ∧ (∀ k, 0 ≤ k → k < n → nth h' l k = nth h l k) ∧ nth h' l n = x
theorem F_add_eq {g : Int → Int} {t : Int} {h : XH} {l n x : Int} (L : LR g t h l n) (hn : n ≤ 150) (X : isObj h x) (hel : ∀ k, 0 ≤ k → k < n → isObj h (nth h l k)) : ∃ h', F_J2_add l x h = some (1, h') ∧ Added h h' l n x := by
  obtain ⟨o, -, e2, n0, q⟩ := L
  have v1 : xv (hset h l 0 (w32 (xv h l 0 + 1))) l 1 = xv h l 1 := hset_vj (by decide)
  have v2 : xv (hset h l 0 (w32 (xv h l 0 + 1))) l 2 = n := (hset_vj (by decide)).trans e2
  have o1 : OB (hset h l 0 (w32 (xv h l 0 + 1))) l 26 := o
  have X1 : isObj (hset h l 0 (w32 (xv h l 0 + 1))) x := X
  have f1 : Fr (AW h l n) 0 0 h (hset h l 0 (w32 (xv h l 0 + 1))) := Fr.set fun _ => Or.inl rfl
  unfold F_J2_add
  rw [obk o, obk o, nm_eq, obk o1, obk o1, obk o1, v1, v2]
  generalize hh : hset h l 0 (w32 (xv h l 0 + 1)) = h1 at *
  have hx : hnx h1 = hnx h := by rw [← hh]; rfl
  have hnn : xn h1 = xn h := by rw [← hh]; rfl
  rcases q with ⟨q1, q2⟩ | ⟨o9, -, q2⟩
  · have hw : (if (10 : Int) < w32 (n + 1) then w32 (n + 1) else (10 : Int)) = 10 := by rw [q2]; rfl
    have oq : OB (hset (hnew h1 109 10) l 1 (hnx h1)) l 26 := OB.new o1
    have on : OB (hset (hnew h1 109 10) l 1 (hnx h1)) (hnx h1) 109 := OB.nx h1 109 10
    have xq : isObj (hset (hnew h1 109 10) l 1 (hnx h1)) x := X1.ob (Nat.le_succ _) (hnew_k (n := 10) X1.2.1)
    have nla : l ≠ hnx h1 := fun e => by have := o1.2.1; unfold hnx at e; omega
    have f2 : Fr (AW h l n) 1 10 h1 (hnew h1 109 10) := Fr.new
    have eg : F_J2_grow l h1 = some (hnx h1, hset (hnew h1 109 10) l 1 (hnx h1)) := by
      unfold F_J2_grow F_J2_grow_2
      rw [obk o1, obk o1, v2, obk o1, v1, q1, alok (Or.inl rfl), show xln h1 (-1) = 0 from if_pos rfl, nm_eq, if_neg (by decide), obk o1]
      unfold gm
      rw [if_pos (by decide), if_pos rfl, hw, nm_eq, nak (by decide) (by decide), obk (OB.new o1), nm_eq, mb_some]
      rfl
    refine ⟨hset (hset (hset (hnew h1 109 10) l 1 (hnx h1)) (hnx h1) n x) l 2 (n + 1), ?_, ?_⟩
    · unfold F_J2_add_2
      rw [q1, alok (Or.inl rfl), show xln h1 (-1) = 0 from if_pos rfl, if_pos q2, obk o1, eg, mb_some]
      unfold F_J2_add_2_11
      rw [aik (t := 9) on n0 (by rw [q2]; show (0 : Int) < ((xl (hnew h1 109 10) (hnx h1) : Nat) : Int); rw [hnew_l0]; decide), exk xq, nm_eq, obk (h := hset (hset (hnew h1 109 10) l 1 (hnx h1)) (hnx h1) n x) oq, w32_id (by omega) (by omega), nm_eq, mb_some]
    · have w1 : xv (hset (hset (hset (hnew h1 109 10) l 1 (hnx h1)) (hnx h1) n x) l 2 (n + 1)) l 1 = hnx h1 := (hset_vj (by decide)).trans ((hset_vn nla).trans hset_vv)
      refine ⟨⟨⟨by show xn h ≤ xn h1 + 1; omega, ?_, ?_⟩, fun a ha => ?_, fun a j ha hW => ?_⟩, hset_vv, oq, by rw [w1]; exact on, ?_, Or.inr (w1.trans hx), fun k k0 k1 => by omega, ?_⟩
      · show xc h1 + 1 ≤ xc h + 1; have := f1.1.2.1; omega
      · show xs h1 + 10 ≤ xs h + 300; have := f1.1.2.2; omega
      · have h2 : a ≤ (xn h1 : Int) := by omega
        exact ⟨(hnew_k (k := 109) (n := 10) h2).trans (f1.k ha), (hnew_l (k := 109) (n := 10) h2).trans (f1.l ha)⟩
      · have n1 : a ≠ l := fun e => hW (Or.inl e)
        have n2 : a ≠ hnx h1 := fun e => by unfold hnx at e; omega
        rw [hset_vn n1, hset_vn n2, hset_vn n1, hnew_v (by omega)]
        exact f1.v ha hW
      · rw [w1, q2]; show (0 : Int) + 1 ≤ ((xl (hnew h1 109 10) (hnx h1) : Nat) : Int); rw [hnew_l0]; decide
      · unfold nth
        rw [w1, hset_vn nla.symm, hset_vv]
  · have oa : OB h1 (xv h l 1) 109 := f1.ob o9
    have hl : xl h1 (xv h l 1) = xl h (xv h l 1) := f1.l o9.2.1
    have nla : l ≠ xv h l 1 := OB.ne o o9 (by decide)
    have exl : xln h1 (xv h l 1) = (xl h (xv h l 1) : Int) := by unfold xln; rw [if_neg (by have := o9.1; omega), hl]
    have e11 : ∀ (h2 : XH) (a : Int), OB h2 l 26 → OB h2 a 109 → n < (xl h2 a : Int) → isObj h2 x → F_J2_add_2_11 l x a n h2 = some (0, hset (hset h2 a n x) l 2 (n + 1)) := fun h2 a b1 b2 b3 b4 => by
      unfold F_J2_add_2_11
      rw [aik (t := 9) b2 n0 b3, exk b4, nm_eq, obk (h := hset h2 a n x) b1, w32_id (by omega) (by omega), nm_eq]
    by_cases c : n = (xl h (xv h l 1) : Int)
    · have elem : ∀ k, 0 ≤ k → k < n → xv h1 (xv h l 1) k = nth h l k := fun k k0 k1 => f1.v o9.2.1 fun q => by
        rcases q with q | ⟨-, q, -⟩
        · exact nla q.symm
        · omega
      have nax : hnx h1 ≠ xv h l 1 := fun e => by have := oa.2.1; unfold hnx at e; omega
      have eN : ∃ m : Int, n < m ∧ m ≤ 300 ∧ F_J4_newLength n (w32 (w32 (n + 1) - n)) (ishr n 1) h1 = some (m, h1) := by
        have e1 : w32 (w32 (n + 1) - n) = 1 := by rw [w32_id (x := n + 1) (by omega) (by omega), w32_id (by omega) (by omega)]; omega
        have e2 : 0 ≤ ishr n 1 ∧ ishr n 1 ≤ n := by
          obtain ⟨k, rfl⟩ := Int.eq_ofNat_of_zero_le n0
          have := ishr_n (a := k) (k := 1) (by omega) (by decide)
          rw [show ((1 : Nat) : Int) = 1 from rfl] at this
          rw [this]
          have := Nat.shiftRight_le k 1
          omega
        refine ⟨n + (if (1 : Int) < ishr n 1 then ishr n 1 else 1), by split <;> omega, by split <;> omega, ?_⟩
        unfold F_J4_newLength
        rw [e1, nm_eq, nm_eq, w32_id (by split <;> omega) (by split <;> omega), if_neg (by split <;> omega), if_neg (by split <;> omega)]
      obtain ⟨m, hm0, hm1, em⟩ := eN
      have o2 : OB (hnew h1 109 m.toNat) l 26 := OB.new o1
      have oa2 : OB (hnew h1 109 m.toNat) (xv h l 1) 109 := OB.new oa
      have on2 : OB (hnew h1 109 m.toNat) (hnx h1) 109 := OB.nx h1 109 m.toNat
      have la2 : xl (hnew h1 109 m.toNat) (xv h l 1) = xl h (xv h l 1) := (hnew_l oa.2.1).trans hl
      have ln2 : xl (hnew h1 109 m.toNat) (hnx h1) = m.toNat := hnew_l0
      have va2 : ∀ k, xv (hnew h1 109 m.toNat) (xv h l 1) k = xv h1 (xv h l 1) k := fun k => hnew_v oa.2.1
      have ec : F_J5_copyOf (xv h l 1) m h1 = some (hnx h1, hcpy (hnew h1 109 m.toNat) (xv h l 1) 0 (hnx h1) 0 n) := by
        have ex2 : xln (hnew h1 109 m.toNat) (xv h l 1) = n := by unfold xln; rw [if_neg (by have := o9.1; omega), la2, c]
        unfold F_J5_copyOf F_J5_copyOf_2 gq
        rw [alk (t := 9) oa, if_pos rfl, nak (by omega) (by omega), alok (Or.inr oa2), ex2, nm_eq, if_neg (by omega)]
        unfold cpg
        rw [if_pos ⟨oa2, on2, by decide, by decide, n0, by rw [la2]; omega, by rw [ln2]; omega⟩]
        unfold eg
        rw [if_pos (show okE _ _ _ _ _ from fun i i0 i1 => by
          have hi := hel i (by omega) (by omega)
          rw [va2, elem i (by omega) (by omega)]
          exact Or.inr (hi.ob (by show xn h ≤ xn h1 + 1; omega) ((hnew_k (by have := hi.2.1; omega)).trans (f1.k hi.2.1)))), nm_eq, mb_some]
      have e20 : F_J2_grow_2_20 l (w32 (n + 1)) n h1 = some (hnx h1, hset (hcpy (hnew h1 109 m.toNat) (xv h l 1) 0 (hnx h1) 0 n) l 1 (hnx h1)) := by
        unfold F_J2_grow_2_20
        rw [em, mb_some, obk o1, v1, ec, mb_some, obk (h := hcpy (hnew h1 109 m.toNat) (xv h l 1) 0 (hnx h1) 0 n) o2, nm_eq]
      have eg : F_J2_grow l h1 = some (hnx h1, hset (hcpy (hnew h1 109 m.toNat) (xv h l 1) 0 (hnx h1) 0 n) l 1 (hnx h1)) := by
        unfold F_J2_grow F_J2_grow_2
        rw [obk o1, obk o1, v2, obk o1, v1, alok (Or.inr oa), exl, ← c, nm_eq]
        by_cases cz : 0 < n
        · rw [if_pos cz, e20, mb_some]
        · rw [if_neg cz, obk o1]
          unfold gm
          rw [if_pos (by have := o9.1; omega), if_neg (by have := o9.1; omega), e20, mb_some]
      have lnx : l ≠ hnx h1 := fun e => by have := o1.2.1; unfold hnx at e; omega
      have o3 : OB (hset (hcpy (hnew h1 109 m.toNat) (xv h l 1) 0 (hnx h1) 0 n) l 1 (hnx h1)) l 26 := o2
      have on3 : OB (hset (hcpy (hnew h1 109 m.toNat) (xv h l 1) 0 (hnx h1) 0 n) l 1 (hnx h1)) (hnx h1) 109 := on2
      have x3 : isObj (hset (hcpy (hnew h1 109 m.toNat) (xv h l 1) 0 (hnx h1) 0 n) l 1 (hnx h1)) x := X1.ob (Nat.le_succ _) (hnew_k (n := m.toNat) X1.2.1)
      refine ⟨hset (hset (hset (hcpy (hnew h1 109 m.toNat) (xv h l 1) 0 (hnx h1) 0 n) l 1 (hnx h1)) (hnx h1) n x) l 2 (n + 1), ?_, ?_⟩
      · unfold F_J2_add_2
        rw [alok (Or.inr oa), exl, if_pos c, obk o1, eg, mb_some, e11 _ _ o3 on3 (by show n < ((xl (hnew h1 109 m.toNat) (hnx h1) : Nat) : Int); rw [ln2]; omega) x3, mb_some]
      · have w1 : xv (hset (hset (hset (hcpy (hnew h1 109 m.toNat) (xv h l 1) 0 (hnx h1) 0 n) l 1 (hnx h1)) (hnx h1) n x) l 2 (n + 1)) l 1 = hnx h1 := (hset_vj (by decide)).trans ((hset_vn lnx).trans hset_vv)
        have cv : ∀ k, xv (hcpy (hnew h1 109 m.toNat) (xv h l 1) 0 (hnx h1) 0 n) (hnx h1) k = if 0 ≤ k ∧ k < n then xv h1 (xv h l 1) k else 0 := fun k => by
          show (if hnx h1 = hnx h1 ∧ 0 ≤ k ∧ k < 0 + n then xv (hnew h1 109 m.toNat) (xv h l 1) (0 + (k - 0)) else xv (hnew h1 109 m.toNat) (hnx h1) k) = _
          by_cases ck : 0 ≤ k ∧ k < n
          · rw [if_pos ⟨rfl, ck.1, by omega⟩, if_pos ck, va2, show 0 + (k - 0) = k by omega]
          · rw [if_neg (by omega), if_neg ck, hnew_v0]
        have co : ∀ a j, a ≤ (xn h1 : Int) → xv (hcpy (hnew h1 109 m.toNat) (xv h l 1) 0 (hnx h1) 0 n) a j = xv h1 a j := fun a j ha => by
          have n2 : a ≠ hnx h1 := fun e => by unfold hnx at e; omega
          show (if a = hnx h1 ∧ 0 ≤ j ∧ j < 0 + n then _ else xv (hnew h1 109 m.toNat) a j) = _
          rw [if_neg (fun e => n2 e.1), hnew_v ha]
        refine ⟨⟨⟨by show xn h ≤ xn h1 + 1; omega, ?_, ?_⟩, fun a ha => ?_, fun a j ha hW => ?_⟩, hset_vv, o3, by rw [w1]; exact on3, ?_, Or.inr (w1.trans hx), fun k k0 k1 => ?_, ?_⟩
        · show xc h1 + 1 ≤ xc h + 1; have := f1.1.2.1; omega
        · show xs h1 + m.toNat ≤ xs h + 300; have := f1.1.2.2; omega
        · have h2 : a ≤ (xn h1 : Int) := by omega
          exact ⟨(hnew_k (k := 109) (n := m.toNat) h2).trans (f1.k ha), (hnew_l (k := 109) (n := m.toNat) h2).trans (f1.l ha)⟩
        · have n1 : a ≠ l := fun e => hW (Or.inl e)
          have n2 : a ≠ hnx h1 := fun e => by unfold hnx at e; omega
          rw [hset_vn n1, hset_vn n2, hset_vn n1, co _ _ (by omega)]
          exact f1.v ha hW
        · rw [w1]; show n + 1 ≤ ((xl (hnew h1 109 m.toNat) (hnx h1) : Nat) : Int); rw [ln2]; omega
        · show xv _ (xv _ l 1) k = _
          rw [w1, hset_vn lnx.symm, hset_vj (by omega), hset_vn lnx.symm, cv, if_pos ⟨k0, k1⟩, elem k k0 k1]
        · show xv _ (xv _ l 1) n = _
          rw [w1, hset_vn lnx.symm, hset_vv]
    · refine ⟨hset (hset h1 (xv h l 1) n x) l 2 (n + 1), ?_, ?_⟩
      · unfold F_J2_add_2
        rw [alok (Or.inr oa), exl, if_neg c, e11 h1 _ o1 oa (by rw [hl]; omega) X1, mb_some]
      · have f : Fr (AW h l n) 0 0 h (hset (hset h1 (xv h l 1) n x) l 2 (n + 1)) := (f1.tr (Fr.set (W := AW h l n) (fun _ => Or.inr ⟨rfl, rfl, o9.1⟩)) (fun _ _ _ q => q)).tr (Fr.set (W := AW h l n) (fun _ => Or.inl rfl)) (fun _ _ _ q => q)
        have w1 : xv (hset (hset h1 (xv h l 1) n x) l 2 (n + 1)) l 1 = xv h l 1 := (hset_vj (by decide)).trans ((hset_vn nla).trans v1)
        refine ⟨f.up (fun _ _ _ q => q) (by decide) (by decide), hset_vv, f.ob o, by rw [w1]; exact f.ob o9, ?_, Or.inl w1, fun k k0 k1 => ?_, ?_⟩
        · rw [w1, f.l o9.2.1]; omega
        · unfold nth
          rw [w1]
          exact f.v o9.2.1 fun q => by
            rcases q with q | ⟨-, q, -⟩
            · exact nla q.symm
            · omega
        · unfold nth
          rw [w1, hset_vn nla.symm, hset_vv]
