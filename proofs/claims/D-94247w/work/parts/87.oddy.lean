/-! plain law: the odds on the system's side, bowls -/
set_option maxRecDepth 100000
set_option maxHeartbeats 400000
theorem whole_okx {K th lk : Int → Int} {lean : Int} (B : BWL K th lk lean) {x : Nat} (hx : ansS K th + x ≤ 3) : 1 ≤ wholeS K th lk lean * 100 ^ x ∧ wholeS K th lk lean * 100 ^ x ≤ 21000000000000000 := by
  have hly := B.ly
  have ha := B.ans
  have hch := chooseS_pos hly.1 hly.2.1
  have hch2 := chooseS_2 (n := sizeS th) (k := lyS K th) B.2.2.2.1
  have hp := pow100 hx
  rw [Int.pow_add] at hp
  have h1 := mul_le3 (by omega) (by omega) hch2 hp.2
  have h1' : 1 ≤ chooseS (sizeS th) (lyS K th) * (100 ^ ansS K th * 100 ^ x) := by
    have := Int.mul_le_mul hch hp.1 (by decide) (by omega); omega
  unfold wholeS
  by_cases cl : leanS K th lk lean = true
  · have hle := of_decide_eq_true cl
    have hd2 : lyS K th = K 100 := by unfold lyS; rw [if_pos hle.2.2]
    have hK := B.2.2.2.2.1
    rw [if_pos cl]
    have hsk : sizeS lk ≤ 20 := by
      have e := B.2.2.1
      have := e 0 (by decide) (by decide); have := e 1 (by decide) (by decide); have := e 2 (by decide) (by decide)
      have hs := B.2.2.2.1
      unfold sizeS at hs ⊢; omega
    have ee : chooseS (sizeS th) (lyS K th) * 100 ^ ansS K th * 100 * sizeS lk * lyS K th * 100 ^ x = (chooseS (sizeS th) (lyS K th) * (100 ^ ansS K th * 100 ^ x)) * 100 * sizeS lk * lyS K th := by grind
    rw [ee]
    generalize chooseS (sizeS th) (lyS K th) * (100 ^ ansS K th * 100 ^ x) = z at *
    have h2 := mul_le3 (a := z * 100) (b := sizeS lk) (A := 104857600000000) (B := 20) (by omega) (by omega) (by omega) hsk
    have h3 := mul_le3 (a := z * 100 * sizeS lk) (b := lyS K th) (A := 2097152000000000) (B := 10) (by omega) (by omega) (by omega) (by omega)
    have g2 := Int.mul_le_mul (show (1 : Int) ≤ z * 100 by omega) (show (1 : Int) ≤ sizeS lk by omega) (by decide) (by omega)
    have g3 := Int.mul_le_mul (show (1 : Int) ≤ z * 100 * sizeS lk by omega) (show (1 : Int) ≤ lyS K th by omega) (by decide) (by omega)
    omega
  · rw [if_neg cl, Int.mul_assoc]; omega
theorem Fr.n0 {c s : Nat} {h h' : XH} {W : Int → Int → Prop} (f : Fr (fun _ _ => False) c s h h') : Fr W c s h h' := f.up (fun _ _ _ q => q.elim) (Nat.le_refl _) (Nat.le_refl _)
section
variable {g : Int → Int} {P : Nat → CLS} {K : Int → Int} {h h0 h' : XH}
theorem te_ok (Q : QI g P h K) {w : Int} (h0 : 0 ≤ w) (h1 : w < 7) : OB h (xv h (xv h 1 0) 3) 100 ∧ w < (xl h (xv h (xv h 1 0) 3) : Int) ∧ xv h (xv h (xv h 1 0) 3) w = K (100 + w) := by
  obtain ⟨a, -, b, d⟩ := Q.2.2.1.te
  exact ⟨a, by rw [b]; omega, d w h0 h1⟩
theorem F_chances_eq (Q : QI g P h K) : ∃ h', F_X0_chances 1 h = some (hnx h, h') ∧ Fr (QW h) 1 3 h h' ∧ A3 h' (hnx h) (chS (curP K P)) := by
  have step : ∀ (f : Nat) (l : Int) (h1 : XH), 0 ≤ l → l ≤ 2 → Fr (QW h) 1 3 h h1 → OB h1 (hnx h) 100 → xl h1 (hnx h) = 3 → (∀ i : Int, 0 ≤ i → i < l → xv h1 (hnx h) i = chS (curP K P) i) → ∃ h2, F_X0_chances_6 (f + 1) 1 (hnx h) l h1 = F_X0_chances_6 f 1 (hnx h) (l + 1) h2 ∧ Fr (QW h) 1 3 h h2 ∧ OB h2 (hnx h) 100 ∧ xl h2 (hnx h) = 3 ∧ (∀ i : Int, 0 ≤ i → i < l + 1 → xv h2 (hnx h) i = chS (curP K P) i) := fun f l h1 l0 l1 F o ln hv => by
    have Q1 := Q.fr F
    obtain ⟨h2, e, F2⟩ := F_chance_eq Q1 l0 l1
    have o2 := F2.ob o
    have l2 : xl h2 (hnx h) = 3 := by rw [F2.l o.2.1]; exact ln
    have nq : ∀ j, ¬ QW h1 (hnx h) j := fun j => QW.nk o (Or.inl (by decide)) (Or.inl (by decide)) (Or.inl (by decide)) Q1.1
    rw [F_X0_chances_6, if_neg (by omega), obk Q1.1.x1, e, mb_some, aik (t := 0) o2 l0 (by rw [l2]; omega), nm_eq, nm_eq, w32_id (by omega) (by omega)]
    refine ⟨_, rfl, (QF.tr F F2).setN (by unfold hnx; omega), o2, l2, fun i i0 i1 => ?_⟩
    by_cases e : i = l
    · rw [e, hset_vv]
    · rw [hset_vj e, F2.v o.2.1 (nq i)]; exact hv i i0 (by omega)
  obtain ⟨f, hf⟩ : ∃ f, FU = f + 1 + 1 + 1 + 1 := ⟨19996, by rw [FU_eq]⟩
  obtain ⟨h1, e1, F1, o1, l1, v1⟩ := step (f + 1 + 1 + 1) 0 (hnew h 100 3) (by decide) (by decide) Fr.new (OB.nx h 100 3) (hnew_l0 (k := 100)) (fun i a b => by omega)
  obtain ⟨h2, e2, F2, o2, l2, v2⟩ := step (f + 1 + 1) 1 h1 (by decide) (by decide) F1 o1 l1 v1
  obtain ⟨h3, e3, F3, o3, l3, v3⟩ := step (f + 1) 2 h2 (by decide) (by decide) F2 o2 l2 v2
  refine ⟨h3, ?_, F3, o3, l3, fun l a b => v3 l a (by omega)⟩
  unfold F_X0_chances
  rw [nak (t := 0) (by decide) (by decide), show (3 : Int).toNat = 3 from rfl, hf, e1, show (0 : Int) + 1 = 1 from rfl, e2, show (1 : Int) + 1 = 2 from rfl, e3, F_X0_chances_6, if_pos (by decide)]
/-- a bowl -/
def BW (h : XH) (N b : Int) (c : Int → Int) (most : Int) (th lk : Int → Int) : Prop := OB h b 15 ∧ xv h b 3 = 1 ∧ AO h (xv h b 2) c most ∧ A3 h (xv h b 0) th ∧ A3 h (xv h b 1) lk ∧ (N < b ∧ N < xv h b 0 ∧ N < xv h b 1 ∧ N < xv h b 2) ∧ xv h b 0 ≠ xv h b 1 ∧ xv h (xv h b 2) 0 ≠ xv h b 0 ∧ xv h (xv h b 2) 0 ≠ xv h b 1
theorem BW.fr {W : Int → Int → Prop} {c s : Nat} {N b most : Int} {C th lk : Int → Int} (B : BW h N b C most th lk) (F : Fr W c s h h') (hW : ∀ (a : Int) (k : Nat), OB h a k → k = 15 ∨ k = 16 ∨ k = 100 → ∀ j, ¬ W a j) : BW h' N b C most th lk := by
  obtain ⟨b1, b2, b3, b4, b5, b6, b7, b8, b9⟩ := B
  have e : ∀ j, xv h' b j = xv h b j := fun j => F.v b1.2.1 (hW b 15 b1 (Or.inl rfl) j)
  have e2 : xv h' (xv h b 2) 0 = xv h (xv h b 2) 0 := F.v b3.1.2.1 (hW _ 16 b3.1 (Or.inr (Or.inl rfl)) 0)
  refine ⟨F.ob b1, by rw [e]; exact b2, by rw [e]; exact b3.fr F (hW _ 16 b3.1 (Or.inr (Or.inl rfl))) (hW _ 100 b3.2.2.1 (Or.inr (Or.inr rfl))), by rw [e]; exact b4.fr F (hW _ 100 b4.1 (Or.inr (Or.inr rfl))), by rw [e]; exact b5.fr F (hW _ 100 b5.1 (Or.inr (Or.inr rfl))), by rw [e, e, e]; exact b6, by rw [e, e]; exact b7, by rw [e, e, e2]; exact b8, by rw [e, e, e2]; exact b9⟩
set_option maxHeartbeats 4000000 in
theorem F_bowl_init (Q : QI g P h0 K) {c s : Nat} (f : Fr (QW h0) c s h0 h) {x : Int} (o : OB h x 15) (hx : (xn h0 : Int) < x) : ∃ h', F_X17_init x 1 h = some (0, h') ∧ Fr (QW h0) (c + 4) (s + 11) h0 h' ∧ BW h' (xn h0) x (chS (curP K P)) (K 101) zeroS zeroS := by
  have hn := f.n
  have fa : Fr (QW h0) c s h0 (hset h x 3 1) := f.setN hx
  unfold F_X17_init
  rw [obk o, nm_eq, pz_ok (by have := o.1; omega), nak (t := 0) (by decide) (by decide), show (3 : Int).toNat = 3 from rfl, show 100 + 0 = 100 from rfl]
  have oa : OB (hset h x 3 1) x 15 := o
  have na' : xn (hset h x 3 1) = xn h := rfl
  have va : xv (hset h x 3 1) x 3 = 1 := hset_vv
  generalize hset h x 3 1 = h1 at *
  have er2 : hnx h1 = (xn h : Int) + 1 := by unfold hnx; rw [na']
  have xle := o.2.1
  have fb : Fr (QW h0) (c + 1) (s + 3) h0 (hnew h1 100 3) := fa.tr (Fr.new (W := QW h0)) (fun _ _ _ q => q)
  have ob' : OB (hnew h1 100 3) x 15 := OB.new oa
  have o2 : OB (hnew h1 100 3) (hnx h1) 100 := OB.nx h1 100 3
  have l2 : xl (hnew h1 100 3) (hnx h1) = 3 := hnew_l0
  have v2 : ∀ j, xv (hnew h1 100 3) (hnx h1) j = 0 := fun j => hnew_v0
  have vb : xv (hnew h1 100 3) x 3 = 1 := (hnew_v oa.2.1).trans va
  have nb : xn (hnew h1 100 3) = xn h + 1 := by rw [hnew_n, na']
  rw [obk ob', nm_eq]
  generalize hh2 : hnew h1 100 3 = h2 at *
  have fc : Fr (QW h0) (c + 1) (s + 3) h0 (hset h2 x 0 (hnx h1)) := fb.setN hx
  have nx1 : hnx h1 ≠ x := by omega
  have oc : OB (hset h2 x 0 (hnx h1)) x 15 := ob'
  have o2c : OB (hset h2 x 0 (hnx h1)) (hnx h1) 100 := o2
  have l2c : xl (hset h2 x 0 (hnx h1)) (hnx h1) = 3 := l2
  have v2c : ∀ j, xv (hset h2 x 0 (hnx h1)) (hnx h1) j = 0 := fun j => (hset_vn nx1).trans (v2 j)
  have vc3 : xv (hset h2 x 0 (hnx h1)) x 3 = 1 := (hset_vj (by decide)).trans vb
  have vc0 : xv (hset h2 x 0 (hnx h1)) x 0 = hnx h1 := hset_vv
  have nc : xn (hset h2 x 0 (hnx h1)) = xn h + 1 := nb
  generalize hset h2 x 0 (hnx h1) = h3 at *
  rw [nak (t := 0) (by decide) (by decide), show (3 : Int).toNat = 3 from rfl, show 100 + 0 = 100 from rfl]
  have er5 : hnx h3 = (xn h : Int) + 2 := by unfold hnx; rw [nc]; omega
  have fd : Fr (QW h0) (c + 2) (s + 6) h0 (hnew h3 100 3) := fc.tr (Fr.new (W := QW h0)) (fun _ _ _ q => q)
  have od : OB (hnew h3 100 3) x 15 := OB.new oc
  rw [obk od, nm_eq]
  have fe : Fr (QW h0) (c + 2) (s + 6) h0 (hset (hnew h3 100 3) x 1 (hnx h3)) := fd.setN hx
  have F4 : Fr (fun a j => a = x ∧ j = 1) 1 3 h3 (hset (hnew h3 100 3) x 1 (hnx h3)) := Fr.new.tr (Fr.set (W := fun a j => a = x ∧ j = 1) (fun _ => ⟨rfl, rfl⟩)) (fun _ _ _ q => q)
  have o5 : OB (hset (hnew h3 100 3) x 1 (hnx h3)) (hnx h3) 100 := OB.nx h3 100 3
  have l5 : xl (hset (hnew h3 100 3) x 1 (hnx h3)) (hnx h3) = 3 := hnew_l0 (k := 100)
  have v5 : ∀ j, xv (hset (hnew h3 100 3) x 1 (hnx h3)) (hnx h3) j = 0 := fun j => (hset_vn (by omega)).trans hnew_v0
  have oe : OB (hset (hnew h3 100 3) x 1 (hnx h3)) x 15 := od
  have ve1 : xv (hset (hnew h3 100 3) x 1 (hnx h3)) x 1 = hnx h3 := hset_vv
  have ve : ∀ a j, a ≤ (xn h3 : Int) → ¬ (a = x ∧ j = 1) → xv (hset (hnew h3 100 3) x 1 (hnx h3)) a j = xv h3 a j := fun a j ha hq => F4.v ha hq
  have ne : xn (hset (hnew h3 100 3) x 1 (hnx h3)) = xn h + 2 := by show xn h3 + 1 = _; omega
  have o2e := F4.ob o2c
  have l2e : xl (hset (hnew h3 100 3) x 1 (hnx h3)) (hnx h1) = 3 := by rw [F4.l o2c.2.1]; exact l2c
  have v2e : ∀ j, xv (hset (hnew h3 100 3) x 1 (hnx h3)) (hnx h1) j = 0 := fun j => (ve _ _ o2c.2.1 (fun q => nx1 q.1)).trans (v2c j)
  have ve0 : xv (hset (hnew h3 100 3) x 1 (hnx h3)) x 0 = hnx h1 := (ve _ _ oc.2.1 (fun q => by omega)).trans vc0
  have ve3 : xv (hset (hnew h3 100 3) x 1 (hnx h3)) x 3 = 1 := (ve _ _ oc.2.1 (fun q => by omega)).trans vc3
  generalize hset (hnew h3 100 3) x 1 (hnx h3) = h5 at *
  rw [nw_eq]
  have er8 : hnx h5 = (xn h : Int) + 3 := by unfold hnx; rw [ne]; omega
  have F6 : Fr (fun _ _ => False) 1 2 h5 (hnew h5 16 2) := Fr.new
  have fg : Fr (QW h0) (c + 3) (s + 8) h0 (hnew h5 16 2) := fe.tr (Fr.new (W := QW h0)) (fun _ _ _ q => q)
  have o8 : OB (hnew h5 16 2) (hnx h5) 16 := OB.nx h5 16 2
  have n6 : xn (hnew h5 16 2) = xn h + 3 := by rw [hnew_n, ne]
  rw [obk (F6.ob oe), F6.v oe.2.1 (fun q => q), ve3]
  have Q6 := Q.fr fg
  obtain ⟨h7, e7, F7, A7⟩ := F_chances_eq Q6
  have fh1 := QF.tr fg F7
  have fh : Fr (QW h0) (c + 4) (s + 11) h0 h7 := fh1
  have Q7 := Q.fr fh
  have er10 : hnx (hnew h5 16 2) = (xn h : Int) + 4 := by unfold hnx; rw [n6]; omega
  have F57 : Fr (fun a j => QW (hnew h5 16 2) a j) 2 5 h5 h7 := (F6.up (fun _ _ _ q => q.elim) (Nat.le_refl _) (Nat.le_refl _)).tr F7 (fun _ _ _ q => q)
  have k7 : ∀ (a : Int) (k : Nat), OB h5 a k → k ≠ 101 → k ≠ 3 → k ≠ 14 → ∀ j, xv h7 a j = xv h5 a j := fun a k oo w1 w2 w3 j => F57.v oo.2.1 (QW.nk (F6.ob oo) (Or.inl w1) (Or.inl w2) (Or.inl w3) Q6.1)
  generalize hh6 : hnew h5 16 2 = h6 at *
  generalize hnx h6 = z10 at *
  generalize hnx h5 = z8 at *
  generalize hnx h1 = z2 at *
  generalize hnx h3 = z5 at *
  have o87 := F7.ob o8
  have T := te_ok Q7 (w := 1) (by decide) (by decide)
  rw [obk Q6.1.x1, e7, mb_some, obk (F57.ob oe), k7 x 15 oe (by decide) (by decide) (by decide), ve3, obk Q7.1.x1, obk Q7.2.2.1.o, aik (t := 0) T.1 (by decide) T.2.1, pz_ok (by omega), T.2.2, show (100 : Int) + 1 = 101 from rfl]
  have e18 : F_X18_init z8 (z10) (K 101) h7 = some (0, hset (hset h7 z8 0 (z10)) z8 1 (K 101)) := by
    unfold F_X18_init
    rw [pz_ok (by omega), obk o87, nm_eq, obk (h := hset h7 z8 0 (z10)) o87, nm_eq]
  have ox7 : OB (hset (hset h7 z8 0 (z10)) z8 1 (K 101)) x 15 := F57.ob oe
  rw [e18, mb_some, obk ox7, nm_eq]
  have w : ∀ a j, a ≠ z8 → a ≠ x → xv (hset (hset (hset h7 z8 0 (z10)) z8 1 (K 101)) x 2 z8) a j = xv h7 a j := fun a j q1 q2 => (hset_vn q2).trans ((hset_vn q1).trans (hset_vn q1))
  have wx : ∀ j, j ≠ 2 → xv (hset (hset (hset h7 z8 0 (z10)) z8 1 (K 101)) x 2 z8) x j = xv h7 x j := fun j q => (hset_vj q).trans ((hset_vn (by omega)).trans (hset_vn (by omega)))
  have wx2 : xv (hset (hset (hset h7 z8 0 (z10)) z8 1 (K 101)) x 2 z8) x 2 = z8 := hset_vv
  have wx0 := (wx 0 (by decide)).trans ((k7 x 15 oe (by decide) (by decide) (by decide) 0).trans ve0)
  have wx1 := (wx 1 (by decide)).trans ((k7 x 15 oe (by decide) (by decide) (by decide) 1).trans ve1)
  have wx3 := (wx 3 (by decide)).trans ((k7 x 15 oe (by decide) (by decide) (by decide) 3).trans ve3)
  have w80 : xv (hset (hset (hset h7 z8 0 (z10)) z8 1 (K 101)) x 2 z8) z8 0 = z10 := (hset_vn (by omega)).trans ((hset_vj (by decide)).trans hset_vv)
  have w81 : xv (hset (hset (hset h7 z8 0 (z10)) z8 1 (K 101)) x 2 z8) z8 1 = K 101 := (hset_vn (by omega)).trans hset_vv
  refine ⟨_, rfl, ((fh.setN (by omega)).setN (by omega)).setN hx, ox7, wx3, ?_, ?_, ?_, ?_, ?_, ?_, ?_⟩
  · rw [wx2]
    refine ⟨o87, w81, ?_⟩
    rw [w80]
    exact ⟨A7.1, A7.2.1, fun l l0 l1 => by rw [w _ _ (by omega) (by omega)]; exact A7.2.2 l l0 l1⟩
  · rw [wx0]
    exact ⟨F57.ob o2e, by show xl h7 z2 = 3; rw [F57.l o2e.2.1]; exact l2e, fun l l0 l1 => by rw [w _ _ (by omega) (by omega), k7 _ 100 o2e (by decide) (by decide) (by decide), v2e]; rfl⟩
  · rw [wx1]
    exact ⟨F57.ob o5, by show xl h7 z5 = 3; rw [F57.l o5.2.1]; exact l5, fun l l0 l1 => by rw [w _ _ (by omega) (by omega), k7 _ 100 o5 (by decide) (by decide) (by decide), v5]; rfl⟩
  · rw [wx0, wx1, wx2]; omega
  · rw [wx0, wx1]; omega
  · rw [wx2, w80, wx0]; omega
  · rw [wx2, w80, wx1]; omega
theorem F_add_to_bowl {N b most l k : Int} {C th lk : Int → Int} (B : BW h N b C most th lk) (l0 : 0 ≤ l) (l1 : l ≤ 2) (k01 : k = 0 ∨ k = 1) (ht : ∀ l, 0 ≤ l → l ≤ 2 → 0 ≤ th l ∧ th l ≤ 100) (hk : ∀ l, 0 ≤ l → l ≤ 2 → 0 ≤ lk l ∧ lk l ≤ 100) : ∃ h', F_X17_add b l k h = some (0, h') ∧ Fr (fun a _ => N < a) 0 0 h h' ∧ BW h' N b C most (fun i => if i = l then th i + 1 else th i) (fun i => if i = l then lk i + k else lk i) := by
  obtain ⟨b1, b2, b3, b4, b5, b6, b7, b8, b9⟩ := B
  have B0 : BW h N b C most th lk := ⟨b1, b2, b3, b4, b5, b6, b7, b8, b9⟩
  have t1 := ht l l0 l1
  have t2 := hk l l0 l1
  have n0 : b ≠ xv h b 0 := OB.ne b1 b4.1 (by decide)
  have n1 : b ≠ xv h b 1 := OB.ne b1 b5.1 (by decide)
  have e1 : xv (hset h (xv h b 0) l (th l + 1)) b 1 = xv h b 1 := hset_vn n0
  have ek : (if k = 0 then (0 : Int) else 1) = k := by rcases k01 with e | e <;> rw [e] <;> rfl
  have F1 : Fr (fun a _ => N < a) 0 0 h (hset h (xv h b 0) l (th l + 1)) := Fr.set fun _ => b6.2.1
  have v5 : xv (hset h (xv h b 0) l (th l + 1)) (xv h b 1) l = lk l := (hset_vn (fun e => b7 e.symm)).trans (b5.2.2 l l0 l1)
  unfold F_X17_add
  rw [obk b1, aik (t := 0) b4.1 l0 (by rw [b4.2.1]; omega), aik (t := 0) b4.1 l0 (by rw [b4.2.1]; omega), b4.2.2 l l0 l1, w32_id (by omega) (by omega), nm_eq, obk (h := hset h _ _ _) b1, e1, aik (t := 0) (h := hset h _ _ _) b5.1 l0 (by show l < (xl h _ : Int); rw [b5.2.1]; omega), ek, nm_eq, aik (t := 0) (h := hset h _ _ _) b5.1 l0 (by show l < (xl h _ : Int); rw [b5.2.1]; omega), v5, w32_id (by omega) (by omega), nm_eq]
  have w : ∀ a j, a ≠ xv h b 0 → a ≠ xv h b 1 → xv (hset (hset h (xv h b 0) l (th l + 1)) (xv h b 1) l (lk l + k)) a j = xv h a j := fun a j q1 q2 => (hset_vn q2).trans (hset_vn q1)
  have wb : ∀ j, xv (hset (hset h (xv h b 0) l (th l + 1)) (xv h b 1) l (lk l + k)) b j = xv h b j := fun j => w b j n0 n1
  have nx0 : xv h b 2 ≠ xv h b 0 := OB.ne b3.1 b4.1 (by decide)
  have nx1 : xv h b 2 ≠ xv h b 1 := OB.ne b3.1 b5.1 (by decide)
  refine ⟨_, rfl, F1.tr (Fr.set (W := fun a _ => N < a) (fun _ => b6.2.2.1)) (fun _ _ _ q => q), b1, (wb 3).trans b2, ?_, ?_, ?_, ?_, ?_, ?_, ?_⟩
  · rw [wb]
    refine ⟨b3.1, (w _ _ nx0 nx1).trans b3.2.1, ?_⟩
    rw [w _ _ nx0 nx1]
    exact ⟨b3.2.2.1, b3.2.2.2.1, fun i i0 i1 => (w _ _ b8 b9).trans (b3.2.2.2.2 i i0 i1)⟩
  · rw [wb]
    refine ⟨b4.1, b4.2.1, fun i i0 i1 => ?_⟩
    rw [hset_vn b7]
    show _ = if i = l then th i + 1 else th i
    by_cases e : i = l
    · rw [e, hset_vv, if_pos rfl]
    · rw [hset_vj e, if_neg e]; exact b4.2.2 i i0 i1
  · rw [wb]
    refine ⟨b5.1, b5.2.1, fun i i0 i1 => ?_⟩
    show _ = if i = l then lk i + k else lk i
    by_cases e : i = l
    · rw [e, hset_vv, if_pos rfl]
    · rw [hset_vj e, if_neg e, hset_vn (fun q => b7 q.symm)]; exact b5.2.2 i i0 i1
  · rw [wb, wb, wb]; exact b6
  · rw [wb, wb]; exact b7
  · rw [wb, wb, w _ _ nx0 nx1]; exact b8
  · rw [wb, wb, w _ _ nx0 nx1]; exact b9
theorem Fr.new_only {c s c' s' : Nat} {W : Int → Int → Prop} {N : Int} (f : Fr W c s h0 h) (F : Fr (fun a _ => N < a) c' s' h h') (hN : (xn h0 : Int) ≤ N) : Fr W (c + c') (s + s') h0 h' := f.tr F (fun a j ha q => by omega)
theorem BW.ext {N b most : Int} {C th lk th' lk' : Int → Int} (B : BW h N b C most th lk) (e1 : ∀ l, 0 ≤ l → l ≤ 2 → th l = th' l) (e2 : ∀ l, 0 ≤ l → l ≤ 2 → lk l = lk' l) : BW h N b C most th' lk' := by
  obtain ⟨b1, b2, b3, b4, b5, b6⟩ := B
  exact ⟨b1, b2, b3, ⟨b4.1, b4.2.1, fun l l0 l1 => by rw [← e1 l l0 l1]; exact b4.2.2 l l0 l1⟩, ⟨b5.1, b5.2.1, fun l l0 l1 => by rw [← e2 l l0 l1]; exact b5.2.2 l l0 l1⟩, b6⟩
theorem F_bowl_eq (Q : QI g P h0 K) {c s : Nat} (f : Fr (QW h0) c s h0 h) {as_ l : Int} (hA : AS K as_ l) : ∃ b h', F_X0_bowl 1 as_ l h = some (b, h') ∧ Fr (QW h0) (c + 5) (s + 15) h0 h' ∧ BW h' (xn h0) b (chS (curP K P)) (K 101) (thS K as_ l) (lkS K as_ l) := by
  have KK := Q.2.2.2
  have hK := KK.1.1
  have loop : ∀ (n fuel : Nat) (q b : Int) (t u : Int → Int) (h1 : XH), n < fuel → 0 ≤ q → q + n = K 390 → Fr (QW h0) (c + 5) (s + 15) h0 h1 → BW h1 (xn h0) b (chS (curP K P)) (K 101) t u → (∀ i, 0 ≤ i → i ≤ 2 → 0 ≤ t i ∧ t i ≤ q ∧ 0 ≤ u i ∧ u i ≤ q) → ∃ h', F_X0_bowl_12 fuel 1 as_ l b q h1 = some (b, h') ∧ Fr (QW h0) (c + 5) (s + 15) h0 h' ∧ BW h' (xn h0) b (chS (curP K P)) (K 101) (fun i => t i + Sg (fun q => if K (5 * q + 4) = 0 ∧ asS K as_ l q = i then 1 else 0) n q) (fun i => u i + Sg (fun q => if K (5 * q + 4) = 0 ∧ asS K as_ l q = i then K (5 * q + 3) else 0) n q) := by
    intro n
    induction n with
    | zero =>
      intro fuel q b t u h1 hf q0 q1 F B hr
      cases fuel with
      | zero => omega
      | succ fuel =>
        have Q1 := Q.fr F
        rw [F_X0_bowl_12, obk Q1.1.x1, F_many_eq Q1.1 Q1.2.2.1, mb_some, if_pos (by omega)]
        exact ⟨h1, rfl, F, B.ext (fun i _ _ => by show t i = t i + 0; omega) (fun i _ _ => by show u i = u i + 0; omega)⟩
    | succ n ih =>
      intro fuel q b t u h1 hf q0 q1 F B hr
      cases fuel with
      | zero => omega
      | succ fuel =>
        have Q1 := Q.fr F
        have E1 := Q1.2.2.1
        obtain ⟨o, -, -, -, -, v3, v4, v5⟩ := E1.q q q0 (by omega)
        have kq := KK.2.1 q q0 (by omega)
        have has := asS_in KK hA q0 (by omega)
        rw [F_X0_bowl_12, obk Q1.1.x1, F_many_eq Q1.1 E1, mb_some, if_neg (by omega), obk Q1.1.x1, obk E1.o, obk E1.lq.1, F_get_eq E1.lq q0 (by omega), mb_some, obk o, obk o, v5]
        by_cases c4 : K (5 * q + 4) = 0
        · rw [if_pos c4]
          have e62 : ∃ h', F_X0_bowl_62 (F_X0_bowl_12 fuel) b (asS K as_ l q) 1 as_ l b q (nth h1 (xv h1 (xv h1 1 0) 0) q) h1 = some (b, h') ∧ Fr (QW h0) (c + 5) (s + 15) h0 h' ∧ BW h' (xn h0) b (chS (curP K P)) (K 101) (fun i => t i + Sg (fun q => if K (5 * q + 4) = 0 ∧ asS K as_ l q = i then 1 else 0) (n + 1) q) (fun i => u i + Sg (fun q => if K (5 * q + 4) = 0 ∧ asS K as_ l q = i then K (5 * q + 3) else 0) (n + 1) q) := by
            obtain ⟨h2, e2, F2, B2⟩ := F_add_to_bowl B has.1 has.2 (k := K (5 * q + 3)) (by omega) (fun i i0 i1 => by have := hr i i0 i1; omega) (fun i i0 i1 => by have := hr i i0 i1; omega)
            unfold F_X0_bowl_62 F_X0_bowl_70
            rw [obk o, obk B.1, v4, e2, mb_some, nm_eq, w32_id (by omega) (by omega)]
            obtain ⟨h3, e3, F3, B3⟩ := ih fuel (q + 1) b _ _ h2 (by omega) (by omega) (by omega) (F.new_only F2 (Int.le_refl _)) B2 (fun i i0 i1 => by
              have := hr i i0 i1
              show 0 ≤ (if i = asS K as_ l q then t i + 1 else t i) ∧ (if i = asS K as_ l q then t i + 1 else t i) ≤ q + 1 ∧ 0 ≤ (if i = asS K as_ l q then u i + K (5 * q + 3) else u i) ∧ (if i = asS K as_ l q then u i + K (5 * q + 3) else u i) ≤ q + 1
              split <;> omega)
            refine ⟨h3, e3, F3, B3.ext (fun i _ _ => ?_) (fun i _ _ => ?_)⟩
            · show (if i = asS K as_ l q then t i + 1 else t i) + Sg _ n (q + 1) = t i + ((if K (5 * q + 4) = 0 ∧ asS K as_ l q = i then 1 else 0) + Sg _ n (q + 1))
              by_cases e : i = asS K as_ l q
              · rw [if_pos e, if_pos ⟨c4, e.symm⟩]; omega
              · rw [if_neg e, if_neg (fun w => e w.2.symm)]; omega
            · show (if i = asS K as_ l q then u i + K (5 * q + 3) else u i) + Sg _ n (q + 1) = u i + ((if K (5 * q + 4) = 0 ∧ asS K as_ l q = i then K (5 * q + 3) else 0) + Sg _ n (q + 1))
              by_cases e : i = asS K as_ l q
              · rw [if_pos e, if_pos ⟨c4, e.symm⟩]; omega
              · rw [if_neg e, if_neg (fun w => e w.2.symm)]; omega
          by_cases c5 : q = as_
          · have ea : asS K as_ l q = l := by unfold asS; rw [if_pos c5]
            rw [if_pos c5]
            rw [ea] at e62
            exact e62
          · have ea : asS K as_ l q = K (5 * q + 2) := by unfold asS; rw [if_neg c5]
            rw [if_neg c5, obk o, v3]
            rw [ea] at e62
            exact e62
        · rw [if_neg c4]
          unfold F_X0_bowl_70
          rw [nm_eq, w32_id (by omega) (by omega)]
          obtain ⟨h3, e3, F3, B3⟩ := ih fuel (q + 1) b t u h1 (by omega) (by omega) (by omega) F B (fun i i0 i1 => by have := hr i i0 i1; omega)
          refine ⟨h3, e3, F3, B3.ext (fun i _ _ => ?_) (fun i _ _ => ?_)⟩
          · show t i + Sg _ n (q + 1) = t i + ((if K (5 * q + 4) = 0 ∧ asS K as_ l q = i then 1 else 0) + Sg _ n (q + 1))
            rw [if_neg (fun w => c4 w.1)]; omega
          · show u i + Sg _ n (q + 1) = u i + ((if K (5 * q + 4) = 0 ∧ asS K as_ l q = i then K (5 * q + 3) else 0) + Sg _ n (q + 1))
            rw [if_neg (fun w => c4 w.1)]; omega
  have hn := f.n
  have F1 : Fr (QW h0) (c + 1) (s + 4) h0 (hnew h 15 4) := f.tr (Fr.new (W := QW h0)) (fun _ _ _ q => q)
  obtain ⟨h1, e1, F2, B⟩ := F_bowl_init Q F1 (OB.nx h 15 4) (by unfold hnx; omega)
  obtain ⟨h2, e2, F3, B2⟩ := loop (K 390).toNat FU 0 (hnx h) zeroS zeroS h1 (by rw [FU_eq]; omega) (by decide) (by omega) (F2.up (fun _ _ _ q => q) (by omega) (by omega)) B (fun i _ _ => by show (0 : Int) ≤ 0 ∧ (0 : Int) ≤ 0 ∧ (0 : Int) ≤ 0 ∧ (0 : Int) ≤ 0; decide)
  refine ⟨hnx h, h2, ?_, F3, B2.ext (fun i _ _ => ?_) (fun i _ _ => ?_)⟩
  · unfold F_X0_bowl
    rw [nw_eq, pz_ok (by unfold hnx; omega), e1, mb_some, e2]
  · show (0 : Int) + _ = _; rw [Int.zero_add]; rfl
  · show (0 : Int) + _ = _; rw [Int.zero_add]; rfl
end
