/-! plain law: the odds on the system's side, ways -/
set_option maxRecDepth 100000
set_option maxHeartbeats 400000
section
variable {h : XH} {c th : Int → Int} {N b : Int} {most ans x : Nat}
theorem F_ways_pw {h : XH} {y lie : Int} {n : Int → Int} (hc : pc3 c) (hm : most ≤ 3) (A : AO h y c most) (B : A3 h lie n) (hn : nn3 n) (hn2 : ∀ l, 0 ≤ l → l ≤ 2 → n l ≤ 1000) (e : most = ans + x) (ha : (ans : Int) ≤ sizeS n) (hx : x = 0 ∨ (ans : Int) = sizeS n) : ∃ h', F_X18_of y lie h = some (hnx h, h') ∧ Fr (fun _ _ => False) 2 (most + 4) h h' ∧ WO h' (hnx h) (most + 1) ((most : Int) + 1) (fun r => pwS c ans n w0S r * 100 ^ x) := by
  obtain ⟨h', e1, F, W⟩ := F_ways_of hc hm A B hn hn2
  rw [e, xw_pw ans x n w0S hn ha hx, ← e] at W
  exact ⟨h', e1, F, W⟩
theorem count_116 {K3 : Int → Int → Int → Int → Int → Int → Int → XH → Option XR} {K12 : Int → Int → Int → Int → Int → Int → Int → Int → XH → Option XR} {h : XH} {s p : Int → Int} {x0 x1 x2 x3 x4 x7 x8 x9 A R : Int} {len : Nat} (hm : most ≤ 3) (S : WO h A len ((most : Int) + 1) s) (hlen : most + 1 ≤ len) (W : WO h R (most + 1) ((most : Int) + 1) p) (hne : R ≠ A) : ∃ h', F_X17_count_116 K3 K12 FU x0 x1 x2 x3 x4 A x7 x8 x9 R 0 h = F_X17_count_149 K3 K12 x0 x1 x2 x3 x4 A x7 x8 h' ∧ Fr (fun a _ => a = A) 0 0 h h' ∧ WO h' A len ((most : Int) + 1) (fun r => s r + x4 * (x9 * p r)) := by
  have loop : ∀ (j fuel : Nat) (r : Int) (h1 : XH), j < fuel → 0 ≤ r → r + j = most + 1 → Fr (fun a _ => a = A) 0 0 h h1 → (∀ i, r ≤ i → i < (most : Int) + 1 → xv h1 A i = w64 (s i)) → (∀ i, 0 ≤ i → i < r → xv h1 A i = w64 (s i + x4 * (x9 * p i))) → ∃ h', F_X17_count_116 K3 K12 fuel x0 x1 x2 x3 x4 A x7 x8 x9 R r h1 = F_X17_count_149 K3 K12 x0 x1 x2 x3 x4 A x7 x8 h' ∧ Fr (fun a _ => a = A) 0 0 h h' ∧ WO h' A len ((most : Int) + 1) (fun r => s r + x4 * (x9 * p r)) := by
    intro j
    induction j with
    | zero =>
      intro fuel r h1 hf r0 hr F hhi hlo
      cases fuel with
      | zero => omega
      | succ fuel =>
        have oR := F.ob W.1
        rw [F_X17_count_116, alk (t := 1) oR, F.l W.1.2.1, W.2.1, if_pos (by omega)]
        exact ⟨h1, rfl, F, F.ob S.1, by rw [F.l S.1.2.1]; exact S.2.1, fun i i0 i1 => hlo i i0 (by omega)⟩
    | succ j ih =>
      intro fuel r h1 hf r0 hr F hhi hlo
      cases fuel with
      | zero => omega
      | succ fuel =>
        have oR := F.ob W.1
        have oA := F.ob S.1
        have lA : xl h1 A = len := by rw [F.l S.1.2.1]; exact S.2.1
        have lR : xl h1 R = most + 1 := by rw [F.l W.1.2.1]; exact W.2.1
        have vR : xv h1 R r = w64 (p r) := by rw [F.v W.1.2.1 hne]; exact W.2.2 r r0 (by omega)
        rw [F_X17_count_116, alk (t := 1) oR, lR, if_neg (by omega), aik (t := 1) oA r0 (by rw [lA]; omega), aik (t := 1) oR r0 (by rw [lR]; omega), aik (t := 1) oA r0 (by rw [lA]; omega), vR, hhi r (Int.le_refl r) (by omega), w64_mulr, w64_mul, w64_add, nm_eq, nm_eq, w32_id (by omega) (by omega)]
        refine ih fuel (r + 1) _ (by omega) (by omega) (by omega) (F.tr (Fr.set (W := fun a _ => a = A) (fun _ => rfl)) (fun _ _ _ q => q)) (fun i i0 i1 => by rw [hset_vj (by omega)]; exact hhi i (by omega) i1) (fun i i0 i1 => ?_)
        by_cases e : i = r
        · rw [e, hset_vv]
          congr 1
          grind
        · rw [hset_vj e]; exact hlo i i0 (by omega)
  exact loop (most + 1) FU 0 h (by rw [FU_eq]; omega) (by decide) (by omega) Fr.rf (fun i i0 i1 => S.2.2 i i0 i1) (fun i a b => by omega)
theorem WO.ext {h : XH} {A : Int} {len : Nat} {n : Int} {s s' : Int → Int} (h1 : WO h A len n s) (e : ∀ r, s r = s' r) : WO h A len n s' := ⟨h1.1, h1.2.1, fun r r0 r1 => by rw [← e r]; exact h1.2.2 r r0 r1⟩
theorem WO.fr {h h' : XH} {A : Int} {len : Nat} {n : Int} {s : Int → Int} {W : Int → Int → Prop} {cc ss : Nat} (h1 : WO h A len n s) (F : Fr W cc ss h h') (hW : ∀ j, ¬ W A j) : WO h' A len n s := ⟨F.ob h1.1, by rw [F.l h1.1.2.1]; exact h1.2.1, fun r r0 r1 => by rw [F.v h1.1.2.1 (hW r)]; exact h1.2.2 r r0 r1⟩
/-- what counting rests on -/
def CO (h : XH) (b from_ A : Int) (c : Int → Int) (most : Nat) (th : Int → Int) (len : Nat) : Prop := OB h b 15 ∧ AO h (xv h b 2) c most ∧ A3 h from_ th ∧ OB h A 101 ∧ xl h A = len
theorem CO.fr {h h' : XH} {b from_ A : Int} {len cc ss : Nat} (C : CO h b from_ A c most th len) (F : Fr (fun a _ => a = A) cc ss h h') : CO h' b from_ A c most th len := by
  obtain ⟨c1, c2, c3, c4, c5⟩ := C
  have nA : ∀ (a : Int) (k : Nat), OB h a k → k ≠ 101 → a ≠ A := fun a k o hk => OB.ne o c4 hk
  have e : xv h' b 2 = xv h b 2 := F.v c1.2.1 (nA b 15 c1 (by decide))
  exact ⟨F.ob c1, by rw [e]; exact c2.fr F (fun j q => nA _ 16 c2.1 (by decide) q) (fun j q => nA _ 100 c2.2.2.1 (by decide) q), c3.fr F (fun j q => nA _ 100 c3.1 (by decide) q), F.ob c4, by rw [F.l c4.2.1]; exact c5⟩
theorem count_12 (hc : pc3 c) (hn : nn3 th) (hs : sizeS th ≤ 20) (hm : most ≤ 3) (e : most = ans + x) {K3 : Int → Int → Int → Int → Int → Int → Int → XH → Option XR} {d : Nat} (hd : d ≤ 20) {bes times from_ A : Int} {len : Nat} (hlen : most + 1 ≤ len) (hb : bes = -1 ∨ (0 ≤ bes ∧ bes ≤ 2)) (hans : (ans : Int) ≤ d + (if bes = -1 then 0 else 1)) (hx : x = 0 ∨ (ans : Int) = d + (if bes = -1 then 0 else 1)) {a : Int} (a0 : 0 ≤ a) (a1 : a ≤ d) : ∀ (k fuel : Nat) (y : Int) (s : Int → Int) (h : XH), k < fuel → 0 ≤ y → a + y + k = d + 1 → CO h b from_ A c most th len → WO h A len ((most : Int) + 1) s → ∃ h', F_X17_count_12 K3 fuel b from_ d bes times A a y h = K3 b from_ d bes times A (a + 1) h' ∧ Fr (fun a _ => a = A) (3 * k) (10 * k) h h' ∧ WO h' A len ((most : Int) + 1) (fun r => s r + times * Sg (fun y => setS th d a y * (pwS c ans (lieS d bes a y) w0S r * 100 ^ x)) k y) := by
  intro k
  induction k with
  | zero =>
    intro fuel y s h hf y0 hk C S
    cases fuel with
    | zero => omega
    | succ fuel =>
      rw [F_X17_count_12, w32_id (by omega) (by omega), if_pos (by omega)]
      unfold F_X17_count_155
      rw [nm_eq, w32_id (by omega) (by omega)]
      exact ⟨h, rfl, Fr.rf, S.ext fun r => by show s r = s r + times * 0; rw [Int.mul_zero, Int.add_zero]⟩
  | succ k ih =>
    intro fuel y s h hf y0 hk C S
    cases fuel with
    | zero => omega
    | succ fuel =>
      obtain ⟨c1, c2, c3, c4, c5⟩ := C
      have C0 : CO h b from_ A c most th len := ⟨c1, c2, c3, c4, c5⟩
      obtain ⟨a', ha'⟩ := Int.eq_ofNat_of_zero_le a0
      obtain ⟨y', hy'⟩ := Int.eq_ofNat_of_zero_le y0
      have h20 : ∀ l, 0 ≤ l → l ≤ 2 → th l ≤ 20 := fun l l0 l1 => by
        obtain ⟨q0, q1, q2⟩ := hn
        unfold sizeS at hs
        have : l = 0 ∨ l = 1 ∨ l = 2 := by omega
        rcases this with rfl | rfl | rfl <;> omega
      have t0 := h20 0 (by decide) (by decide); have t1 := h20 1 (by decide) (by decide); have t2 := h20 2 (by decide) (by decide)
      have u0 := chooseS_2 (k := a) t0; have u1 := chooseS_2 (k := y) t1; have u2 := chooseS_2 (k := (d : Int) - a - y) t2
      have v0 := chooseS_nn (th 0) a; have v1 := chooseS_nn (th 1) y; have v2 := chooseS_nn (th 2) ((d : Int) - a - y)
      have w1 := mul_le3 v0 v1 u0 u1
      have w2 := mul_le3 w1.1 v2 w1.2 u2
      have eset : w64 (w64 (chooseS (th 0) a * chooseS (th 1) y) * chooseS (th 2) ((d : Int) - a - y)) = setS th d a y := by
        rw [w64_id (x := chooseS (th 0) a * chooseS (th 1) y) (by omega) (by omega), w64_id (by omega) (by omega)]; rfl
      have l3 : (xl h from_ : Int) = 3 := by rw [c3.2.1]; rfl
      have rest : ∀ (h1 : XH) (s1 : Int → Int), Fr (fun a _ => a = A) 3 10 h h1 → WO h1 A len ((most : Int) + 1) s1 → (∀ r, s1 r = s r + times * (setS th d a y * (pwS c ans (lieS d bes a y) w0S r * 100 ^ x))) → ∃ h', F_X17_count_149 K3 (F_X17_count_12 K3 fuel) b from_ d bes times A a y h1 = K3 b from_ d bes times A (a + 1) h' ∧ Fr (fun a _ => a = A) (3 * (k + 1)) (10 * (k + 1)) h h' ∧ WO h' A len ((most : Int) + 1) (fun r => s r + times * Sg (fun y => setS th d a y * (pwS c ans (lieS d bes a y) w0S r * 100 ^ x)) (k + 1) y) := fun h1 s1 F1 S1 hs1 => by
        unfold F_X17_count_149
        rw [nm_eq, w32_id (by omega) (by omega)]
        obtain ⟨h', q1, q2, q3⟩ := ih fuel (y + 1) s1 h1 (by omega) (by omega) (by omega) (C0.fr F1) S1
        refine ⟨h', q1, (F1.tr q2 (fun _ _ _ q => q)).up (fun _ _ _ q => q) (by omega) (by omega), q3.ext fun r => ?_⟩
        show s1 r + times * Sg _ k (y + 1) = s r + times * (setS th d a y * (pwS c ans (lieS d bes a y) w0S r * 100 ^ x) + Sg _ k (y + 1))
        rw [hs1 r, Int.mul_add]; omega
      rw [F_X17_count_12, w32_id (x := a + y) (by omega) (by omega), if_neg (by omega), w32_id (x := (d : Int) - a) (by omega) (by omega), w32_id (x := (d : Int) - a - y) (by omega) (by omega), aik (t := 0) c3.1 (by decide) (by omega), c3.2.2 0 (by decide) (by decide), F_over_eq t0, mb_some, aik (t := 0) c3.1 (by decide) (by omega), c3.2.2 1 (by decide) (by decide), F_over_eq t1, mb_some, aik (t := 0) c3.1 (by decide) (by omega), c3.2.2 2 (by decide) (by decide), F_over_eq t2, mb_some, eset, nm_eq]
      by_cases cz : setS th d a y = 0
      · rw [if_pos cz]
        exact rest h s (Fr.rf.up (fun _ _ _ q => q) (by omega) (by omega)) S (fun r => by rw [cz, Int.zero_mul, Int.mul_zero, Int.add_zero])
      · have o8 : OB (hnew h 100 3) (hnx h) 100 := OB.nx h 100 3
        have l8 : xl (hnew h 100 3) (hnx h) = 3 := hnew_l0
        rw [if_neg cz, nak (t := 0) (by decide) (by decide), show (3 : Int).toNat = 3 from rfl, show 100 + 0 = 100 from rfl]
        have F1 : Fr (fun a _ => a = A) 1 3 h (hnew h 100 3) := Fr.new
        generalize hh1 : hnew h 100 3 = h1 at *
        have gt : (xn h : Int) < hnx h := by unfold hnx; omega
        have F4 : Fr (fun a _ => a = A) 1 3 h (hset (hset (hset h1 (hnx h) 0 a) (hnx h) 1 y) (hnx h) 2 ((d : Int) - a - y)) := ((F1.setN gt).setN gt).setN gt
        have F14 : Fr (fun a _ => a = hnx h) 0 0 h1 (hset (hset (hset h1 (hnx h) 0 a) (hnx h) 1 y) (hnx h) 2 ((d : Int) - a - y)) := ((Fr.set (W := fun a _ => a = hnx h) (fun _ => rfl)).tr (Fr.set (W := fun a _ => a = hnx h) (fun _ => rfl)) (fun _ _ _ q => q)).tr (Fr.set (W := fun a _ => a = hnx h) (fun _ => rfl)) (fun _ _ _ q => q)
        rw [aik (t := 0) o8 (by decide) (by rw [l8]; decide), nm_eq, aik (t := 0) (h := hset h1 (hnx h) 0 a) o8 (by decide) (by show (1 : Int) < (xl h1 (hnx h) : Int); rw [l8]; decide), nm_eq, aik (t := 0) (h := hset (hset h1 (hnx h) 0 a) (hnx h) 1 y) o8 (by decide) (by show (2 : Int) < (xl h1 (hnx h) : Int); rw [l8]; decide), nm_eq]
        have B4 : A3 (hset (hset (hset h1 (hnx h) 0 a) (hnx h) 1 y) (hnx h) 2 ((d : Int) - a - y)) (hnx h) (tri a y ((d : Int) - a - y)) := ⟨o8, l8, fun l l0 l1 => by
          have : l = 0 ∨ l = 1 ∨ l = 2 := by omega
          rcases this with rfl | rfl | rfl
          · rw [hset_vj (by decide), hset_vj (by decide), hset_vv]; rfl
          · rw [hset_vj (by decide), hset_vv]; rfl
          · rw [hset_vv]; rfl⟩
        generalize hset (hset (hset h1 (hnx h) 0 a) (hnx h) 1 y) (hnx h) 2 ((d : Int) - a - y) = h4 at *
        obtain ⟨n1, n2⟩ := lieS_ok (d := d) (a := a') (b := y') (by omega) hb
        rw [← ha', ← hy'] at n1 n2
        have go : ∀ h5 : XH, Fr (fun a _ => a = A) 1 3 h h5 → A3 h5 (hnx h) (lieS d bes a y) → ∃ h', F_X17_count_102 K3 (F_X17_count_12 K3 fuel) b from_ d bes times A a y (setS th d a y) (hnx h) h5 = K3 b from_ d bes times A (a + 1) h' ∧ Fr (fun a _ => a = A) (3 * (k + 1)) (10 * (k + 1)) h h' ∧ WO h' A len ((most : Int) + 1) (fun r => s r + times * Sg (fun y => setS th d a y * (pwS c ans (lieS d bes a y) w0S r * 100 ^ x)) (k + 1) y) := fun h5 F5 B5 => by
          have C5 := C0.fr F5
          have hn2 : ∀ l, 0 ≤ l → l ≤ 2 → lieS d bes a y l ≤ 1000 := fun l l0 l1 => by
            obtain ⟨q0, q1, q2⟩ := n1
            have hsz : sizeS (lieS d bes a y) ≤ 21 := by rw [n2]; split <;> omega
            unfold sizeS at hsz
            have : l = 0 ∨ l = 1 ∨ l = 2 := by omega
            rcases this with rfl | rfl | rfl <;> omega
          have SA : WO h5 A len ((most : Int) + 1) s := ⟨C5.2.2.2.1, C5.2.2.2.2, fun r r0 r1 => by
            have hw : ∀ j, xv h5 A j = xv h A j := fun j => by
              exact hA5 h5 F5 j
            rw [hw]; exact S.2.2 r r0 r1⟩
          obtain ⟨h6, q1, q2, q3⟩ := F_ways_pw hc hm C5.2.1 B5 n1 hn2 e (by rw [n2]; exact hans) (by rw [n2]; exact hx)
          have S6 := SA.fr q2 (fun _ q => q)
          have hgt5 : A ≤ (xn h5 : Int) := C5.2.2.2.1.2.1
          obtain ⟨h7, p1, p2, p3⟩ := count_116 (K3 := K3) (K12 := F_X17_count_12 K3 fuel) (x0 := b) (x1 := from_) (x2 := d) (x3 := bes) (x4 := times) (x7 := a) (x8 := y) (x9 := setS th d a y) hm S6 hlen q3 (by unfold hnx; omega)
          unfold F_X17_count_102
          rw [obk C5.1, obk C5.2.1.1, q1, mb_some, p1]
          exact rest h7 _ (((F5.tr q2 (fun _ _ _ q => q.elim)).tr p2 (fun _ _ _ q => q)).up (fun _ _ _ q => q) (by omega) (by omega)) p3 (fun r => rfl)
        by_cases cb : bes = -1
        · rw [if_pos cb]
          exact go h4 F4 ⟨B4.1, B4.2.1, fun l l0 l1 => by rw [B4.2.2 l l0 l1]; unfold lieS; rw [if_pos cb]⟩
        · have hb2 : 0 ≤ bes ∧ bes ≤ 2 := hb.resolve_left cb
          have hin : tri a y ((d : Int) - a - y) bes ≤ 20 ∧ 0 ≤ tri a y ((d : Int) - a - y) bes := by
            have : bes = 0 ∨ bes = 1 ∨ bes = 2 := by omega
            rcases this with rfl | rfl | rfl
            · show a ≤ 20 ∧ 0 ≤ a; omega
            · show y ≤ 20 ∧ 0 ≤ y; omega
            · show (d : Int) - a - y ≤ 20 ∧ 0 ≤ (d : Int) - a - y; omega
          rw [if_neg cb, aik (t := 0) B4.1 hb2.1 (by rw [B4.2.1]; omega), aik (t := 0) B4.1 hb2.1 (by rw [B4.2.1]; omega), B4.2.2 bes hb2.1 hb2.2, w32_id (by omega) (by omega), nm_eq]
          refine go _ (F4.setN gt) ⟨B4.1, B4.2.1, fun l l0 l1 => ?_⟩
          unfold lieS incS
          rw [if_neg cb]
          by_cases e : l = bes
          · rw [e, hset_vv, if_pos rfl]
          · rw [hset_vj e, if_neg e, B4.2.2 l l0 l1]
end
