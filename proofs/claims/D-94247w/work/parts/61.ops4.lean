/-! plain law: terms, friend, know -/
set_option maxRecDepth 100000
set_option maxHeartbeats 400000
theorem KI.put {K : Int → Int} {a x : Int} (H : KI K) (ha : a < 390 ∧ ¬ (107 ≤ a ∧ a < 347) ∧ ¬ (350 ≤ a ∧ a < 390) ∧ 0 ≤ a) (hq : ∀ q f : Int, 0 ≤ q → q < K 390 → a = 5 * q + f → 0 ≤ f → f < 5 → 2 ≤ f ∧ 0 ≤ x ∧ (f = 2 → x ≤ 2) ∧ (3 ≤ f → x ≤ 1)) (ht : 100 ≤ a → a ≤ 106 → (a = 100 → 1 ≤ x ∧ x ≤ 10) ∧ (a = 101 ∨ a = 102 → 1 ≤ x ∧ x ≤ 3) ∧ (a = 103 ∨ a = 104 → 0 ≤ x ∧ x ≤ 100) ∧ (a = 105 → 1 ≤ x ∧ x ≤ 20) ∧ (a = 106 → 0 ≤ x ∧ x ≤ 16)) (hf : 347 ≤ a → 0 ≤ x ∧ x ≤ 99) : KI (up K a x) := by
  obtain ⟨⟨k0, k1, k2, k3, k4⟩, k5, k6, k7, k8, k9, k10, k11⟩ := H
  refine ⟨⟨?_, ?_, ?_, ?_, ?_⟩, fun q b1 b2 => ?_, ?_, fun k b1 b2 => ?_, fun k b1 b2 => ?_, fun k b1 b2 => ?_, fun t b1 b2 => ?_, fun j b1 => ?_⟩
  · rw [up_n (by omega)]; exact k0
  · rw [up_n (by omega)]; exact k1
  · rw [up_n (by omega)]; exact k2
  · rw [up_n (by omega)]; exact k3
  · rw [up_n (by omega), up_n (by omega)]; exact k4
  · rw [up_n (by omega)] at b2
    have hk := k5 q b1 b2
    have h0 := hq q 0 b1 b2
    have h1 := hq q 1 b1 b2
    have h2 := hq q 2 b1 b2
    have h3 := hq q 3 b1 b2
    have h4 := hq q 4 b1 b2
    unfold up
    refine ⟨?_, ?_, ?_, ?_, ?_⟩
    · rw [if_neg (by omega)]; exact hk.1
    · rw [if_neg (by omega)]; exact hk.2.1
    · split <;> omega
    · split <;> omega
    · split <;> omega
  · unfold up
    refine ⟨?_, ?_, ?_, ?_, ?_, ?_, ?_⟩ <;> (split <;> omega)
  · have := k7 k b1 b2
    unfold up
    split <;> omega
  · rw [up_n (by omega)] at b2
    rw [up_n (by omega), up_n (by omega), up_n (by omega)]; exact k8 k b1 b2
  · rw [up_n (by omega)] at b2
    rw [up_n (by omega)]; exact k9 k b1 b2
  · rw [up_n (by omega)] at b2
    rw [up_n (by omega)]; exact k10 t b1 b2
  · rw [up_n (by omega)]; exact k11 j b1
/-- one int of an exam's row of ints -/
theorem RelG.putInt {g : Int → Int} {P : Nat → CLS} {n : Nat} {h : XH} {V : VV} (hn : n < 64) (R : RelG g P n h V) {a k x at_ : Int} {t : Int} {l : Nat} {F : Int → Int} {m : Int} (I : IR g t h a l F m) (ht : (t = 1004 ∧ at_ = 100 + k ∧ 0 ≤ k ∧ k < 7 ∧ a = xv h (xv h 1 0) 3) ∨ (t = 1005 ∧ at_ = 347 + k ∧ 0 ≤ k ∧ k < 3 ∧ a = xv h (xv h 1 0) 4)) (K' : KI (up (V 3) at_ x)) : RelG g P (n + 1) (hset (hset (hset h a k x) 1 9 0) 1 5 0) (vup (vup (vup V 3 at_ x) 0 0 0) 1 0 (w32 (vup V 3 at_ x 1 0 + 1))) := by
  have H := R.sh
  have E := R.er
  have K := R.ki
  have o := I.1
  have f : Fr (fun b j => b = a ∧ j = k) 0 0 h (hset h a k x) := Fr.set fun _ => ⟨rfl, rfl⟩
  have ow : OWN g h (fun b j => b = a ∧ j = k) := fun b j a1 a2 q => by
    rw [q.1, I.2.1]; exact ⟨by omega, by omega, Or.inr (Or.inr (Or.inr (Or.inl o.2.2)))⟩
  have e3 : vup V 3 at_ x 3 = up (V 3) at_ x := vup3
  have E1 : ER g 1 (hset h a k x) (xv h 1 0) (vup V 3 at_ x 3) P := by
    rw [e3]
    refine E.mod f (ow.tf f) (fun b j q r => ?_) (fun j hj q => OB.ne E.o o (by decide) q.1) (up_n (by omega)) (up_n (by omega)) (up_n (by omega)) ?_ ?_ ?_ ?_ ?_ (fun k a b => ?_) (fun k a b => ?_)
    · rw [r.1] at q; rcases q with q | q
      · exact absurd (q.2.2.symm.trans o.2.2) (by decide)
      · exact absurd (q.2.2.symm.trans o.2.2) (by decide)
    · rcases ht with ⟨t1, t2, t3, t4, t5⟩ | ⟨t1, t2, t3, t4, t5⟩
      · obtain ⟨i1, i2, i3, i4⟩ := E.te
        refine ⟨i1, i2, i3, fun j j0 j1 => ?_⟩
        rw [← t5]
        show _ = up (V 3) at_ x (100 + j)
        by_cases e : j = k
        · rw [e, hset_vv, t2, up_at]
        · rw [hset_vj e, up_n (by omega), t5]; exact i4 j j0 j1
      · exact E.te.keep f (fun j _ _ q => IR.ne_tk I E.te (by rw [t1]; decide) q.1) (fun j c d => up_n (by omega)) (Int.le_refl _)
    · rcases ht with ⟨t1, t2, t3, t4, t5⟩ | ⟨t1, t2, t3, t4, t5⟩
      · exact E.fd.keep f (fun j _ _ q => IR.ne_tk I E.fd (by rw [t1]; decide) q.1) (fun j c d => up_n (by omega)) (Int.le_refl _)
      · obtain ⟨i1, i2, i3, i4⟩ := E.fd
        refine ⟨i1, i2, i3, fun j j0 j1 => ?_⟩
        rw [← t5]
        show _ = up (V 3) at_ x (347 + j)
        by_cases e : j = k
        · rw [e, hset_vv, t2, up_at]
        · rw [hset_vj e, up_n (by omega), t5]; exact i4 j j0 j1
    · rw [up_n (by omega)]
      exact E.ye.keep f (fun j _ _ q => IR.ne_tk I E.ye (by omega) q.1) (fun j c d => up_n (by omega)) (Int.le_refl _)
    · rw [hset_vn (OB.ne E.o o (by decide)), up_n (by omega)]; exact E.yd
    · rw [hset_vn (OB.ne E.o o (by decide)), up_n (by omega)]; exact E.us
    · exact (E.q k a b).keep f (fun j q => OB.ne (E.q k a b).1 o (by decide) q.1) (fun j c d => up_n (by have := K.nn; omega))
    · have := K.1.2.1; exact ⟨up_n (by omega), up_n (by omega)⟩
  have P1 : PR (vup V 3 at_ x 3) P := by rw [e3]; exact R.pr.congr (up_n (by omega)) (fun t a b => up_n (by omega)) (fun j a => up_n (by omega))
  exact R.wasT hn f ow E1 (by rw [e3]; exact K') P1 (MF.ed MF.rf (by decide)) (by decide) (by decide)
theorem F_isTerm_t {h : XH} {w x : Int} (c : (w = 0 ∧ 1 ≤ x ∧ x ≤ 10) ∨ ((w = 1 ∨ w = 2) ∧ 1 ≤ x ∧ x ≤ 3) ∨ ((w = 3 ∨ w = 4) ∧ 0 ≤ x ∧ x ≤ 100) ∨ (w = 5 ∧ 1 ≤ x ∧ x ≤ 20) ∨ (w = 6 ∧ 0 ≤ x ∧ x ≤ 16)) : F_X0_isTerm w x h = some (1, h) := by
  unfold F_X0_isTerm
  rcases c with ⟨rfl, a, b⟩ | ⟨rfl | rfl, a, b⟩ | ⟨rfl | rfl, a, b⟩ | ⟨rfl, a, b⟩ | ⟨rfl, a, b⟩
  · rw [if_pos rfl, F_in_t a b, mb_some]; rfl
  · rw [if_neg (by decide), if_pos rfl, F_in_t a b, mb_some]; rfl
  · rw [if_neg (by decide), if_neg (by decide), if_pos rfl, F_in_t a b, mb_some]; rfl
  · rw [if_neg (by decide), if_neg (by decide), if_neg (by decide), if_pos rfl, F_in_t a b, mb_some]; rfl
  · rw [if_neg (by decide), if_neg (by decide), if_neg (by decide), if_neg (by decide), if_pos rfl, F_in_t a b, mb_some]; rfl
  · rw [if_neg (by decide), if_neg (by decide), if_neg (by decide), if_neg (by decide), if_neg (by decide), if_pos rfl, F_in_t a b, mb_some]; rfl
  · rw [if_neg (by decide), if_neg (by decide), if_neg (by decide), if_neg (by decide), if_neg (by decide), if_neg (by decide), if_pos rfl, F_in_t a b, mb_some]; rfl
theorem F_isTerm_f {h : XH} {w x : Int} (c : ¬ ((w = 0 ∧ 1 ≤ x ∧ x ≤ 10) ∨ ((w = 1 ∨ w = 2) ∧ 1 ≤ x ∧ x ≤ 3) ∨ ((w = 3 ∨ w = 4) ∧ 0 ≤ x ∧ x ≤ 100) ∨ (w = 5 ∧ 1 ≤ x ∧ x ≤ 20) ∨ (w = 6 ∧ 0 ≤ x ∧ x ≤ 16))) : F_X0_isTerm w x h = some (0, h) := by
  unfold F_X0_isTerm
  by_cases w0 : w = 0
  · rw [if_pos w0, F_in_f (by omega), mb_some]; rfl
  rw [if_neg w0]
  by_cases w1 : w = 1
  · rw [if_pos w1, F_in_f (by omega), mb_some]; rfl
  rw [if_neg w1]
  by_cases w2 : w = 2
  · rw [if_pos w2, F_in_f (by omega), mb_some]; rfl
  rw [if_neg w2]
  by_cases w3 : w = 3
  · rw [if_pos w3, F_in_f (by omega), mb_some]; rfl
  rw [if_neg w3]
  by_cases w4 : w = 4
  · rw [if_pos w4, F_in_f (by omega), mb_some]; rfl
  rw [if_neg w4]
  by_cases w5 : w = 5
  · rw [if_pos w5, F_in_f (by omega), mb_some]; rfl
  rw [if_neg w5]
  by_cases w6 : w = 6
  · rw [if_pos w6, F_in_f (by omega), mb_some]; rfl
  rw [if_neg w6]
def leastT (w : Int) : Int := if w < 3 then 1 else (if w = 5 then 1 else 0)
def mostT (w : Int) : Int := if w = 0 then 10 else (if 3 ≤ w then (if 5 ≤ w then (if w = 5 then 20 else 16) else 100) else 3)
theorem op_terms : OP_terms Rel := by
  intro n h V hn _ _ ⟨g, P, R⟩ w hw x hx
  have H := R.sh
  have E := R.er
  have K := R.ki
  by_cases c : (w = 0 ∧ 1 ≤ x ∧ x ≤ 10) ∨ ((w = 1 ∨ w = 2) ∧ 1 ≤ x ∧ x ≤ 3) ∨ ((w = 3 ∨ w = 4) ∧ 0 ≤ x ∧ x ≤ 100) ∨ (w = 5 ∧ 1 ≤ x ∧ x ≤ 20) ∨ (w = 6 ∧ 0 ≤ x ∧ x ≤ 16)
  · have c0 : 0 ≤ w ∧ w < 7 := by omega
    have I := E.te
    refine (R.putInt hn (a := xv h (xv h 1 0) 3) (k := w) (x := x) (at_ := 100 + w) I (Or.inl ⟨rfl, rfl, c0.1, c0.2, rfl⟩) (K.put (by omega) (fun q f a b d e1 e2 => by have := K.nn; omega) (fun _ _ => by omega) (fun _ => by omega))).op hn (r := V 3 (100 + w)) ?_ ?_
    · unfold F_X0_terms
      have f : Fr (fun b j => b = xv h (xv h 1 0) 3 ∧ j = w) 0 0 h (hset h (xv h (xv h 1 0) 3) w x) := Fr.set fun _ => ⟨rfl, rfl⟩
      rw [F_isTerm_t c, mb_some, if_neg (by decide), obk H.x1, obk E.o, aik (t := 0) I.1 c0.1 (by rw [I.2.2.1]; omega), nm_eq, obk H.x1, obk E.o, aik (t := 0) I.1 c0.1 (by rw [I.2.2.1]; omega), nm_eq, obk (h := hset h (xv h (xv h 1 0) 3) w x) H.x1, F_was_eq (H.fr f (fun j hj q => OB.ne H.x1 I.1 (by decide) q.1) (fun q => OB.ne H.x10 I.1 (by decide) q.1) (fun q => OB.ne H.x12 I.1 (by decide) q.1)), mb_some, I.2.2.2 w c0.1 c0.2]
    · unfold M_terms
      have e1 : M_leastOf w V = some (leastT w, V) := rfl
      have e2 : M_mostOf w V = some (mostT w, V) := rfl
      have e4 : leastT w ≤ x ∧ x ≤ mostT w := by unfold leastT mostT; constructor <;> (repeat' split) <;> omega
      rw [M_lies_t c0.1 (by omega), mb_some, if_neg (by decide), e1, mb_some, e2, mb_some, M_lies_t e4.1 e4.2, mb_some, if_neg (by decide), w32_id (by omega) (by omega), M_replaces_eq (by omega) (by omega), mb_some, vupN (k := 3) (k' := 1) (by decide)]
  · refine R.opNo hn (v := -1) (by decide) (by decide) ?_ ?_
    · unfold F_X0_terms
      rw [F_isTerm_f c, mb_some, if_pos rfl, obk H.x1, mb_id]
    · unfold M_terms M_terms_25
      have e1 : M_leastOf w V = some (leastT w, V) := rfl
      have e2 : M_mostOf w V = some (mostT w, V) := rfl
      by_cases c0 : 0 ≤ w ∧ w ≤ 6
      · have e4 : x < leastT w ∨ mostT w < x := by unfold leastT mostT; (repeat' split) <;> omega
        rw [M_lies_t c0.1 c0.2, mb_some, if_neg (by decide), e1, mb_some, e2, mb_some, M_lies_f e4, mb_some, if_pos rfl, mb_id]
      · rw [M_lies_f (by omega), mb_some, if_pos rfl, mb_id]
theorem op_friend : OP_friend Rel := by
  intro n h V hn _ _ ⟨g, P, R⟩ w hw x hx
  have H := R.sh
  have E := R.er
  have K := R.ki
  by_cases c0 : 0 ≤ w ∧ w ≤ 2
  · by_cases c1 : 0 ≤ x ∧ x ≤ 99
    · have I := E.fd
      refine (R.putInt hn (a := xv h (xv h 1 0) 4) (k := w) (x := x) (at_ := 347 + w) I (Or.inr ⟨rfl, rfl, c0.1, by omega, rfl⟩) (K.put (by omega) (fun q f a b d e1 e2 => by have := K.nn; omega) (fun _ _ => by omega) (fun _ => c1))).op hn (r := V 3 (347 + w)) ?_ ?_
      · unfold F_X0_friend
        have f : Fr (fun b j => b = xv h (xv h 1 0) 4 ∧ j = w) 0 0 h (hset h (xv h (xv h 1 0) 4) w x) := Fr.set fun _ => ⟨rfl, rfl⟩
        rw [F_in_t c0.1 c0.2, mb_some, if_neg (by decide), F_in_t c1.1 c1.2, mb_some, if_neg (by decide), obk H.x1, obk E.o, aik (t := 0) I.1 c0.1 (by rw [I.2.2.1]; omega), nm_eq, obk H.x1, obk E.o, aik (t := 0) I.1 c0.1 (by rw [I.2.2.1]; omega), nm_eq, obk (h := hset h (xv h (xv h 1 0) 4) w x) H.x1, F_was_eq (H.fr f (fun j hj q => OB.ne H.x1 I.1 (by decide) q.1) (fun q => OB.ne H.x10 I.1 (by decide) q.1) (fun q => OB.ne H.x12 I.1 (by decide) q.1)), mb_some, I.2.2.2 w c0.1 (by omega)]
      · unfold M_friend
        rw [M_lies_t c0.1 c0.2, mb_some, if_neg (by decide), M_lies_t c1.1 c1.2, mb_some, if_neg (by decide), w32_id (by omega) (by omega), M_replaces_eq (by omega) (by omega), mb_some, vupN (k := 3) (k' := 1) (by decide)]
    · refine R.opNo hn (v := -1) (by decide) (by decide) ?_ ?_
      · unfold F_X0_friend F_X0_friend_24
        rw [F_in_t c0.1 c0.2, mb_some, if_neg (by decide), F_in_f (by omega), mb_some, if_pos rfl, obk H.x1, mb_id]
      · unfold M_friend M_friend_32
        rw [M_lies_t c0.1 c0.2, mb_some, if_neg (by decide), M_lies_f (by omega), mb_some, if_pos rfl, mb_id]
  · refine R.opNo hn (v := -1) (by decide) (by decide) ?_ ?_
    · unfold F_X0_friend F_X0_friend_24
      rw [F_in_f (by omega), mb_some, if_pos rfl, obk H.x1, mb_id]
    · unfold M_friend M_friend_32
      rw [M_lies_f (by omega), mb_some, if_pos rfl, mb_id]
