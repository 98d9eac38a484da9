/-! plain law: know -/
set_option maxRecDepth 100000
set_option maxHeartbeats 400000
theorem F_of_eq {g : Int → Int} {P : Nat → CLS} {n : Nat} {h : XH} {V : VV} (R : RelG g P n h V) {q w : Int} (h0 : 0 ≤ q) (h1 : q < V 3 390) (w0 : 0 ≤ w) (w1 : w ≤ 4) : F_X0_of 1 q w h = some (V 3 (5 * q + w), h) := by
  have H := R.sh
  have E := R.er
  have K := R.ki
  have hK := K.nn
  obtain ⟨o, -, q0, q1, q2, q3, q4, q5⟩ := E.q q h0 h1
  obtain ⟨-, -, -, k3, k4⟩ := K.2.1 q h0 h1
  unfold F_X0_of
  rw [obk H.x1, F_qof_t H E hK h0 h1, mb_some, if_neg (qn_ne E h0 h1)]
  unfold qn
  rw [obk o, obk o, obk o, obk o, obk o, nm_eq, nm_eq, q1, q2, q3, q4, q5]
  by_cases c0 : w = 0
  · rw [if_pos c0, c0]; simp
  rw [if_neg c0]
  by_cases c1 : w = 1
  · rw [if_pos c1, c1]
  rw [if_neg c1]
  by_cases c2 : w = 2
  · rw [if_pos c2, c2]
  rw [if_neg c2]
  by_cases c3 : w = 3
  · rw [if_pos c3, c3]
    congr 2; split <;> omega
  rw [if_neg c3]
  rw [if_pos (show w = 4 by omega), show w = 4 by omega]
  congr 2; split <;> omega
theorem RelG.putQ {g : Int → Int} {P : Nat → CLS} {n : Nat} {h : XH} {V : VV} (hn : n < 64) (R : RelG g P n h V) {q w x : Int} (h0 : 0 ≤ q) (h1 : q < V 3 390) (w0 : 0 ≤ w) (w1 : w ≤ 2) (x0 : 0 ≤ x) (x1 : x ≤ if w = 0 then 2 else 1) : RelG g P (n + 1) (hset (hset (hset h (qn h q) (3 + w) x) 1 9 0) 1 5 0) (vup (vup (vup V 3 (5 * q + (2 + w)) x) 0 0 0) 1 0 (w32 (vup V 3 (5 * q + (2 + w)) x 1 0 + 1))) := by
  have H := R.sh
  have E := R.er
  have K := R.ki
  have hK := K.nn
  have Q := E.q q h0 h1
  have o : OB h (qn h q) 5 := Q.1
  have f : Fr (fun b j => b = qn h q ∧ j = 3 + w) 0 0 h (hset h (qn h q) (3 + w) x) := Fr.set fun _ => ⟨rfl, rfl⟩
  have ow : OWN g h (fun b j => b = qn h q ∧ j = 3 + w) := fun b j a1 a2 r => by
    rw [r.1]; unfold qn; rw [Q.2.1]; exact ⟨by omega, by omega, Or.inr (Or.inl o.2.2)⟩
  have e3 : vup V 3 (5 * q + (2 + w)) x 3 = up (V 3) (5 * q + (2 + w)) x := vup3
  have E1 : ER g 1 (hset h (qn h q) (3 + w) x) (xv h 1 0) (vup V 3 (5 * q + (2 + w)) x 3) P := by
    rw [e3]
    refine E.mod f (ow.tf f) (fun b j r s => ?_) (fun j hj r => OB.ne E.o o (by decide) r.1) (up_n (by omega)) (up_n (by omega)) (up_n (by omega)) ?_ ?_ ?_ ?_ ?_ (fun k a b => ?_) (fun k a b => ?_)
    · rw [s.1] at r; rcases r with r | r
      · exact absurd (r.2.2.symm.trans o.2.2) (by decide)
      · exact absurd (r.2.2.symm.trans o.2.2) (by decide)
    · exact E.te.keep f (fun k _ _ r => OB.ne E.te.1 o (by decide) r.1) (fun k a b => up_n (by omega)) (Int.le_refl _)
    · exact E.fd.keep f (fun k _ _ r => OB.ne E.fd.1 o (by decide) r.1) (fun k a b => up_n (by omega)) (Int.le_refl _)
    · rw [up_n (by omega)]
      exact E.ye.keep f (fun k _ _ r => OB.ne E.ye.1 o (by decide) r.1) (fun k a b => up_n (by omega)) (Int.le_refl _)
    · rw [hset_vn (OB.ne E.o o (by decide)), up_n (by omega)]; exact E.yd
    · rw [hset_vn (OB.ne E.o o (by decide)), up_n (by omega)]; exact E.us
    · by_cases e : k = q
      · rw [e]
        obtain ⟨p1, p2, p3, p4, p5, p6, p7, p8⟩ := Q
        have ev : ∀ j, xv (hset h (qn h q) (3 + w) x) (nth h (xv h (xv h 1 0) 0) q) j = if j = 3 + w then x else xv h (nth h (xv h (xv h 1 0) 0) q) j := fun j => by
          by_cases ej : j = 3 + w
          · rw [if_pos ej, ej]; exact hset_vv
          · rw [if_neg ej]; exact hset_vj ej
        refine ⟨p1, p2, ?_, ?_, ?_, ?_, ?_, ?_⟩
        · rw [ev, if_neg (by omega)]; exact p3
        · rw [ev, if_neg (by omega), up_n (by omega)]; exact p4
        · rw [ev, if_neg (by omega), up_n (by omega)]; exact p5
        · rw [ev]; unfold up; by_cases c : w = 0
          · rw [if_pos (by omega), if_pos (by omega)]
          · rw [if_neg (by omega), if_neg (by omega)]; exact p6
        · rw [ev]; unfold up; by_cases c : w = 1
          · rw [if_pos (by omega), if_pos (by omega)]
          · rw [if_neg (by omega), if_neg (by omega)]; exact p7
        · rw [ev]; unfold up; by_cases c : w = 2
          · rw [if_pos (by omega), if_pos (by omega)]
          · rw [if_neg (by omega), if_neg (by omega)]; exact p8
      · have Qk := E.q k a b
        refine Qk.keep f (fun j r => ?_) (fun j c d => up_n (by omega))
        have e1 := Qk.2.1
        have e2 := Q.2.1
        have e4 : nth h (xv h (xv h 1 0) 0) k = nth h (xv h (xv h 1 0) 0) q := r.1
        rw [e4] at e1
        omega
    · exact ⟨up_n (by omega), up_n (by omega)⟩
  have P1 : PR (vup V 3 (5 * q + (2 + w)) x 3) P := by rw [e3]; exact R.pr.congr (up_n (by omega)) (fun t a b => up_n (by omega)) (fun j a => up_n (by omega))
  refine R.wasT hn f ow E1 ?_ P1 (MF.ed MF.rf (by decide)) (by decide) (by decide)
  rw [e3]
  refine K.put (by omega) (fun q' f' a b d e1 e2 => ?_) (fun _ _ => by omega) (fun _ => by omega)
  split at x1 <;> omega
theorem op_know : OP_know Rel := by
  intro n h V hn _ _ ⟨g, P, R⟩ q hq w hw x hx
  have H := R.sh
  have E := R.er
  have K := R.ki
  have hK := K.nn
  by_cases c0 : 0 ≤ w ∧ w ≤ 2
  · by_cases c1 : 0 ≤ x ∧ x ≤ if w = 0 then 2 else 1
    · by_cases c : 0 ≤ q ∧ q < V 3 390
      · refine (R.putQ hn (w := w) (x := x) c.1 c.2 c0.1 c0.2 c1.1 c1.2).op hn (r := V 3 (5 * q + (2 + w))) ?_ ?_
        · have f : Fr (fun b j => b = qn h q ∧ j = 3 + w) 0 0 h (hset h (qn h q) (3 + w) x) := Fr.set fun _ => ⟨rfl, rfl⟩
          have o : OB h (qn h q) 5 := (E.q q c.1 c.2).1
          have H1 : SH (hset h (qn h q) (3 + w) x) := H.fr f (fun j hj r => OB.ne H.x1 o (by decide) r.1) (fun r => OB.ne H.x10 o (by decide) r.1) (fun r => OB.ne H.x12 o (by decide) r.1)
          have e138 : ∀ r, F_X0_knowB_138 1 r (hset h (qn h q) (3 + w) x) = some (r, hset (hset (hset h (qn h q) (3 + w) x) 1 9 0) 1 5 0) := fun r => by
            unfold F_X0_knowB_138
            rw [obk H1.x1, F_was_eq H1, mb_some]
          have eof : F_X0_of 1 q (w32 (w + 2)) h = some (V 3 (5 * q + (2 + w)), h) := by
            rw [w32_id (by omega) (by omega), F_of_eq R c.1 c.2 (by omega) (by omega), Int.add_comm w 2]
          have e26 : ∀ m : Int, (m = if w = 0 then 2 else 1) → F_X0_knowB_26 x 0 m 1 q w x h = some (V 3 (5 * q + (2 + w)), hset (hset (hset h (qn h q) (3 + w) x) 1 9 0) 1 5 0) := fun m hm => by
            unfold F_X0_knowB_26
            rw [F_in_t c1.1 (by rw [hm]; exact c1.2), mb_some, if_neg (by decide), obk H.x1, F_qof_t H E hK c.1 c.2, mb_some, if_neg (qn_ne E c.1 c.2), obk H.x1, eof, mb_some]
            by_cases w0 : w = 0
            · have := e138 (V 3 (5 * q + (2 + w)))
              rw [w0] at this ⊢
              rw [if_pos rfl, obk o, nm_eq]; exact this
            · have hx1 : x ≤ 1 := by have := c1.2; rw [if_neg w0] at this; exact this
              have ex : (if x = 1 then (1 : Int) else 0) = x := by split <;> omega
              rw [if_neg w0]
              by_cases w1 : w = 1
              · have := e138 (V 3 (5 * q + (2 + w)))
                rw [w1] at this ⊢
                rw [if_pos rfl, nm_eq, ex, obk o, cb_ok (by omega), nm_eq]; exact this
              · have := e138 (V 3 (5 * q + (2 + w)))
                rw [if_neg w1, nm_eq, ex, obk o, cb_ok (by omega), nm_eq]
                rw [show w = 2 by omega] at this ⊢
                exact this
          unfold F_X0_knowB
          rw [F_in_t c0.1 c0.2, mb_some, if_neg (by decide)]
          by_cases w0 : w = 0
          · rw [if_pos w0, e26 2 (by rw [if_pos w0])]
          · rw [if_neg w0, e26 1 (by rw [if_neg w0])]
        · unfold M_know
          have ei : w32 (w32 (w32 (0 + w32 (5 * q)) + 2) + w) = 5 * q + (2 + w) := by
            rw [w32_id (x := 5 * q) (by omega) (by omega), w32_id (x := 0 + 5 * q) (by omega) (by omega), w32_id (x := 0 + 5 * q + 2) (by omega) (by omega), w32_id (by omega) (by omega)]; omega
          rw [M_lies_t c0.1 c0.2, mb_some, if_neg (by decide), nm_eq, M_lies_t c1.1 c1.2, mb_some, if_neg (by decide), M_isQuestion_t hK.1 hK.2 c.1 c.2, mb_some, if_neg (by decide), ei, M_replaces_eq (by omega) (by omega), mb_some, vupN (k := 3) (k' := 1) (by decide)]
      · refine R.opNo hn (v := -2) (by decide) (by decide) ?_ ?_
        · have e26 : ∀ m : Int, (m = if w = 0 then 2 else 1) → F_X0_knowB_26 x 0 m 1 q w x h = F_X0_tell 1 (-2) h := fun m hm => by
            unfold F_X0_knowB_26
            rw [F_in_t c1.1 (by rw [hm]; exact c1.2), mb_some, if_neg (by decide), obk H.x1, F_qof_f H E hK (by omega), mb_some, if_pos rfl, obk H.x1, mb_id]
          unfold F_X0_knowB
          rw [F_in_t c0.1 c0.2, mb_some, if_neg (by decide)]
          by_cases w0 : w = 0
          · rw [if_pos w0, e26 2 (by rw [if_pos w0])]
          · rw [if_neg w0, e26 1 (by rw [if_neg w0])]
        · unfold M_know
          rw [M_lies_t c0.1 c0.2, mb_some, if_neg (by decide), nm_eq, M_lies_t c1.1 c1.2, mb_some, if_neg (by decide), M_isQuestion_f hK.1 hK.2 (by omega), mb_some, if_pos rfl, mb_id]
    · refine R.opNo hn (v := -1) (by decide) (by decide) ?_ ?_
      · have e26 : ∀ m : Int, (m = if w = 0 then 2 else 1) → F_X0_knowB_26 x 0 m 1 q w x h = F_X0_tell 1 (-1) h := fun m hm => by
          unfold F_X0_knowB_26 F_X0_knowB_32
          rw [F_in_f (by rw [hm]; omega), mb_some, if_pos rfl, obk H.x1, mb_id]
        unfold F_X0_knowB
        rw [F_in_t c0.1 c0.2, mb_some, if_neg (by decide)]
        by_cases w0 : w = 0
        · rw [if_pos w0, e26 2 (by rw [if_pos w0])]
        · rw [if_neg w0, e26 1 (by rw [if_neg w0])]
      · unfold M_know M_know_26
        rw [M_lies_t c0.1 c0.2, mb_some, if_neg (by decide), nm_eq, M_lies_f (by omega), mb_some, if_pos rfl, mb_id]
  · refine R.opNo hn (v := -1) (by decide) (by decide) ?_ ?_
    · unfold F_X0_knowB F_X0_knowB_32
      rw [F_in_f (by omega), mb_some, if_pos rfl, obk H.x1, mb_id]
    · unfold M_know M_know_26
      rw [M_lies_f (by omega), mb_some, if_pos rfl, mb_id]
