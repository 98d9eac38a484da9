/-! plain law: count, drawn, feed -/
set_option maxRecDepth 100000
set_option maxHeartbeats 400000
def kn (K : Int → Int) (q : Int) : Int := if K (5 * q + 2) ≤ 0 then 0 else 1
theorem kn_01 (K : Int → Int) (q : Int) : kn K q = 0 ∨ kn K q = 1 := by unfold kn; split <;> simp
theorem bw_01 (K : Int → Int) (q : Int) : bw K q = 0 ∨ bw K q = 1 := by unfold bw; split <;> simp
theorem M_count_4_eq {V : VV} {w : Int} (hn : V 3 390 ≤ 20) : ∀ (n k : Nat) (acc q : Int), k < n → 0 ≤ q → q + k = V 3 390 → 0 ≤ acc → acc + k ≤ 20 → M_count_4 n w acc q V = M_count_35 w (acc + Sg (kn (V 3)) k q) V := by
  intro n
  induction n with
  | zero => intro k acc q h; omega
  | succ n ih =>
    intro k acc q hk h0 h1 h2 h4
    rw [M_count_4, M_questions_eq, mb_some]
    cases k with
    | zero => rw [if_pos (by omega)]; show _ = M_count_35 w (acc + 0) V; rw [Int.add_zero]
    | succ k =>
      have hb := kn_01 (V 3) q
      have e : (if V 3 (5 * q + 2) ≤ 0 then (0 : Int) else 1) = kn (V 3) q := rfl
      rw [if_neg (by omega), M_factOf_eq h0 (by omega) (by decide) (by decide), mb_some, nm_eq, e, nm_eq, nm_eq, w32_id (by omega) (by omega), w32_id (by omega) (by omega), ih k _ _ (by omega) (by omega) (by omega) (by omega) (by omega)]
      show _ = M_count_35 w (acc + (kn (V 3) q + Sg (kn (V 3)) k (q + 1))) V
      rw [Int.add_assoc]
section
variable {g : Int → Int} {P : Nat → CLS} {K : Int → Int} {h : XH}
theorem F_count_eq (H : SH h) (E : ER g 1 h (xv h 1 0) K P) (hn : K 390 ≤ 20) : ∀ (n k : Nat) (acc q : Int), k < n → 0 ≤ q → q + k = K 390 → 0 ≤ acc → acc + k ≤ 20 → F_X0_count_110 n 1 acc q h = some (acc + Sg (kn K) k q, h) := by
  intro n
  induction n with
  | zero => intro k acc q h; omega
  | succ n ih =>
    intro k acc q hk h0 h1 h2 h4
    rw [F_X0_count_110, obk H.x1, F_many_eq H E, mb_some]
    cases k with
    | zero => rw [if_pos (by omega)]; show _ = some (acc + 0, h); rw [Int.add_zero]
    | succ k =>
      have hb := kn_01 K q
      obtain ⟨o, -, -, -, -, q3, -⟩ := E.q q h0 (by omega)
      have e : (if K (5 * q + 2) ≤ 0 then (0 : Int) else 1) = kn K q := rfl
      rw [if_neg (by omega), obk H.x1, obk E.o, obk E.lq.1, F_get_eq E.lq h0 (by omega), mb_some, obk o, obk o, q3, nm_eq, e, nm_eq, nm_eq, w32_id (by omega) (by omega), w32_id (by omega) (by omega), ih k _ _ (by omega) (by omega) (by omega) (by omega) (by omega)]
      show _ = some (acc + (kn K q + Sg (kn K) k (q + 1)), h)
      rw [Int.add_assoc]
theorem F_inBowl_4_eq (H : SH h) (E : ER g 1 h (xv h 1 0) K P) (hn : K 390 ≤ 20) : ∀ (n k : Nat) (acc q : Int), k < n → 0 ≤ q → q + k = K 390 → 0 ≤ acc → acc + k ≤ 20 → F_X0_inBowl_4 n 1 acc q h = some (acc + Sg (bw K) k q, h) := by
  intro n
  induction n with
  | zero => intro k acc q h; omega
  | succ n ih =>
    intro k acc q hk h0 h1 h2 h4
    rw [F_X0_inBowl_4, obk H.x1, F_many_eq H E, mb_some]
    cases k with
    | zero => rw [if_pos (by omega)]; show _ = some (acc + 0, h); rw [Int.add_zero]
    | succ k =>
      have hb := bw_01 K q
      obtain ⟨o, -, -, -, -, -, -, q5⟩ := E.q q h0 (by omega)
      have e : (if K (5 * q + 4) = 0 then (1 : Int) else 0) = bw K q := rfl
      rw [if_neg (by omega), obk H.x1, obk E.o, obk E.lq.1, F_get_eq E.lq h0 (by omega), mb_some, obk o, obk o, q5, nm_eq, e, nm_eq, nm_eq, w32_id (by omega) (by omega), w32_id (by omega) (by omega), ih k _ _ (by omega) (by omega) (by omega) (by omega) (by omega)]
      show _ = some (acc + (bw K q + Sg (bw K) k (q + 1)), h)
      rw [Int.add_assoc]
theorem F_inBowl_eq (H : SH h) (E : ER g 1 h (xv h 1 0) K P) (h0 : 0 ≤ K 390) (hn : K 390 ≤ 20) : F_X0_inBowl 1 h = some (bowlN K, h) := by
  unfold F_X0_inBowl
  rw [F_inBowl_4_eq H E hn FU (K 390).toNat 0 0 (by rw [FU_eq]; omega) (by decide) (by omega) (by decide) (by omega)]
  unfold bowlN; rw [Int.zero_add]
end
theorem op_count : OP_count Rel := by
  intro n h V hn _ _ ⟨g, P, R⟩ w hw
  have H := R.sh
  have E := R.er
  have K := R.ki
  have hK := K.nn
  have S := R.sc
  refine R.same.op hn (r := if w = 0 then V 3 390 else if w = 1 then bowlN (V 3) else if w = 2 then V 3 393 else if w = 3 then V 3 391 else if w = 4 then V 3 392 else if w = 5 then Sg (kn (V 3)) (V 3 390).toNat 0 else if w = 6 then V 9 0 else if w = 7 then V 2 1 else if w = 8 then V 2 2 else if w = 9 then V 2 3 else if w = 10 then V 2 5 else if w = 11 then V 2 6 else if w = 12 then V 3 394 else -1) ?_ ?_
  · unfold F_X0_count
    have l14 := H.l14
    have r : ∀ k : Int, 0 ≤ k → k < 7 → ai h (xv h 1 4) 0 k (some (xv h (xv h 1 4) k, h)) = some (V 2 k, h) := fun k k0 k1 => by
      rw [H.f4, aik (t := 0) H.x14 k0 (by rw [l14]; exact k1), S.2.1 k k0 k1]
    rw [obk H.x1, obk H.x1, obk H.x1, obk H.x1, obk H.x1, obk H.x1, obk H.x1, obk H.x1, obk H.x1, obk H.x1, obk H.x1, obk H.x1, obk E.o, obk E.o, obk E.o, obk E.o, obk E.lp.1, obk E.ld.1, F_many_eq H E, mb_some, F_inBowl_eq H E hK.1 hK.2, mb_some, F_size_eq E.lp, mb_some, F_size_eq E.ld, mb_some, r 1 (by decide) (by decide), r 2 (by decide) (by decide), r 3 (by decide) (by decide), r 5 (by decide) (by decide), r 6 (by decide) (by decide), E.yd, E.us, S.2.2.2.2.1, F_count_eq H E hK.2 FU (V 3 390).toNat 0 0 (by rw [FU_eq]; omega) (by decide) (by omega) (by decide) (by omega), Int.zero_add]
    by_cases w0 : w = 0
    · rw [if_pos w0, if_pos w0]
    rw [if_neg w0, if_neg w0]
    by_cases w1 : w = 1
    · rw [if_pos w1, if_pos w1]
    rw [if_neg w1, if_neg w1]
    by_cases w2 : w = 2
    · rw [if_pos w2, if_pos w2]
    rw [if_neg w2, if_neg w2]
    by_cases w3 : w = 3
    · rw [if_pos w3, if_pos w3]
    rw [if_neg w3, if_neg w3]
    by_cases w4 : w = 4
    · rw [if_pos w4, if_pos w4]
    rw [if_neg w4, if_neg w4]
    by_cases w5 : w = 5
    · rw [if_pos w5, if_pos w5]
    rw [if_neg w5, if_neg w5]
    by_cases w6 : w = 6
    · rw [if_pos w6, if_pos w6]
    rw [if_neg w6, if_neg w6]
    by_cases w7 : w = 7
    · rw [if_pos w7, if_pos w7]
    rw [if_neg w7, if_neg w7]
    by_cases w8 : w = 8
    · rw [if_pos w8, if_pos w8]
    rw [if_neg w8, if_neg w8]
    by_cases w9 : w = 9
    · rw [if_pos w9, if_pos w9]
    rw [if_neg w9, if_neg w9]
    by_cases w10 : w = 10
    · rw [if_pos w10, if_pos w10]
    rw [if_neg w10, if_neg w10]
    by_cases w11 : w = 11
    · rw [if_pos w11, if_pos w11]
    rw [if_neg w11, if_neg w11]
    by_cases w12 : w = 12
    · rw [if_pos w12, if_pos w12]
    rw [if_neg w12, if_neg w12]
  · unfold M_count
    rw [M_count_4_eq hK.2 FU (V 3 390).toNat 0 0 (by rw [FU_eq]; omega) (by decide) (by omega) (by decide) (by omega), Int.zero_add]
    unfold M_count_35
    have r : ∀ k : Int, 7 ≤ k → k ≤ 9 → M_count_148 k V = some (V 2 (k - 6), V) := fun k k0 k1 => by
      unfold M_count_148
      rw [w32_id (by omega) (by omega), ck_ok (by omega) (by omega)]
    rw [M_questions_eq, mb_some, M_bowl_eq hK.1 hK.2, mb_some]
    by_cases c : w = 7 ∨ w = 8 ∨ w = 9
    · rcases c with rfl | rfl | rfl
      · rw [r 7 (by decide) (by decide)]; rfl
      · rw [r 8 (by decide) (by decide)]; rfl
      · rw [r 9 (by decide) (by decide)]; rfl
    · rw [if_neg (show ¬ w = 7 by omega), if_neg (show ¬ w = 8 by omega), if_neg (show ¬ w = 9 by omega), if_neg (show ¬ w = 7 by omega), if_neg (show ¬ w = 8 by omega), if_neg (show ¬ w = 9 by omega)]
      (repeat' split) <;> rfl
/-- in which of the years one was drawn; how long ago -/
def yb (K : Int → Int) (q y : Int) : Int := tb (K (350 + y)) q
def agoF (K : Int → Int) (q : Int) : Nat → Int → Int → Int
  | 0, _, a => a
  | r + 1, k, a => agoF K q r (k + 1) (if yb K q k = 1 then K 392 - 1 - k else a)
theorem agoF_last (K : Int → Int) (q : Int) : ∀ (r : Nat) (k a : Int), agoF K q (r + 1) k a = if yb K q (k + r) = 1 then K 392 - 1 - (k + r) else agoF K q r k a
  | 0, k, a => by show (if yb K q k = 1 then _ else a) = _; rw [show k + ((0 : Nat) : Int) = k by omega]; rfl
  | r + 1, k, a => by
    show agoF K q (r + 1) (k + 1) _ = _
    rw [agoF_last K q r (k + 1), show k + 1 + (r : Int) = k + ((r + 1 : Nat) : Int) by omega]
    rfl
section
variable {V : VV} {q : Int}
theorem yb_eq (K : KI (V 3)) (h0 : 0 ≤ q) (h1 : q < 20) {k : Int} (k0 : 0 ≤ k) (k1 : k < V 3 392) : iand (ishr (V 3 (350 + k)) q) 1 = yb (V 3) q k := by
  have := K.2.2.2.2.2.1 k k0 k1
  exact bit_eq (by omega) (by omega) h0 (by omega)
theorem M_drawnTimes_eq (K : KI (V 3)) (h0 : 0 ≤ q) (h1 : q < 20) : ∀ (n r : Nat) (acc k : Int), r < n → 0 ≤ k → k + r = V 3 392 → 0 ≤ acc → acc + r ≤ 40 → M_drawnTimes_4 n q acc k V = some (acc + Sg (yb (V 3) q) r k, V) := by
  have hy := K.1.2.2.1
  intro n
  induction n with
  | zero => intro r acc k h; omega
  | succ n ih =>
    intro r acc k hr k0 k1 h2 h4
    rw [M_drawnTimes_4]
    cases r with
    | zero => rw [if_pos (by omega)]; show _ = some (acc + 0, V); rw [Int.add_zero]
    | succ r =>
      have hb := tb_01 (V 3 (350 + k)) q
      have e := yb_eq K h0 h1 k0 (show k < V 3 392 by omega)
      unfold yb at e
      rw [if_neg (by omega), w32_id (x := 350 + k) (by omega) (by omega), ck_ok (by omega) (by omega), e, nm_eq, nm_eq, w32_id (by omega) (by omega), w32_id (by omega) (by omega), ih r _ _ (by omega) (by omega) (by omega) (by omega) (by omega)]
      show _ = some (acc + (tb (V 3 (350 + k)) q + Sg (yb (V 3) q) r (k + 1)), V)
      rw [Int.add_assoc]
theorem M_drawn_31_eq (K : KI (V 3)) (h0 : 0 ≤ q) (h1 : q < 20) : ∀ (n r : Nat) (k : Int), r < n → 0 ≤ k → k + r = V 3 392 → M_drawn_31 n q k V = some (agoF (V 3) q r 0 (-1), V) := by
  have hy := K.1.2.2.1
  intro n
  induction n with
  | zero => intro r k h; omega
  | succ n ih =>
    intro r k hr k0 k1
    rw [M_drawn_31]
    cases r with
    | zero => rw [if_pos (by omega)]; rfl
    | succ r =>
      have e := yb_eq K h0 h1 (k := (r : Int)) (by omega) (by omega)
      have ei : w32 (w32 (w32 (350 + V 3 392) - 1) - k) = 350 + (r : Int) := by
        rw [w32_id (x := 350 + V 3 392) (by omega) (by omega), w32_id (x := 350 + V 3 392 - 1) (by omega) (by omega), w32_id (by omega) (by omega)]; omega
      rw [if_neg (by omega), ei, ck_ok (by omega) (by omega), e, agoF_last, Int.zero_add]
      by_cases c : yb (V 3) q r = 1
      · rw [if_pos c, if_pos c]; congr 2; omega
      · rw [if_neg c, if_neg c, nm_eq, w32_id (by omega) (by omega), ih r (k + 1) (by omega) (by omega) (by omega)]
end
theorem F_drawn_eq {g : Int → Int} {P : Nat → CLS} {n : Nat} {h : XH} {V : VV} (R : RelG g P n h V) {q w : Int} (h0 : 0 ≤ q) (h1 : q < 20) : ∀ (n r : Nat) (acc ago k : Int), r < n → 0 ≤ k → k + r = V 3 392 → 0 ≤ acc → acc + r ≤ 40 → F_X0_drawn_28 n 1 q w acc ago k h = some (if w = 0 then acc + Sg (yb (V 3) q) r k else agoF (V 3) q r k ago, h) := by
  have H := R.sh
  have E := R.er
  have K := R.ki
  have hy := K.1.2.2.1
  intro n
  induction n with
  | zero => intro r acc ago k h; omega
  | succ n ih =>
    intro r acc ago k hr k0 k1 h2 h4
    rw [F_X0_drawn_28, obk H.x1, obk E.o, E.yd]
    cases r with
    | zero =>
      rw [if_pos (by omega)]
      unfold F_X0_drawn_108
      rw [nm_eq]
      show _ = some (if w = 0 then acc + 0 else ago, h)
      rw [Int.add_zero]
    | succ r =>
      have hb := tb_01 (V 3 (350 + k)) q
      have e := yb_eq K h0 h1 k0 (show k < V 3 392 by omega)
      have ey := E.ye.2.2.2 k k0 (by omega)
      unfold yb at e
      have e1 : Sg (yb (V 3) q) (r + 1) k = tb (V 3 (350 + k)) q + Sg (yb (V 3) q) r (k + 1) := rfl
      have e2 : agoF (V 3) q (r + 1) k ago = agoF (V 3) q r (k + 1) (if tb (V 3 (350 + k)) q = 1 then V 3 392 - 1 - k else ago) := rfl
      rw [if_neg (by omega), obk H.x1, obk E.o, aik (t := 0) E.ye.1 k0 (by rw [E.ye.2.2.1]; omega), ey, e, e1, e2]
      rcases hb with hb | hb
      · rw [hb, nm_eq, if_neg (show ¬ (0 : Int) = 1 by decide), nm_eq, if_pos rfl, nm_eq, if_pos rfl]
        unfold F_X0_drawn_100
        rw [nm_eq, w32_id (by omega) (by omega), w32_id (by omega) (by omega), ih r _ _ _ (by omega) (by omega) (by omega) (by omega) (by omega), Int.zero_add, Int.add_zero, if_neg (show ¬ (0 : Int) = 1 by decide)]
      · rw [hb, nm_eq, if_pos (show (1 : Int) = 1 from rfl), nm_eq, if_neg (show ¬ (1 : Int) = 0 by decide), nm_eq, if_neg (show ¬ (1 : Int) = 0 by decide), obk H.x1, obk E.o]
        unfold F_X0_drawn_100
        rw [nm_eq, w32_id (x := acc + 1) (by omega) (by omega), w32_id (x := V 3 392 - 1) (by omega) (by omega), w32_id (x := V 3 392 - 1 - k) (by omega) (by omega), w32_id (by omega) (by omega), ih r _ _ _ (by omega) (by omega) (by omega) (by omega) (by omega), Int.add_assoc, if_pos (show (1 : Int) = 1 from rfl)]
theorem op_drawn : OP_drawn Rel := by
  intro n h V hn _ _ ⟨g, P, R⟩ q hq w hw
  have H := R.sh
  have E := R.er
  have K := R.ki
  have hK := K.nn
  have hy := K.1.2.2.1
  by_cases c : 0 ≤ q ∧ q < V 3 390
  · by_cases c2 : 0 ≤ w ∧ w ≤ 1
    · refine R.same.op hn (r := if w = 0 then 0 + Sg (yb (V 3) q) (V 3 392).toNat 0 else agoF (V 3) q (V 3 392).toNat 0 (-1)) ?_ ?_
      · unfold F_X0_drawn
        rw [obk H.x1, F_qof_t H E hK c.1 c.2, mb_some, if_neg (qn_ne E c.1 c.2), F_in_t c2.1 c2.2, mb_some, if_neg (by decide), F_drawn_eq R c.1 (by omega) FU (V 3 392).toNat 0 (-1) 0 (by rw [FU_eq]; omega) (by decide) (by omega) (by decide) (by omega)]
      · unfold M_drawn
        rw [M_isQuestion_t hK.1 hK.2 c.1 c.2, mb_some, if_neg (by decide), M_lies_t c2.1 c2.2, mb_some, if_neg (by decide)]
        by_cases w0 : w = 0
        · rw [if_pos w0, if_pos w0]
          unfold M_drawnTimes
          rw [M_drawnTimes_eq K c.1 (by omega) FU (V 3 392).toNat 0 0 (by rw [FU_eq]; omega) (by decide) (by omega) (by decide) (by omega), mb_some]
        · rw [if_neg w0, if_neg w0, M_drawn_31_eq K c.1 (by omega) FU (V 3 392).toNat 0 (by rw [FU_eq]; omega) (by decide) (by omega)]
    · refine R.same.op hn (r := -1) ?_ ?_
      · unfold F_X0_drawn
        rw [obk H.x1, F_qof_t H E hK c.1 c.2, mb_some, if_neg (qn_ne E c.1 c.2), F_in_f (by omega), mb_some, if_pos rfl]
      · unfold M_drawn
        rw [M_isQuestion_t hK.1 hK.2 c.1 c.2, mb_some, if_neg (by decide), M_lies_f (by omega), mb_some, if_pos rfl]
  · refine R.same.op hn (r := -1) ?_ ?_
    · unfold F_X0_drawn
      rw [obk H.x1, F_qof_f H E hK (by omega), mb_some, if_pos rfl]
    · unfold M_drawn
      rw [M_isQuestion_f hK.1 hK.2 (by omega), mb_some, if_pos rfl]
