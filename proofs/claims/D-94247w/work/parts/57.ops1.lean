/-! plain law: the calls that only ask plain fields -/
set_option maxRecDepth 100000
set_option maxHeartbeats 400000
theorem RelG.op {g : Int → Int} {P : Nat → CLS} {n : Nat} {h1 : XH} {V1 : VV} {f : Option XR} {gg : Option (Int × VV)} {r : Int} (hn : n < 64) (R : RelG g P (n + 1) h1 V1) (e1 : f = some (r, h1)) (e2 : gg = some (r, V1)) : opOK f gg (Rel (n + 1)) := by
  have h := R.rm
  have hs := SLM_eq
  exact ⟨r, h1, V1, e1, e2, ⟨g, P, R⟩, by omega, by omega⟩
theorem RelG.same {g : Int → Int} {P : Nat → CLS} {n : Nat} {h : XH} {V : VV} (R : RelG g P n h V) : RelG g P (n + 1) h V := R.query (c := 0) (s := 0) Fr.rf MF.rf (by decide) (by decide)
/-- a step that leaves the rows alone -/
theorem RelG.step {g : Int → Int} {P : Nat → CLS} {n : Nat} {h h' : XH} {V V' : VV} {W : Int → Int → Prop} {c s : Nat} (R : RelG g P n h V) (f : Fr W c s h h') (o : OK g h W) (h1 : ∀ j, W 1 j → 5 ≤ j ∧ j ≠ 10 ∧ j ≠ 11) (h9 : ∀ j, ¬ W 9 j) (h10 : ¬ W 10 0) (h12 : ¬ W 12 0) (e3 : V' 3 = V 3) (e4 : V' 4 = V 4) (e5 : V' 5 = V 5) (e6 : V' 6 = V 6) (sc : SC h' V') (tb : TB h' V') (ca : CA h' V' (curP (V 3) P)) (vr : 0 ≤ V' 1 0 ∧ V' 1 0 ≤ ((n + 1 : Nat) : Int)) (hc : c ≤ 18000) (hs : s ≤ 80000) : RelG g P (n + 1) h' V' := by
  have H := R.sh
  refine ⟨H.fr f (fun j hj q => by have := h1 j q; omega) h10 h12, R.gw.fr f, ?_, ?_, ?_, ⟨?_, ?_⟩, sc, tb, ?_, ?_, vr, ?_⟩
  · rw [f.v (by have := H.1; omega) (fun q => by have := h1 0 q; omega), e3]; exact R.er.fr R.ki.1.1.2 (by decide) o f
  · rw [e3]; exact R.ki
  · rw [e3]; exact R.pr
  · exact R.im.1.fr (by decide) o f (f.v (by have := H.1; omega) (h9 0)) e4 e5
  · exact R.im.2.fr (by decide) o f (f.v (by have := H.1; omega) (h9 1)) e4 e5
  · unfold MW; rw [e6]; exact R.mw
  · rw [e3]; exact ca
  · have := R.rm; have := f.1.2; constructor <;> omega
/-- the caches where the version is new, or nothing of theirs is touched -/
theorem CA.bump {h h' : XH} {V V' : VV} {cl cl' : CLS} (C : CA h V cl) (e35 : V' 35 = V 35) (e58 : V' 58 = V 58) (e1 : V' 1 0 = V 1 0 + 1) (e9 : xv h' 1 9 = 0 ∨ FS h' (xv h' 1 9) (V' 3) cl') : CA h' V' cl' := by
  obtain ⟨c1, -, c3, -, -⟩ := C
  exact ⟨by rw [e35, e1]; omega, fun q => by rw [e35, e1] at q; omega, by rw [e58, e1]; omega, fun q => by rw [e58, e1] at q; omega, e9⟩
theorem CA.keep {h h' : XH} {V V' : VV} {cl : CLS} (C : CA h V cl) (m : ∀ k ∈ [1, 3, 31, 32, 33, 34, 35, 54, 57, 58], V' k = V k) (e9 : xv h' 1 9 = 0 ∨ FS h' (xv h' 1 9) (V 3) cl) : CA h' V' cl := by
  obtain ⟨c1, c2, c3, c4, -⟩ := C
  unfold CA
  rw [m 1 (by decide), m 3 (by decide), m 35 (by decide), m 58 (by decide)]
  exact ⟨c1, fun q => (c2 q).mf (m 31 (by decide)) (m 32 (by decide)) (m 33 (by decide)) (m 34 (by decide)), c3, fun q => (c4 q).mf (m 57 (by decide)) (m 54 (by decide)), e9⟩
/-- plain fields of the system, by place: they may change -/
def XW : Int → Int → Prop := fun a j => (a = 1 ∧ 5 ≤ j ∧ j ≠ 10 ∧ j ≠ 11) ∨ a = 14 ∨ a = 16
theorem XW.ok {g : Int → Int} {h : XH} (H : SH h) (G : GW g h) : OK g h XW := fun a j h1 h2 q => by
  rcases q with ⟨rfl, -⟩ | rfl | rfl
  · exact ⟨G.1.1, by rw [H.x1.2.2]; rfl, fun e => by rw [H.x1.2.2] at e; cases e⟩
  · exact ⟨G.1.2.2.2.2.1, by rw [H.x14.2.2]; rfl, fun e => by rw [H.x14.2.2] at e; cases e⟩
  · exact ⟨G.1.2.2.2.2.2.2, by rw [H.x16.2.2]; rfl, fun e => by rw [H.x16.2.2] at e; cases e⟩
theorem FS.xw {g : Int → Int} {P : Nat → CLS} {c s : Nat} {h h' : XH} {z : Int} {K : Int → Int} {cl : CLS} (F : FS h z K cl) (E : ER g 1 h (xv h 1 0) K P) (H : SH h) (f : Fr XW c s h h') : FS h' z K cl := F.fr E H f fun a j w => by
  rcases w with ⟨rfl, w⟩ | rfl | rfl
  · rw [H.x1.2.2]; exact ⟨by omega, by decide, fun _ => by omega, by decide, by decide, by decide, by decide, fun e => absurd e (by decide)⟩
  · rw [H.x14.2.2]; exact ⟨by omega, by decide, (fun e => absurd e (by decide)), by decide, by decide, by decide, by decide, fun e => absurd e (by decide)⟩
  · rw [H.x16.2.2]; exact ⟨by omega, by decide, (fun e => absurd e (by decide)), by decide, by decide, by decide, by decide, fun e => absurd e (by decide)⟩
theorem RelG.stepX {g : Int → Int} {P : Nat → CLS} {n : Nat} {h h' : XH} {V V' : VV} {c s : Nat} (R : RelG g P n h V) (f : Fr XW c s h h') (e3 : V' 3 = V 3) (e4 : V' 4 = V 4) (e5 : V' 5 = V 5) (e6 : V' 6 = V 6) (sc : SC h' V') (tb : TB h' V') (ca : CA h' V' (curP (V 3) P)) (vr : 0 ≤ V' 1 0 ∧ V' 1 0 ≤ ((n + 1 : Nat) : Int)) (hc : c ≤ 18000) (hs : s ≤ 80000) : RelG g P (n + 1) h' V' :=
  R.step f (XW.ok R.sh R.gw) (fun j q => by unfold XW at q; omega) (fun j q => by unfold XW at q; omega) (fun q => by unfold XW at q; omega) (fun q => by unfold XW at q; omega) e3 e4 e5 e6 sc tb ca vr hc hs
theorem TB.xw {h h' : XH} {V V' : VV} {c s : Nat} (T : TB h V) (f : Fr XW c s h h') (e8 : xv h' 1 8 = xv h 1 8) (e64 : V' 64 = V 64) (e65 : V' 65 = V 65) (e66 : V' 66 = V 66) (H : SH h) : TB h' V' := by
  unfold TB at *
  rw [e8, e64, e65, e66]
  rcases T with T | ⟨o, t1, t2, t3, t4⟩
  · exact Or.inl T
  · have et : ∀ j, xv h' (xv h 1 8) j = xv h (xv h 1 8) j := fun j => f.v o.2.1 fun q => by
      have ek := o.2.2
      rcases q with ⟨q, -⟩ | q | q
      · rw [q, H.x1.2.2] at ek; cases ek
      · rw [q, H.x14.2.2] at ek; cases ek
      · rw [q, H.x16.2.2] at ek; cases ek
    exact Or.inr ⟨f.ob o, t1, by rw [et]; exact t2, by rw [et]; exact t3, by rw [et]; exact t4⟩
/-- refusals -/
theorem RelG.no {g : Int → Int} {P : Nat → CLS} {n : Nat} {h : XH} {V : VV} (R : RelG g P n h V) {v : Int} (h0 : v < 0) (h1 : -7 < v) : RelG g P (n + 1) (hset (hset h 1 5 v) 14 (-v) (w32 (xv h 14 (-v) + 1))) (vup (vup V 0 0 v) 2 (-v) (w32 (V 2 (-v) + 1))) := by
  have H := R.sh
  have f : Fr XW 0 0 h (hset (hset h 1 5 v) 14 (-v) (w32 (xv h 14 (-v) + 1))) := (Fr.set (fun _ => Or.inl ⟨rfl, by omega⟩)).tr (Fr.set (W := XW) (fun _ => Or.inr (Or.inl rfl))) (fun _ _ _ q => q)
  have x9 : xv (hset (hset h 1 5 v) 14 (-v) (w32 (xv h 14 (-v) + 1))) 1 9 = xv h 1 9 := (hset_vn (by decide)).trans (hset_vj (by decide))
  have x8 : xv (hset (hset h 1 5 v) 14 (-v) (w32 (xv h 14 (-v) + 1))) 1 8 = xv h 1 8 := (hset_vn (by decide)).trans (hset_vj (by decide))
  have ev : ∀ k, k ≠ 0 → k ≠ 2 → vup (vup V 0 0 v) 2 (-v) (w32 (V 2 (-v) + 1)) k = V k := fun k a b => (vupN b).trans (vupN a)
  refine R.stepX f (ev 3 (by decide) (by decide)) (ev 4 (by decide) (by decide)) (ev 5 (by decide) (by decide)) (ev 6 (by decide) (by decide)) ?_ (R.tb.xw f x8 (ev _ (by decide) (by decide)) (ev _ (by decide) (by decide)) (ev _ (by decide) (by decide)) H) (R.ca.keep (fun k hk => ev k (by intro e; subst e; revert hk; decide) (by intro e; subst e; revert hk; decide)) ?_) ?_ (by decide) (by decide)
  · obtain ⟨s1, s2, s3, s4, s5, s6, s7⟩ := R.sc
    unfold SC
    rw [ev 10 (by decide) (by decide), ev 59 (by decide) (by decide), ev 9 (by decide) (by decide), ev 7 (by decide) (by decide)]
    refine ⟨?_, fun k k0 k1 => ?_, ?_, ?_, ?_, s6, fun k k0 k1 => ?_⟩
    · rw [hset_vn (by decide), hset_vv, vupN (by decide), vup_at]
    · by_cases e : k = -v
      · rw [e, hset_vv, vup_at, s2 (-v) (by omega) (by omega)]
      · rw [hset_vj e, hset_vn (by decide), vup_off e, vupN (by decide)]; exact s2 k k0 k1
    · rw [hset_vn (by decide), hset_vj (by decide)]; exact s3
    · rw [hset_vn (by decide), hset_vj (by decide)]; exact s4
    · rw [hset_vn (by decide), hset_vj (by decide)]; exact s5
    · rw [hset_vn (by decide), hset_vn (by decide)]; exact s7 k k0 k1
  · rw [x9]
    rcases R.ca.2.2.2.2 with q | q
    · exact Or.inl q
    · exact Or.inr (q.xw R.er H f)
  · rw [ev 1 (by decide) (by decide)]; have := R.vr; omega
theorem op_fault : OP_fault Rel := by
  intro n h V hn _ _ ⟨g, P, R⟩
  refine R.same.op hn (r := V 10 0) ?_ rfl
  unfold F_X0_fault
  rw [obk R.sh.x1, R.sc.2.2.1]
theorem op_lost : OP_lost Rel := by
  intro n h V hn _ _ ⟨g, P, R⟩
  refine R.same.op hn (r := V 59 0) ?_ rfl
  unfold F_X0_lost
  rw [obk R.sh.x1, R.sc.2.2.2.1]
theorem op_status : OP_status Rel := by
  intro n h V hn _ _ ⟨g, P, R⟩
  refine R.same.op hn (r := V 0 0) ?_ rfl
  unfold F_X0_status
  rw [obk R.sh.x1, R.sc.1]
theorem op_of : OP_of Rel := by
  intro n h V hn _ _ ⟨g, P, R⟩ q hq w hw
  have H := R.sh
  have E := R.er
  have K := R.ki
  have hK := K.nn
  by_cases c : 0 ≤ q ∧ q < V 3 390
  · obtain ⟨o, -, q0, q1, q2, q3, q4, q5⟩ := E.q q c.1 c.2
    obtain ⟨-, -, -, k3, k4⟩ := K.2.1 q c.1 c.2
    have eF : F_X0_of 1 q w h = some (if 0 ≤ w ∧ w ≤ 4 then V 3 (5 * q + w) else -1, h) := by
      unfold F_X0_of
      rw [obk H.x1, F_qof_t H E hK c.1 c.2, mb_some, if_neg (qn_ne E c.1 c.2)]
      unfold qn
      rw [obk o, obk o, obk o, obk o, obk o, nm_eq, nm_eq, q1, q2, q3, q4, q5]
      by_cases w0 : w = 0
      · rw [if_pos w0, if_pos (by omega), w0]; simp
      rw [if_neg w0]
      by_cases w1 : w = 1
      · rw [if_pos w1, if_pos (by omega), w1]
      rw [if_neg w1]
      by_cases w2 : w = 2
      · rw [if_pos w2, if_pos (by omega), w2]
      rw [if_neg w2]
      by_cases w3 : w = 3
      · rw [if_pos w3, if_pos (show 0 ≤ w ∧ w ≤ 4 by omega), w3]
        congr 2; split <;> omega
      rw [if_neg w3]
      by_cases w4 : w = 4
      · rw [if_pos w4, if_pos (show 0 ≤ w ∧ w ≤ 4 by omega), w4]
        congr 2; split <;> omega
      rw [if_neg w4, if_neg (by omega)]
    refine R.same.op hn eF ?_
    unfold M_of
    rw [M_isQuestion_t hK.1 hK.2 c.1 c.2, mb_some, if_neg (by decide)]
    by_cases w0 : 0 ≤ w ∧ w ≤ 4
    · rw [M_lies_t w0.1 w0.2, mb_some, if_neg (by decide), M_factOf_eq c.1 (by omega) w0.1 (by omega), mb_some, if_pos w0]
    · rw [M_lies_f (by omega), mb_some, if_pos rfl, if_neg w0]
  · refine R.same.op hn (r := -1) ?_ ?_
    · unfold F_X0_of
      rw [obk H.x1, F_qof_f H E hK (by omega), mb_some, if_pos rfl]
    · unfold M_of
      rw [M_isQuestion_f hK.1 hK.2 (by omega), mb_some, if_pos rfl]
theorem op_table : OP_table Rel := by
  intro n h V hn _ _ ⟨g, P, R⟩ w hw
  have H := R.sh
  have T := R.tb
  refine R.same.op hn (r := if V 64 0 = -1 then -1 else if w = 0 then V 64 0 else if w = 1 then V 65 0 else if w = 2 then V 66 0 else -1) ?_ ?_
  · unfold F_X0_table
    rw [obk H.x1]
    rcases T with ⟨t1, t2⟩ | ⟨o, t2, t3, t4, t5⟩
    · rw [if_pos t1, if_pos t2]
    · rw [if_neg (by have := o.1; omega), if_neg t2, obk H.x1, obk o, obk H.x1, obk o, obk H.x1, obk o, t3, t4, t5]
      split
      · rfl
      · split
        · rfl
        · split <;> rfl
  · unfold M_table
    by_cases t : V 64 0 = -1
    · rw [if_pos t, if_pos t]
    · rw [if_neg t, if_neg t]
      by_cases c : 0 ≤ w ∧ w ≤ 2
      · rw [M_lies_t c.1 c.2, mb_some, if_neg (by decide)]
        split
        · rfl
        · split
          · rfl
          · rw [if_pos (by omega)]
      · rw [M_lies_f (by omega), mb_some, if_pos rfl, if_neg (by omega), if_neg (by omega), if_neg (by omega)]
theorem op_end : OP_end Rel := by
  intro n h V hn _ _ ⟨g, P, R⟩ w hw
  have H := R.sh
  have S := R.sc
  by_cases c : 0 ≤ w ∧ w ≤ V 9 0
  · have f : Fr XW 0 0 h (hset h 1 12 w) := Fr.set fun _ => Or.inl ⟨rfl, by omega⟩
    have x8 : xv (hset h 1 12 w) 1 8 = xv h 1 8 := hset_vj (by decide)
    have x9 : xv (hset h 1 12 w) 1 9 = xv h 1 9 := hset_vj (by decide)
    have ev : ∀ k, k ≠ 9 → vup V 9 0 w k = V k := fun k a => vupN a
    refine RelG.op (g := g) (P := P) (h1 := hset h 1 12 w) (V1 := vup V 9 0 w) (r := w) hn ?_ ?_ ?_
    · refine R.stepX f (ev 3 (by decide)) (ev 4 (by decide)) (ev 5 (by decide)) (ev 6 (by decide)) ?_ (R.tb.xw f x8 (ev _ (by decide)) (ev _ (by decide)) (ev _ (by decide)) H) (R.ca.keep (fun k hk => ev k (by intro e; subst e; revert hk; decide)) ?_) ?_ (by decide) (by decide)
      · obtain ⟨s1, s2, s3, s4, s5, s6, s7⟩ := S
        unfold SC
        rw [ev 0 (by decide), ev 2 (by decide), ev 10 (by decide), ev 59 (by decide), ev 7 (by decide), vup_at]
        refine ⟨by rw [hset_vj (by decide)]; exact s1, fun k k0 k1 => by rw [hset_vn (by decide)]; exact s2 k k0 k1, by rw [hset_vj (by decide)]; exact s3, by rw [hset_vj (by decide)]; exact s4, hset_vv, by omega, fun k k0 k1 => by rw [hset_vn (by decide)]; exact s7 k k0 k1⟩
      · rw [x9]
        rcases R.ca.2.2.2.2 with q | q
        · exact Or.inl q
        · exact Or.inr (q.xw R.er H f)
      · rw [ev 1 (by decide)]; have := R.vr; omega
    · unfold F_X0_end
      rw [obk H.x1, S.2.2.2.2.1, F_in_t c.1 c.2, mb_some, if_neg (by decide), obk H.x1, nm_eq]
    · unfold M_end
      rw [M_lies_t c.1 c.2, mb_some, if_neg (by decide), nm_eq]
  · refine R.same.op hn (r := -1) ?_ ?_
    · unfold F_X0_end
      rw [obk H.x1, S.2.2.2.2.1, F_in_f (by omega), mb_some, if_pos rfl]
    · unfold M_end
      rw [M_lies_f (by omega), mb_some, if_pos rfl]
