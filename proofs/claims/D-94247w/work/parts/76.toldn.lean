/-! plain law: what tests and papers tell, on the model's side -/
set_option maxRecDepth 100000
set_option maxHeartbeats 400000
section
variable {V : VV} {C N A : Int → Int}
def RT (V : VV) (D : Int → Int → DT → Prop) (A : Int → Int) (R : Int → VV → Option (Int × VV)) : Prop := ∀ (i j : Int) (d : DT), 0 ≤ i → D i j d → i < j ∧ j ≤ 2400 ∧ ∀ lv b : Int, (lv = 0 ∨ lv = 1) → (b = 0 ∨ b = 1) → EMt V lv b (d A) j (R lv (gb V i b))
theorem EVt.mk_dead {lv b : Int} {o : Option Bool} {r b' : Int} (hb : b = 0 ∨ b = 1) (hr : r = 0 ∨ r = 1) (h : ¬ (lv = 1 ∧ b = 0)) (e : b' = b) : EVt lv b o r b' := ⟨hr, by rw [e]; exact hb, fun h1 h2 => absurd ⟨h1, h2⟩ h, fun _ => e⟩
theorem pos_ok (T : TK V C N A) {D : Int → Int → DT → Prop} {R1 R2 R3 R4 : Int → VV → Option (Int × VV)} (h : RT V D A R1) : RT V (DPos D C N) A (M_positiveOf_b R1 R2 R3 R4) := by
  intro i j d i0 q
  obtain ⟨n7, q⟩ := q
  rcases q with ⟨c, m, qd, cm, e⟩ | ⟨c, m, d1, d2, q1, cm, q2, e⟩
  · have hi := T.lt i0 (k := i) (by rw [c]; decide)
    obtain ⟨g1, g2, g3⟩ := h (i + 1) m d (by omega) qd
    have hm := T.lt (k := m) (by omega) (by rw [cm]; decide)
    refine ⟨by omega, by omega, fun lv b hl hb => ?_⟩
    obtain ⟨r, b', e1, e2⟩ := g3 lv b hl hb
    unfold M_positiveOf_b
    rw [M_sign_eq (by decide) (by decide), mb_some, M_passes0_eq T i0 (by omega), show (100 : Int) + 40 = 140 from rfl, if_pos c, if_pos c, mb_some, if_neg (by decide), e1, mb_some, gb18, nm_eq, gbu18, w32_id (by omega) (by omega), cb_ok e2.1, e]
    exact ⟨_, _, rfl, e2⟩
  · have S := M_sumOf_ok T 10 RF (by rw [RF_eq]; decide)
    obtain ⟨g1, g2, g3⟩ := S i m d1 i0 q1
    obtain ⟨f1, f2, f3⟩ := S (m + 1) j d2 (by omega) q2
    have hm := T.lt (k := m) (by omega) (by omega)
    refine ⟨by omega, f2, fun lv b hl hb => ?_⟩
    obtain ⟨r1, b1, e1, E1⟩ := g3 lv b hl hb
    obtain ⟨r2, b2, e2, E2⟩ := f3 lv b1 hl E1.1
    unfold M_positiveOf_b
    rw [M_sign_eq (by decide) (by decide), mb_some, M_passes0_eq T i0 (by omega), show (100 : Int) + 40 = 140 from rfl, if_neg c, if_neg c, mb_some, if_pos rfl, e1, mb_some, gb18, M_codeAt_eq T (by omega) (by omega), mb_some, gb18, nm_eq, gbu18, w32_id (by omega) (by omega), e2, mb_some, gb20]
    by_cases hlive : lv = 1 ∧ b = 0
    · obtain ⟨rfl, rfl⟩ := hlive
      rw [if_neg (by decide), e]
      rcases E1.2.1 rfl rfl with ⟨p, p1, p2, p3, p4⟩ | ⟨p1, p2⟩
      · rcases E2.2.1 rfl p4 with ⟨s, s1, s2, s3, s4⟩ | ⟨s1, s2⟩
        · rw [if_pos s4, M_sign_eq (by decide) (by decide), mb_some, M_sign_eq (by decide) (by decide), mb_some, show (100 : Int) + 60 = 160 from rfl, show (100 : Int) + 62 = 162 from rfl, dC_ss p1 s1]
          have fin : ∀ (v : Bool) (x : Int), x = (if v = true then 1 else 0) → EMt V 1 0 (some v) j (some (x, gb V j b2)) := fun v x hx => ⟨x, b2, rfl, by rw [hx]; split <;> simp, Or.inl s4, fun _ _ => Or.inl ⟨v, rfl, hx, s4⟩, fun _ => s4⟩
          rw [p3, s3]
          by_cases c1 : C m = 160
          · rw [if_pos c1, if_pos (by omega)]
            by_cases c2 : s ≤ p
            · rw [if_pos c2]; exact fin _ _ (by rw [decide_eq_false (by omega)]; rfl)
            · rw [if_neg c2]; exact fin _ _ (by rw [decide_eq_true (by omega)]; rfl)
          · rw [if_neg c1, if_neg (by omega)]
            by_cases c3 : C m = 162
            · rw [if_pos c3, if_pos (by omega)]
              by_cases c2 : p ≤ s
              · rw [if_pos c2]; exact fin _ _ (by rw [decide_eq_false (by omega)]; rfl)
              · rw [if_neg c2]; exact fin _ _ (by rw [decide_eq_true (by omega)]; rfl)
            · rw [if_neg c3, if_neg (by omega)]
              by_cases c2 : p = s
              · rw [if_pos c2]; exact fin _ _ (by rw [decide_eq_true c2]; rfl)
              · rw [if_neg c2]; exact fin _ _ (by rw [decide_eq_false c2]; rfl)
        · rw [if_neg (by omega), dC_n2 s1]
          exact ⟨_, _, rfl, Or.inl rfl, Or.inr s2, fun _ _ => Or.inr ⟨rfl, s2⟩, fun hd => by omega⟩
      · have s2 := (E2.2.2 (Or.inr p2)).trans p2
        rw [if_neg (by omega), dC_n1 p1]
        exact ⟨_, _, rfl, Or.inl rfl, Or.inr s2, fun _ _ => Or.inr ⟨rfl, s2⟩, fun hd => by omega⟩
    · have hd := not_live hl hb hlive
      have e3 := E1.2.2 hd
      have e4 : b2 = b := by
        refine (E2.2.2 ?_).trans e3
        rw [e3]; exact hd
      by_cases c0 : lv = 0
      · rw [if_pos c0]
        exact ⟨_, _, rfl, EVt.mk_dead hb (Or.inl rfl) hlive e4⟩
      · have hb1 : b2 ≠ 0 := by rcases hd with hd | hd <;> omega
        rw [if_neg c0, if_neg hb1]
        exact ⟨_, _, rfl, EVt.mk_dead hb (Or.inl rfl) hlive e4⟩
def ngS (x : Int) (o : Option Bool) : Option Bool := if x = 1 then o.map (fun b => !b) else o
theorem plain_ok (T : TK V C N A) {D : Int → Int → DT → Prop} {R1 R2 R3 R4 : Int → VV → Option (Int × VV)} (h : RT V (DPos D C N) A R4) : RT V (DPl D C N) A (M_plainOf_b R1 R2 R3 R4) := by
  have loop : ∀ (k : Nat) (i j : Int) (d0 : DT) (x : Int) (fuel : Nat), 0 ≤ i → (∀ t : Int, 0 ≤ t → t < k → C (i + t) = 7) → DPos D C N (i + k) j d0 → (x = 0 ∨ x = 1) → 2401 - i < (fuel : Int) → i < j ∧ j ≤ 2400 ∧ ∀ lv b : Int, (lv = 0 ∨ lv = 1) → (b = 0 ∨ b = 1) → EMt V lv b (ngS x (nots k d0 A)) j (M_plainOf_2 R1 R2 R3 R4 fuel lv x (gb V i b)) := by
    intro k
    induction k with
    | zero =>
      intro i j d0 x fuel i0 hc q hx hf
      rw [show i + ((0 : Nat) : Int) = i by omega] at q
      obtain ⟨g1, g2, g3⟩ := h i j d0 i0 q
      refine ⟨g1, g2, fun lv b hl hb => ?_⟩
      cases fuel with
      | zero => omega
      | succ fuel =>
        obtain ⟨r, b', e1, E⟩ := g3 lv b hl hb
        rw [M_plainOf_2, M_passes0_eq T i0 (by omega), if_neg q.1, if_neg q.1, mb_some, if_pos rfl]
        unfold M_plainOf_24
        rw [e1, mb_some, nm_eq, cb_ok (by split <;> simp)]
        refine ⟨_, _, rfl, by split <;> simp, E.2.1, fun l1 bb => ?_, E.2.2.2⟩
        show (∃ v, ngS x (d0 A) = _ ∧ _) ∨ (ngS x (d0 A) = _ ∧ _)
        unfold ngS
        rcases E.2.2.1 l1 bb with ⟨v, v1, v2, v3⟩ | ⟨v1, v2⟩
        · rw [v1, v2]
          rcases hx with rfl | rfl
          · refine Or.inl ⟨v, rfl, ?_, v3⟩
            cases v <;> rfl
          · refine Or.inl ⟨!v, rfl, ?_, v3⟩
            cases v <;> rfl
        · rw [v1]
          refine Or.inr ⟨?_, v2⟩
          split <;> rfl
    | succ k ih =>
      intro i j d0 x fuel i0 hc q hx hf
      have c7 := hc 0 (Int.le_refl 0) (by omega)
      rw [Int.add_zero] at c7
      have hi := T.lt i0 (k := i) (by omega)
      cases fuel with
      | zero => omega
      | succ fuel =>
        obtain ⟨g1, g2, g3⟩ := ih (i + 1) j d0 (if x = 0 then 1 else 0) fuel (by omega) (fun t t0 t1 => by rw [show i + 1 + t = i + (t + 1) by omega]; exact hc (t + 1) (by omega) (by omega)) (by rw [show i + 1 + (k : Int) = i + ((k + 1 : Nat) : Int) by omega]; exact q) (by split <;> simp) (by omega)
        refine ⟨by omega, g2, fun lv b hl hb => ?_⟩
        rw [M_plainOf_2, M_passes0_eq T i0 (by omega), if_pos c7, if_pos c7, mb_some, if_neg (by decide), nm_eq]
        have e2 : ngS x (nots (k + 1) d0 A) = ngS (if x = 0 then 1 else 0) (nots k d0 A) := by
          show ngS x ((nots k d0 A).map (fun b => !b)) = _
          unfold ngS
          rcases hx with rfl | rfl
          · rfl
          · rw [if_pos rfl, if_neg (by decide)]
            cases nots k d0 A with
            | none => rfl
            | some b => show some (!!b) = _; rw [Bool.not_not]
        rw [e2]
        exact g3 lv b hl hb
  intro i j d i0 q
  obtain ⟨k, d0, hc, q0, rfl⟩ := q
  have hi : i ≤ 2400 := by
    cases k with
    | zero =>
      rw [show i + ((0 : Nat) : Int) = i by omega] at q0
      have := h i j d0 i0 q0
      omega
    | succ k =>
      have c7 := hc 0 (Int.le_refl 0) (by omega)
      rw [Int.add_zero] at c7
      have := T.lt i0 (k := i) (by omega)
      omega
  exact loop k i j d0 0 FU i0 hc q0 (Or.inl rfl) (by rw [FU_eq]; omega)
/-- rows of tests, gone through -/
def RLs (all : Bool) (lv b : Int) (fin : Option Bool) (rest : List DT) (A : Int → Int) (acc b1 : Int) : Prop := (acc = 0 ∨ acc = 1) ∧ (b1 = 0 ∨ b1 = 1) ∧ ((lv = 0 ∨ b = 1) → b1 = b) ∧ (lv = 1 → b = 0 → (acc = (if all = true then 1 else 0) ∧ b1 = 0 ∧ fin = dR all rest A) ∨ (acc = (if all = true then 0 else 1) ∧ b1 = 0 ∧ fin = some (!all)) ∨ (b1 = 1 ∧ fin = none))
theorem RLs.step {all : Bool} {lv b : Int} {fin : Option Bool} {d : DT} {rest : List DT} {acc b1 v3 r4 b2 v6 : Int} (hl : lv = 0 ∨ lv = 1) (L : RLs all lv b fin (d :: rest) A acc b1) (h3 : v3 = if lv = 0 then 0 else if acc = (if all = true then 1 else 0) then 1 else 0) (E : EVt v3 b1 (d A) r4 b2) (h6 : v6 = if acc = (if all = true then 1 else 0) then r4 else (if all = true then 0 else 1)) : RLs all lv b fin rest A v6 b2 := by
  obtain ⟨l1, l2, l3, l4⟩ := L
  obtain ⟨e1, e2, e3, e4⟩ := E
  refine ⟨?_, e2, fun hd => ?_, fun a1 a2 => ?_⟩
  · rw [h6]
    by_cases ca : acc = (if all = true then 1 else 0)
    · rw [if_pos ca]; exact e1
    · rw [if_neg ca]; cases all <;> simp
  · have q := l3 hd
    rw [← q]
    refine e4 ?_
    rcases hd with hd | hd
    · exact Or.inl (by rw [h3, if_pos hd])
    · exact Or.inr (by rw [q]; exact hd)
  · rcases l4 a1 a2 with ⟨q1, q2, q3⟩ | ⟨q1, q2, q3⟩ | ⟨q2, q3⟩
    · have hv : v3 = 1 := by rw [h3, if_neg (by omega), if_pos q1]
      rw [if_pos q1] at h6
      have ed : dR all (d :: rest) A = (d A).bind fun b => if b = all then dR all rest A else some (!all) := rfl
      rcases e3 hv q2 with ⟨v, v1, v2, v3'⟩ | ⟨v1, v2⟩
      · rw [ed, v1] at q3
        have q4 : fin = if v = all then dR all rest A else some (!all) := q3
        rw [h6, v2]
        by_cases cv : v = all
        · rw [if_pos cv] at q4
          exact Or.inl ⟨by rw [cv], v3', q4⟩
        · rw [if_neg cv] at q4
          refine Or.inr (Or.inl ⟨?_, v3', q4⟩)
          cases v <;> cases all <;> simp at cv ⊢
      · rw [ed, v1] at q3
        exact Or.inr (Or.inr ⟨v2, q3⟩)
    · have hn : ¬ acc = (if all = true then (1 : Int) else 0) := by rw [q1]; cases all <;> simp
      rw [if_neg hn] at h6
      have hv : v3 = 0 := by rw [h3, if_neg (by omega), if_neg hn]
      exact Or.inr (Or.inl ⟨h6, (e4 (Or.inl hv)).trans q2, q3⟩)
    · exact Or.inr (Or.inr ⟨(e4 (Or.inr q2)).trans q2, q3⟩)
theorem DRow.un {D : Int → Int → DT → Prop} {o : Int} {d : DT} {es : List DT} {i j : Int} (q : DRow D C o (d :: es) i j) : ∃ m, D i m d ∧ ((es = [] ∧ m = j ∧ C j ≠ o) ∨ (∃ e es', es = e :: es' ∧ C m = o ∧ DRow D C o es (m + 1) j)) := by
  cases es with
  | nil => exact ⟨j, q.1, Or.inl ⟨rfl, rfl, q.2⟩⟩
  | cons e es' =>
    obtain ⟨m, q1, q2, q3, q4⟩ := q
    exact ⟨m, q1, Or.inr ⟨e, es', rfl, q2, q4⟩⟩
theorem RLs.start {all : Bool} {lv b : Int} {d : DT} {es : List DT} {r b1 : Int} (E : EVt lv b (d A) r b1) (hb : b = 0 ∨ b = 1) : RLs all lv b (dR all (d :: es) A) es A r b1 := by
  obtain ⟨e1, e2, e3, e4⟩ := E
  refine ⟨e1, e2, e4, fun a1 a2 => ?_⟩
  have ed : dR all (d :: es) A = (d A).bind fun b => if b = all then dR all es A else some (!all) := rfl
  rcases e3 a1 a2 with ⟨v, v1, v2, v3'⟩ | ⟨v1, v2⟩
  · rw [ed, v1]
    by_cases cv : v = all
    · exact Or.inl ⟨by rw [v2, cv], v3', by show (if v = all then _ else _) = _; rw [if_pos cv]⟩
    · refine Or.inr (Or.inl ⟨?_, v3', by show (if v = all then _ else _) = _; rw [if_neg cv]⟩)
      rw [v2]
      cases v <;> cases all <;> simp at cv ⊢
  · rw [ed, v1]
    exact Or.inr (Or.inr ⟨v2, rfl⟩)
theorem RLs.fin {all : Bool} {lv b : Int} {o : Option Bool} {acc b1 j : Int} (L : RLs all lv b o [] A acc b1) : EMt V lv b o j (some (acc, gb V j b1)) := by
  obtain ⟨l1, l2, l3, l4⟩ := L
  refine ⟨acc, b1, rfl, l1, l2, fun a1 a2 => ?_, l3⟩
  rcases l4 a1 a2 with ⟨q1, q2, q3⟩ | ⟨q1, q2, q3⟩ | ⟨q2, q3⟩
  · exact Or.inl ⟨all, q3, q1, q2⟩
  · exact Or.inl ⟨!all, q3, by rw [q1]; cases all <;> rfl, q2⟩
  · exact Or.inr ⟨q3, q2⟩
theorem both_ok (T : TK V C N A) {D : Int → Int → DT → Prop} {R1 R2 R3 R4 : Int → VV → Option (Int × VV)} (h : RT V D A R3) : RT V (fun i j d => ∃ es, d = dR true es ∧ DRow D C 6 es i j) A (M_bothOf_b R1 R2 R3 R4) := by
  have loop : ∀ (es : List DT) (fin : Option Bool) (m j : Int) (acc b1 lv b : Int) (fuel : Nat), 0 ≤ m → m ≤ 2400 → 2401 - m < (fuel : Int) → ((es = [] ∧ m = j ∧ C j ≠ 6) ∨ (∃ e es', es = e :: es' ∧ C m = 6 ∧ DRow D C 6 es (m + 1) j)) → (lv = 0 ∨ lv = 1) → (b = 0 ∨ b = 1) → RLs true lv b fin es A acc b1 → m ≤ j ∧ j ≤ 2400 ∧ EMt V lv b fin j (M_bothOf_6 R1 R2 R3 R4 fuel lv acc (gb V m b1)) := by
    intro es
    induction es with
    | nil =>
      intro fin m j acc b1 lv b fuel m0 m1 hf q hl hb L
      rcases q with ⟨-, rfl, q⟩ | ⟨e, es', q, -⟩
      · cases fuel with
        | zero => omega
        | succ fuel =>
          refine ⟨Int.le_refl _, m1, ?_⟩
          rw [M_bothOf_6, M_passes0_eq T m0 (by omega), if_neg q, if_neg q, mb_some, if_pos rfl, cb_ok L.1]
          exact L.fin
      · cases q
    | cons d es ih =>
      intro fin m j acc b1 lv b fuel m0 m1 hf q hl hb L
      rcases q with ⟨q, -⟩ | ⟨e, es', -, c6, q⟩
      · cases q
      · have hm := T.lt m0 (k := m) (by omega)
        obtain ⟨m2, qd, qr⟩ := q.un
        obtain ⟨g1, g2, g3⟩ := h (m + 1) m2 d (by omega) qd
        cases fuel with
        | zero => omega
        | succ fuel =>
          have hv3 : (if lv = 0 then (0 : Int) else if acc = 0 then 0 else 1) = if lv = 0 then 0 else if acc = (if true = true then 1 else 0) then 1 else 0 := by
            rcases L.1 with e | e <;> rw [e] <;> rfl
          obtain ⟨r4, b2, e1, E⟩ := g3 (if lv = 0 then 0 else if acc = 0 then 0 else 1) b1 (by split <;> (try split) <;> simp) L.2.1
          have L2 := RLs.step hl L hv3 E (v6 := if acc = 0 then 0 else if r4 = 0 then 0 else 1) (by
            rcases L.1 with e | e
            · rw [e]; rfl
            · rw [e, if_neg (by decide), if_pos rfl]; rcases E.1 with e | e <;> rw [e] <;> rfl)
          obtain ⟨k1, k2, k3⟩ := ih fin m2 j _ b2 lv b fuel (by omega) g2 (by omega) qr hl hb L2
          refine ⟨by omega, k2, ?_⟩
          rw [M_bothOf_6, M_passes0_eq T m0 (by omega), if_pos c6, if_pos c6, mb_some, if_neg (by decide), nm_eq, e1, mb_some, nm_eq]
          exact k3
  intro i j d i0 q
  obtain ⟨es, rfl, q⟩ := q
  cases es with
  | nil => exact q.elim
  | cons d es =>
    obtain ⟨m, qd, qr⟩ := q.un
    obtain ⟨g1, g2, g3⟩ := h i m d i0 qd
    have all : ∀ lv b : Int, (lv = 0 ∨ lv = 1) → (b = 0 ∨ b = 1) → m ≤ j ∧ j ≤ 2400 ∧ EMt V lv b (dR true (d :: es) A) j (M_bothOf_b R1 R2 R3 R4 lv (gb V i b)) := fun lv b hl hb => by
      obtain ⟨r, b1, e1, E⟩ := g3 lv b hl hb
      unfold M_bothOf_b
      rw [e1, mb_some]
      exact loop es _ m j r b1 lv b FU (by omega) g2 (by rw [FU_eq]; omega) qr hl hb (RLs.start E hb)
    have a0 := all 0 0 (Or.inl rfl) (Or.inl rfl)
    exact ⟨by omega, a0.2.1, fun lv b hl hb => (all lv b hl hb).2.2⟩
theorem test_ok (T : TK V C N A) {D : Int → Int → DT → Prop} {R1 R2 R3 R4 : Int → VV → Option (Int × VV)} (h : RT V D A R2) : RT V (fun i j d => ∃ es, d = dR false es ∧ DRow D C 5 es i j) A (M_testOf_b R1 R2 R3 R4) := by
  have loop : ∀ (es : List DT) (fin : Option Bool) (m j : Int) (acc b1 lv b : Int) (fuel : Nat), 0 ≤ m → m ≤ 2400 → 2401 - m < (fuel : Int) → ((es = [] ∧ m = j ∧ C j ≠ 5) ∨ (∃ e es', es = e :: es' ∧ C m = 5 ∧ DRow D C 5 es (m + 1) j)) → (lv = 0 ∨ lv = 1) → (b = 0 ∨ b = 1) → RLs false lv b fin es A acc b1 → m ≤ j ∧ j ≤ 2400 ∧ EMt V lv b fin j (M_testOf_6 R1 R2 R3 R4 fuel lv acc (gb V m b1)) := by
    intro es
    induction es with
    | nil =>
      intro fin m j acc b1 lv b fuel m0 m1 hf q hl hb L
      rcases q with ⟨-, rfl, q⟩ | ⟨e, es', q, -⟩
      · cases fuel with
        | zero => omega
        | succ fuel =>
          refine ⟨Int.le_refl _, m1, ?_⟩
          rw [M_testOf_6, M_passes0_eq T m0 (by omega), if_neg q, if_neg q, mb_some, if_pos rfl, cb_ok L.1]
          exact L.fin
      · cases q
    | cons d es ih =>
      intro fin m j acc b1 lv b fuel m0 m1 hf q hl hb L
      rcases q with ⟨q, -⟩ | ⟨e, es', -, c6, q⟩
      · cases q
      · have hm := T.lt m0 (k := m) (by omega)
        obtain ⟨m2, qd, qr⟩ := q.un
        obtain ⟨g1, g2, g3⟩ := h (m + 1) m2 d (by omega) qd
        cases fuel with
        | zero => omega
        | succ fuel =>
          have hv3 : (if lv = 0 then (0 : Int) else if acc = 0 then 1 else 0) = if lv = 0 then 0 else if acc = (if false = true then 1 else 0) then 1 else 0 := by
            rcases L.1 with e | e <;> rw [e] <;> rfl
          obtain ⟨r4, b2, e1, E⟩ := g3 (if lv = 0 then 0 else if acc = 0 then 1 else 0) b1 (by split <;> (try split) <;> simp) L.2.1
          have L2 := RLs.step hl L hv3 E (v6 := if acc = 0 then (if r4 = 0 then 0 else 1) else 1) (by
            rcases L.1 with e | e
            · rcases E.1 with e2 | e2 <;> rw [e, e2] <;> rfl
            · rw [e]; rfl)
          obtain ⟨k1, k2, k3⟩ := ih fin m2 j _ b2 lv b fuel (by omega) g2 (by omega) qr hl hb L2
          refine ⟨by omega, k2, ?_⟩
          rw [M_testOf_6, M_passes0_eq T m0 (by omega), if_pos c6, if_pos c6, mb_some, if_neg (by decide), nm_eq, e1, mb_some, nm_eq]
          exact k3
  intro i j d i0 q
  obtain ⟨es, rfl, q⟩ := q
  cases es with
  | nil => exact q.elim
  | cons d es =>
    obtain ⟨m, qd, qr⟩ := q.un
    obtain ⟨g1, g2, g3⟩ := h i m d i0 qd
    have all : ∀ lv b : Int, (lv = 0 ∨ lv = 1) → (b = 0 ∨ b = 1) → m ≤ j ∧ j ≤ 2400 ∧ EMt V lv b (dR false (d :: es) A) j (M_testOf_b R1 R2 R3 R4 lv (gb V i b)) := fun lv b hl hb => by
      obtain ⟨r, b1, e1, E⟩ := g3 lv b hl hb
      unfold M_testOf_b
      rw [e1, mb_some]
      exact loop es _ m j r b1 lv b FU (by omega) g2 (by rw [FU_eq]; omega) qr hl hb (RLs.start E hb)
    have a0 := all 0 0 (Or.inl rfl) (Or.inl rfl)
    exact ⟨by omega, a0.2.1, fun lv b hl hb => (all lv b hl hb).2.2⟩
theorem M_testOf_ok (T : TK V C N A) : ∀ (m n : Nat), 4 * m ≤ n → RT V (DTs m C N) A (M_testOf n)
  | 0, n, _ => fun i j d _ q => q.elim
  | m + 1, n, hn => by
    obtain ⟨k, rfl⟩ : ∃ k, n = k + 4 := ⟨n - 4, by omega⟩
    have h1 : RT V (DTs m C N) A (MR_testOf k).1 := M_testOf_ok T m k (by omega)
    have h2 : RT V (DPos (DTs m C N) C N) A (MR_testOf (k + 1)).2.2.2 := pos_ok (R2 := (MR_testOf k).2.1) (R3 := (MR_testOf k).2.2.1) (R4 := (MR_testOf k).2.2.2) T h1
    have h3 : RT V (DPl (DTs m C N) C N) A (MR_testOf (k + 2)).2.2.1 := plain_ok (R1 := (MR_testOf (k + 1)).1) (R2 := (MR_testOf (k + 1)).2.1) (R3 := (MR_testOf (k + 1)).2.2.1) T h2
    have h4 : RT V (fun i j d => ∃ es, d = dR true es ∧ DRow (DPl (DTs m C N) C N) C 6 es i j) A (MR_testOf (k + 3)).2.1 := both_ok (R1 := (MR_testOf (k + 2)).1) (R2 := (MR_testOf (k + 2)).2.1) (R4 := (MR_testOf (k + 2)).2.2.2) T h3
    exact test_ok (R1 := (MR_testOf (k + 3)).1) (R3 := (MR_testOf (k + 3)).2.2.1) (R4 := (MR_testOf (k + 3)).2.2.2) T h4
/-- a clause gone through -/
theorem M_clause_ok (T : TK V C N A) {i j head lo hi x b : Int} {z : Int × DS × DT} {fuel : Nat} (hlo : lo ≤ hi) (h0 : -2147483648 ≤ lo) (h1 : hi ≤ 2147483647) (i0 : 0 ≤ i) (q : DCl C N i j z) : i < j ∧ j ≤ 2400 ∧ ∃ b', M_told_61 (fuel + 1) (head + 1) lo hi x (gb V i b) = M_told_61 fuel (head + 1) lo hi (if z.1 = head then (match z.2.2 A, z.2.1 A with | some true, some v => clampS lo hi v | _, _ => x) else x) (gb V (j + 1) b') := by
  obtain ⟨c, hz, m, q1, q2⟩ := q
  have hi' := T.lt i0 (k := i) (by omega)
  have hne : ¬ V 19 0 ≤ i := fun e => by have := T.2.1 i i0; rw [if_pos e] at this; omega
  obtain ⟨g1, g2, g3⟩ := M_sumOf_ok T 10 RF (by rw [RF_eq]; decide) (i + 1) m z.2.1 (by omega) q1
  obtain ⟨r, b1, e1, E⟩ := g3 1 0 (Or.inr rfl) (Or.inl rfl)
  have hE := E.2.1 rfl rfl
  have start : M_told_61 (fuel + 1) (head + 1) lo hi x (gb V i b) = mb (M_passes0 4 (gb V m 0)) fun r9 V10 => if r9 = 0 then (M_told_131 (M_told_61 fuel) (head + 1) lo hi x (C i) r b1 V10) else (mb (M_testOf RF 1 V10) fun r11 V12 => if r11 = 0 then (M_told_136 (M_told_61 fuel) 0 (head + 1) lo hi x (C i) r b1 V12) else (M_told_131 (M_told_61 fuel) (head + 1) lo hi x (C i) r b1 V12)) := by
    rw [M_told_61, gbo (by decide) (by decide), gb18, if_neg hne, nm_eq, gbu20, gb18, M_codeAt_eq T i0 (by omega), mb_some, gb18, nm_eq, gbu18, w32_id (by omega) (by omega), e1, mb_some, gb20, nm_eq, nm_eq, gbu20]
  -- the end of it: s0 = 1 where the test said yes
  have fin : ∀ (s0 k b2 : Int), 0 ≤ k → k ≤ 2400 → (s0 = 0 ∨ s0 = 1) → M_told_136 (M_told_61 fuel) s0 (head + 1) lo hi x (C i) r b1 (gb V k b2) = M_told_61 fuel (head + 1) lo hi (if s0 = 1 ∧ b2 = 0 ∧ b1 = 0 ∧ z.1 = head then clampS lo hi r else x) (gb V (k + 1) b2) := fun s0 k b2 k0 k1 hs => by
    unfold M_told_136 M_told_212
    rw [gb20, nm_eq, gb18, nm_eq, gbu18, w32_id (x := k + 1) (by omega) (by omega)]
    by_cases cc : s0 = 1 ∧ b2 = 0 ∧ b1 = 0 ∧ z.1 = head
    · obtain ⟨c1, c2, c3, c4⟩ := cc
      rw [if_pos (show s0 = 1 ∧ b2 = 0 ∧ b1 = 0 ∧ z.1 = head from ⟨c1, c2, c3, c4⟩), if_neg (show ¬ s0 = 0 by omega), if_pos c2, if_pos c3, if_pos (show C i = head + 1 by omega), if_neg (by decide), nm_eq]
      have ecl : (if lo ≤ r then (if r ≤ hi then w32 r else hi) else lo) = clampS lo hi r := by
        unfold clampS
        by_cases a1 : lo ≤ r
        · rw [if_pos a1, if_neg (show ¬ r < lo by omega)]
          by_cases a2 : r ≤ hi
          · rw [if_pos a2, if_neg (by omega), w32_id (by omega) (by omega)]
          · rw [if_neg a2, if_pos (by omega)]
        · rw [if_neg a1, if_pos (by omega)]
      rw [ecl]
    · have e0 : (if s0 = 0 then (0 : Int) else if b2 = 0 then if b1 = 0 then if C i = head + 1 then 1 else 0 else 0 else 0) = 0 := by
        split
        · rfl
        · split
          · split
            · split
              · exfalso; exact cc ⟨by omega, by omega, by omega, by omega⟩
              · rfl
            · rfl
          · rfl
      rw [e0, if_pos rfl, if_neg cc]
  rcases q2 with ⟨c4, ez, rfl⟩ | ⟨c4, qt⟩
  · refine ⟨by omega, g2, 0, ?_⟩
    rw [start, M_passes0_eq T (by omega) (by omega), if_neg c4, if_neg c4, mb_some, if_pos rfl]
    unfold M_told_131
    rw [fin 1 j 0 (by omega) g2 (Or.inr rfl), ez]
    congr 1
    by_cases ch : z.1 = head
    · rw [if_pos ch]
      rcases hE with ⟨v, v1, v2, v3, v4⟩ | ⟨v1, v2⟩
      · rw [if_pos ⟨rfl, rfl, v4, ch⟩, v1, v3]
      · rw [if_neg (by omega), v1]
    · rw [if_neg ch, if_neg (by omega)]
  · have hm := T.lt (k := m) (by omega) (by omega)
    obtain ⟨f1, f2, f3⟩ := M_testOf_ok T 10 RF (by rw [RF_eq]; decide) (m + 1) j z.2.2 (by omega) qt
    obtain ⟨rt, b2, e2, E2⟩ := f3 1 0 (Or.inr rfl) (Or.inl rfl)
    have hE2 := E2.2.2.1 rfl rfl
    refine ⟨by omega, f2, b2, ?_⟩
    rw [start, M_passes0_eq T (by omega) (by omega), if_pos c4, if_pos c4, mb_some, if_neg (by decide), e2, mb_some]
    unfold M_told_131
    rw [fin 0 j b2 (by omega) f2 (Or.inl rfl), fin 1 j b2 (by omega) f2 (Or.inr rfl), if_neg (show ¬ ((0 : Int) = 1 ∧ b2 = 0 ∧ b1 = 0 ∧ z.1 = head) by omega)]
    have ep : ∀ (y y' : Int), y = y' → M_told_61 fuel (head + 1) lo hi y (gb V (j + 1) b2) = M_told_61 fuel (head + 1) lo hi y' (gb V (j + 1) b2) := fun y y' e => by rw [e]
    by_cases ch : z.1 = head
    · rw [if_pos ch]
      rcases hE2 with ⟨v, v1, v2, v3⟩ | ⟨v1, v2⟩
      · rw [v1]
        cases v with
        | true =>
          rw [if_neg (by rw [v2]; decide)]
          rcases hE with ⟨w, w1, w2, w3, w4⟩ | ⟨w1, w2⟩
          · rw [if_pos (show (1 : Int) = 1 ∧ b2 = 0 ∧ b1 = 0 ∧ z.1 = head from ⟨rfl, v3, w4, ch⟩), w1, w3]
          · rw [if_neg (show ¬ ((1 : Int) = 1 ∧ b2 = 0 ∧ b1 = 0 ∧ z.1 = head) by omega), w1]
        | false =>
          rw [if_pos (by rw [v2]; rfl)]
      · rw [v1, if_neg (show ¬ ((1 : Int) = 1 ∧ b2 = 0 ∧ b1 = 0 ∧ z.1 = head) by omega), ite_self]
    · rw [if_neg ch, if_neg (show ¬ ((1 : Int) = 1 ∧ b2 = 0 ∧ b1 = 0 ∧ z.1 = head) by omega), ite_self]
theorem M_told_loop (T : TK V C N A) {head lo hi : Int} (hlo : lo ≤ hi) (h0 : -2147483648 ≤ lo) (h1 : hi ≤ 2147483647) : ∀ (zs : CLS) (i its b : Int) (fuel : Nat), 0 ≤ i → DPap C N (V 19 0) zs i → zs.length < fuel → ∃ i' b', M_told_61 fuel (head + 1) lo hi (clampS lo hi its) (gb V i b) = some (clampS lo hi (zs.foldl (toldStep head A) its), gb V i' b')
  | [], _, _, _, _, _, q, _ => q.elim
  | z :: zs, i, its, b, fuel, i0, q, hf => by
    cases fuel with
    | zero => exact absurd hf (Nat.not_lt_zero _)
    | succ fuel =>
      have est : ∀ (j : Int), DCl C N i j z → i < j ∧ j ≤ 2400 ∧ ∃ b', M_told_61 (fuel + 1) (head + 1) lo hi (clampS lo hi its) (gb V i b) = M_told_61 fuel (head + 1) lo hi (clampS lo hi (toldStep head A its z)) (gb V (j + 1) b') := fun j qz => by
        obtain ⟨k1, k2, b', k3⟩ := M_clause_ok T (head := head) (x := clampS lo hi its) (b := b) (fuel := fuel) hlo h0 h1 i0 qz
        refine ⟨k1, k2, b', k3.trans ?_⟩
        congr 1
        unfold toldStep
        by_cases ch : z.1 = head
        · rw [if_pos ch, if_pos ch]
          generalize z.2.2 A = o1
          generalize z.2.1 A = o2
          cases o1 with
          | none => rfl
          | some v => cases v <;> cases o2 <;> rfl
        · rw [if_neg ch, if_neg ch]
      cases zs with
      | nil =>
        obtain ⟨k1, k2, b', k3⟩ := est (V 19 0) q
        cases fuel with
        | zero => simp at hf
        | succ fuel =>
          refine ⟨V 19 0 + 1, b', k3.trans ?_⟩
          rw [M_told_61, gbo (by decide) (by decide), gb18, if_pos (by omega)]
          rfl
      | cons z2 zs =>
        obtain ⟨j, qz, -, -, -, qr⟩ := q
        obtain ⟨k1, k2, b', k3⟩ := est j qz
        obtain ⟨i', b'', k4⟩ := M_told_loop T hlo h0 h1 (z2 :: zs) (j + 1) (toldStep head A its z) b' fuel (by omega) qr (by rw [List.length_cons] at hf; omega)
        exact ⟨i', b'', k3.trans k4⟩
end
section
variable {V : VV} {A : Int → Int} {P : Nat → CLS}
theorem DPap.len {C N : Int → Int} {e : Int} : ∀ (zs : CLS) (i : Int), DPap C N e zs i → i < e → i + zs.length ≤ e
  | [], _, q, _ => q.elim
  | [z], i, q, h => by show i + 1 ≤ e; omega
  | z :: z2 :: zs, i, q, h => by
    obtain ⟨j, -, -, q1, q2, qr⟩ := q
    have := DPap.len (z2 :: zs) (j + 1) qr q2
    rw [List.length_cons]
    omega
theorem M_told_eq (KK : KI (V 3)) (PP : PR (V 3) P) (hA : AB A (V 21)) {head lo hi wo : Int} (hlo : lo ≤ hi) (h0 : -2147483648 ≤ lo) (h1 : hi ≤ 2147483647) (hw : clampS lo hi wo = wo) : ∃ V', M_told (head + 1) lo hi wo V = some (clampS lo hi (toldS (curP (V 3) P) head A wo), V') ∧ MF [18, 19, 20] V V' := by
  have hk := KK.1
  unfold M_told curP
  by_cases c : V 3 394 = -1
  · rw [if_pos c, if_pos c]
    refine ⟨V, ?_, MF.rf⟩
    show some (wo, V) = some (clampS lo hi wo, V)
    rw [hw]
  · have hs := KK.2.2.2.2.2.2.1 (V 3 394) (by omega) (by omega)
    have hp := PP (V 3 394).toNat (by omega)
    rw [show (((V 3 394).toNat : Nat) : Int) = V 3 394 by omega] at hp
    rw [if_neg c, if_neg c, w32_id (x := 400 * V 3 394) (by omega) (by omega), nm_eq, vupN (by decide), w32_id (x := 395 + V 3 394) (by omega) (by omega), ck_ok (by omega) (by omega), vup_at, w32_id (by omega) (by omega), nm_eq]
    generalize hV : vup (vup V 18 0 (400 * V 3 394)) 19 0 (400 * V 3 394 + V 3 (395 + V 3 394)) = V0
    have e19 : V0 19 0 = 400 * V 3 394 + V 3 (395 + V 3 394) := by rw [← hV, vup_at]
    have e18 : V0 18 0 = 400 * V 3 394 := by rw [← hV, vupN (by decide), vup_at]
    have eo : ∀ k, k ≠ 18 → k ≠ 19 → V0 k = V k := fun k a b => by rw [← hV, vupN b, vupN a]
    have T : TK V0 (pC (V 3) (V 3 394)) (pN (V 3)) A := by
      refine ⟨by rw [e19]; omega, fun k k0 => ?_, fun k k0 => ?_, by rw [eo 21 (by decide) (by decide)]; exact hA⟩
      · unfold pC
        rw [e19, eo 3 (by decide) (by decide)]
        by_cases ck : 400 * V 3 394 + V 3 (395 + V 3 394) ≤ k
        · rw [if_pos (Or.inr ck), if_pos ck]
        · rw [if_neg (by omega), if_neg ck]
      · unfold pN
        rw [if_neg (by omega), eo 3 (by decide) (by decide)]
    have hc0 : ∀ (zs : CLS) (i e : Int), DPap (pC (V 3) (V 3 394)) (pN (V 3)) e zs i → i = 400 * V 3 394 → e = V0 19 0 → i < e := fun zs i e q ei ee => by
      have hz : ∃ z j, DCl (pC (V 3) (V 3 394)) (pN (V 3)) i j z := by
        cases zs with
        | nil => exact q.elim
        | cons z zs =>
          cases zs with
          | nil => exact ⟨z, e, q⟩
          | cons z2 zs => obtain ⟨j, q1, -⟩ := q; exact ⟨z, j, q1⟩
      obtain ⟨z, j, q1⟩ := hz
      have h2 := T.2.1 i (by omega)
      by_cases cc : V0 19 0 ≤ i
      · rw [if_pos cc] at h2; have := q1.1; have := q1.2.1; omega
      · omega
    have hlt := hc0 _ _ _ hp rfl e19.symm
    have hlen := DPap.len _ _ hp hlt
    rw [← e19] at hp
    obtain ⟨i', b', k1⟩ := M_told_loop T hlo h0 h1 _ _ wo (V0 20 0) FU (by omega) hp (by rw [FU_eq]; omega)
    rw [hw, ← e18, gb_self] at k1
    refine ⟨_, k1, fun k hk => ?_⟩
    have n18 : k ≠ 18 := fun e => hk (by rw [e]; decide)
    have n19 : k ≠ 19 := fun e => hk (by rw [e]; decide)
    have n20 : k ≠ 20 := fun e => hk (by rw [e]; decide)
    rw [gbo n18 n20, eo k n18 n19]
theorem M_asksOf_eq {q l hp day : Int} (h0 : 0 ≤ q) (h1 : q ≤ 20) : ∃ V', M_asksOf q l hp day V = some (0, V') ∧ MF [21] V V' ∧ ∀ i : Int, 0 ≤ i → i ≤ 6 → V' 21 i = askS (V 3) q l hp day i := by
  unfold M_asksOf
  rw [M_factOf_eq h0 h1 (by decide) (by decide), mb_some, nm_eq, M_factOf_eq h0 h1 (by decide) (by decide), mb_some, nm_eq, nm_eq, nm_eq, M_factOf_eq h0 h1 (by decide) (by decide), mb_some, nm_eq, nm_eq, nm_eq]
  refine ⟨_, rfl, MF.ed (MF.ed (MF.ed (MF.ed (MF.ed (MF.ed (MF.ed MF.rf (by decide)) (by decide)) (by decide)) (by decide)) (by decide)) (by decide)) (by decide), fun i i0 i1 => ?_⟩
  simp only [vupN (show (3 : Nat) ≠ 21 by decide), Int.add_zero]
  unfold askS
  by_cases e6 : i = 6
  · rw [e6, vup_at]; rfl
  rw [vup_off e6, if_neg e6]
  by_cases e5 : i = 5
  · rw [e5, vup_at]; rfl
  rw [vup_off e5, if_neg e5]
  by_cases e4 : i = 4
  · rw [e4, vup_at]; rfl
  rw [vup_off e4, if_neg e4]
  by_cases e3 : i = 3
  · rw [e3, vup_at]; rfl
  rw [vup_off e3, if_neg e3]
  by_cases e2 : i = 2
  · rw [e2, vup_at]; rfl
  rw [vup_off e2, if_neg e2]
  by_cases e1 : i = 1
  · rw [e1, vup_at]; rfl
  rw [vup_off e1, if_neg e1]
  have e0 : i = 0 := by omega
  rw [e0, vup_at]; rfl
/-- the model's fields that the told ones change -/
def TF4 : List Nat := [18, 19, 20, 21]
theorem M_takesOf_eq (KK : KI (V 3)) (PP : PR (V 3) P) {q l hp day : Int} (h0 : 0 ≤ q) (h1 : q < V 3 390) (l0 : b9 l) (p0 : hp = 0 ∨ hp = 1) (d0 : b9 day) : ∃ V', M_takesOf q l hp day V = some (takesS (V 3) (curP (V 3) P) q l hp day, V') ∧ MF TF4 V V' := by
  have hk := KK.1.1
  obtain ⟨V1, e1, m1, a1⟩ := M_asksOf_eq (V := V) (l := l) (hp := hp) (day := day) h0 (by omega)
  have e3 : V1 3 = V 3 := m1 3 (by decide)
  have hA : AB (askS (V 3) q l hp day) (V1 21) := fun i i0 i1 => ⟨a1 i i0 i1, askS_b KK h0 h1 l0 (by unfold b9; omega) d0 i⟩
  obtain ⟨V2, e2, m2⟩ := M_told_eq (V := V1) (P := P) (by rw [e3]; exact KK) (by rw [e3]; exact PP) hA (head := 0) (lo := 1) (hi := 20) (wo := 4) (by decide) (by decide) (by decide) rfl
  refine ⟨V2, ?_, m1.tr (T := TF4) (m2.up (by decide)) (by decide)⟩
  unfold M_takesOf
  have ehp : (if hp = 0 then (0 : Int) else 1) = hp := by rcases p0 with e | e <;> rw [e] <;> rfl
  rw [nm_eq, ehp, e1, mb_some, show M_told 1 1 20 4 V1 = _ from e2, mb_some, e3]
  rfl
theorem M_keepsOf_eq (KK : KI (V 3)) (PP : PR (V 3) P) {q l : Int} (h0 : 0 ≤ q) (h1 : q < V 3 390) (l0 : b9 l) : ∃ V', M_keepsOf q l V = some (keepsS (V 3) (curP (V 3) P) q l, V') ∧ MF TF4 V V' := by
  have hk := KK.1.1
  obtain ⟨V1, e1, m1, a1⟩ := M_asksOf_eq (V := V) (l := l) (hp := 0) (day := 0) h0 (by omega)
  have e3 : V1 3 = V 3 := m1 3 (by decide)
  have hA : AB (askS (V 3) q l 0 0) (V1 21) := fun i i0 i1 => ⟨a1 i i0 i1, askS_b KK h0 h1 l0 (by unfold b9; omega) (by unfold b9; omega) i⟩
  obtain ⟨V2, e2, m2⟩ := M_told_eq (V := V1) (P := P) (by rw [e3]; exact KK) (by rw [e3]; exact PP) hA (head := 1) (lo := 1) (hi := 30) (wo := 10) (by decide) (by decide) (by decide) rfl
  refine ⟨V2, ?_, m1.tr (T := TF4) (m2.up (by decide)) (by decide)⟩
  unfold M_keepsOf
  rw [e1, mb_some, show M_told 2 1 30 10 V1 = _ from e2, mb_some, e3]
  rfl
theorem M_chanceOf_eq (KK : KI (V 3)) (PP : PR (V 3) P) {l : Int} (h0 : 0 ≤ l) (h1 : l ≤ 2) : ∃ V', M_chanceOf l V = some (chS (curP (V 3) P) l, V') ∧ MF TF4 V V' := by
  have e21 : ∀ V1 : VV, MF [21] V V1 → (∀ j : Int, 0 ≤ j → j ≤ 6 → V1 21 j = 0) → ∃ V', M_chanceOf_21 l V1 = some (chS (curP (V 3) P) l, V') ∧ MF TF4 V V' := fun V1 m1 z => by
    have e3 : vup V1 21 2 l 3 = V 3 := (vupN (by decide)).trans (m1 3 (by decide))
    have hA : AB (chA l) (vup V1 21 2 l 21) := fun i i0 i1 => by
      unfold chA
      by_cases c2 : i = 2
      · rw [c2, vup_at]; exact ⟨rfl, by unfold b9; rw [if_pos rfl]; omega⟩
      · rw [vup_off c2, z i i0 i1, if_neg c2]; exact ⟨rfl, by unfold b9; omega⟩
    obtain ⟨V2, e2, m2⟩ := M_told_eq (V := vup V1 21 2 l) (P := P) (by rw [e3]; exact KK) (by rw [e3]; exact PP) hA (head := 2) (lo := 0) (hi := 100) (wo := 50 * l) (by decide) (by decide) (by decide) (by unfold clampS; rw [if_neg (by omega), if_neg (by omega)])
    refine ⟨V2, ?_, (MF.ed m1 (show (21 : Nat) ∈ [21] by decide)).tr (T := TF4) (m2.up (by decide)) (by decide)⟩
    unfold M_chanceOf_21
    rw [nm_eq, w32_id (by omega) (by omega), show M_told 3 0 100 (50 * l) (vup V1 21 2 l) = _ from e2, mb_some, e3]
    rfl
  have loop : ∀ (k : Nat) (i : Int) (fuel : Nat) (V1 : VV), MF [21] V V1 → 0 ≤ i → i + k = 7 → k < fuel → (∀ j : Int, 0 ≤ j → j < i → V1 21 j = 0) → ∃ V', M_chanceOf_2 fuel l i V1 = some (chS (curP (V 3) P) l, V') ∧ MF TF4 V V' := by
    intro k
    induction k with
    | zero =>
      intro i fuel V1 m1 i0 i1 hf z
      cases fuel with
      | zero => exact absurd hf (Nat.not_lt_zero _)
      | succ fuel => rw [M_chanceOf_2, if_pos (by omega)]; exact e21 V1 m1 (fun j a b => z j a (by omega))
    | succ k ih =>
      intro i fuel V1 m1 i0 i1 hf z
      cases fuel with
      | zero => exact absurd hf (Nat.not_lt_zero _)
      | succ fuel =>
        rw [M_chanceOf_2, if_neg (by omega), ck_ok i0 (by omega), nm_eq, nm_eq, w32_id (by omega) (by omega)]
        refine ih (i + 1) fuel _ (MF.ed m1 (by decide)) (by omega) (by omega) (by omega) (fun j a b => ?_)
        by_cases e : j = i
        · rw [e, vup_at]
        · rw [vup_off e]; exact z j a (by omega)
  exact loop 7 0 FU V MF.rf (by decide) (by decide) (by rw [FU_eq]; decide) (fun j a b => by omega)
end
theorem op_takes : OP_takes Rel := by
  intro n h V hn _ _ ⟨g, P, R⟩ q hq l hl hp hhp
  have H := R.sh
  have E := R.er
  have K := R.ki
  have hK := K.1.1
  by_cases c : 0 ≤ q ∧ q < V 3 390
  · by_cases c1 : 1 ≤ l ∧ l ≤ 3
    · by_cases c2 : 0 ≤ hp ∧ hp ≤ 1
      · by_cases c3 : l = 3
        · refine R.same.op hn (r := 1) ?_ ?_
          · unfold F_X0_takes F_X0_takes_2
            rw [obk H.x1, F_qof_t H E hK c.1 c.2, mb_some, if_neg (qn_ne E c.1 c.2), F_in_t c1.1 c1.2, mb_some, if_neg (by decide), F_in_t c2.1 c2.2, mb_some, if_neg (by decide), obk H.x1, if_pos c3, mb_some]
          · unfold M_takes
            rw [M_isQuestion_t hK.1 hK.2 c.1 c.2, mb_some, if_neg (by decide), M_lies_t c1.1 c1.2, mb_some, if_neg (by decide), M_lies_t c2.1 c2.2, mb_some, if_neg (by decide), if_pos c3]
        · obtain ⟨h', e1, f⟩ := F_takes2_eq R.qi c.1 c.2 (l := l) (hp := hp) (day := 0) c3 (by unfold b9; omega) (by unfold b9; omega) (by unfold b9; omega)
          obtain ⟨V', e2, m⟩ := M_takesOf_eq K R.pr c.1 c.2 (l := l) (hp := hp) (day := 0) (by unfold b9; omega) (by omega) (by unfold b9; omega)
          refine (R.query f (m.up (by decide)) (by decide) (by decide)).op hn (r := takesS (V 3) (curP (V 3) P) q l hp 0) ?_ ?_
          · unfold F_X0_takes
            rw [obk H.x1, F_qof_t H E hK c.1 c.2, mb_some, if_neg (qn_ne E c.1 c.2), F_in_t c1.1 c1.2, mb_some, if_neg (by decide), F_in_t c2.1 c2.2, mb_some, if_neg (by decide), obk H.x1, e1, mb_some]
          · unfold M_takes
            have ehp : (if hp = 1 then (1 : Int) else 0) = hp := by
              by_cases e : hp = 1
              · rw [if_pos e, e]
              · rw [if_neg e]; omega
            rw [M_isQuestion_t hK.1 hK.2 c.1 c.2, mb_some, if_neg (by decide), M_lies_t c1.1 c1.2, mb_some, if_neg (by decide), M_lies_t c2.1 c2.2, mb_some, if_neg (by decide), if_neg c3, nm_eq, ehp, e2, mb_some]
      · refine R.same.op hn (r := -1) ?_ ?_
        · unfold F_X0_takes
          rw [obk H.x1, F_qof_t H E hK c.1 c.2, mb_some, if_neg (qn_ne E c.1 c.2), F_in_t c1.1 c1.2, mb_some, if_neg (by decide), F_in_f (by omega), mb_some, if_pos rfl]
        · unfold M_takes
          rw [M_isQuestion_t hK.1 hK.2 c.1 c.2, mb_some, if_neg (by decide), M_lies_t c1.1 c1.2, mb_some, if_neg (by decide), M_lies_f (by omega), mb_some, if_pos rfl]
    · refine R.same.op hn (r := -1) ?_ ?_
      · unfold F_X0_takes
        rw [obk H.x1, F_qof_t H E hK c.1 c.2, mb_some, if_neg (qn_ne E c.1 c.2), F_in_f (by omega), mb_some, if_pos rfl]
      · unfold M_takes
        rw [M_isQuestion_t hK.1 hK.2 c.1 c.2, mb_some, if_neg (by decide), M_lies_f (by omega), mb_some, if_pos rfl]
  · refine R.same.op hn (r := -1) ?_ ?_
    · unfold F_X0_takes
      rw [obk H.x1, F_qof_f H E hK (by omega), mb_some, if_pos rfl]
    · unfold M_takes
      rw [M_isQuestion_f hK.1 hK.2 (by omega), mb_some, if_pos rfl]
theorem op_keeps : OP_keeps Rel := by
  intro n h V hn _ _ ⟨g, P, R⟩ q hq l hl
  have H := R.sh
  have E := R.er
  have K := R.ki
  have hK := K.1.1
  by_cases c : 0 ≤ q ∧ q < V 3 390
  · by_cases c1 : 1 ≤ l ∧ l ≤ 2
    · obtain ⟨h', e1, f⟩ := F_keepsOf_eq R.qi c.1 c.2 (l := l) (by unfold b9; omega)
      obtain ⟨V', e2, m⟩ := M_keepsOf_eq K R.pr c.1 c.2 (l := l) (by unfold b9; omega)
      refine (R.query f (m.up (by decide)) (by decide) (by decide)).op hn (r := keepsS (V 3) (curP (V 3) P) q l) ?_ ?_
      · unfold F_X0_keeps
        rw [obk H.x1, F_qof_t H E hK c.1 c.2, mb_some, if_neg (qn_ne E c.1 c.2), F_in_t c1.1 c1.2, mb_some, if_neg (by decide), obk H.x1, e1, mb_some]
      · unfold M_keeps
        rw [M_isQuestion_t hK.1 hK.2 c.1 c.2, mb_some, if_neg (by decide), M_lies_t c1.1 c1.2, mb_some, if_neg (by decide), e2, mb_some]
    · refine R.same.op hn (r := -1) ?_ ?_
      · unfold F_X0_keeps
        rw [obk H.x1, F_qof_t H E hK c.1 c.2, mb_some, if_neg (qn_ne E c.1 c.2), F_in_f (by omega), mb_some, if_pos rfl]
      · unfold M_keeps
        rw [M_isQuestion_t hK.1 hK.2 c.1 c.2, mb_some, if_neg (by decide), M_lies_f (by omega), mb_some, if_pos rfl]
  · refine R.same.op hn (r := -1) ?_ ?_
    · unfold F_X0_keeps
      rw [obk H.x1, F_qof_f H E hK (by omega), mb_some, if_pos rfl]
    · unfold M_keeps
      rw [M_isQuestion_f hK.1 hK.2 (by omega), mb_some, if_pos rfl]
theorem op_chance : OP_chance Rel := by
  intro n h V hn _ _ ⟨g, P, R⟩ l hl
  by_cases c1 : 0 ≤ l ∧ l ≤ 2
  · obtain ⟨h', e1, f⟩ := F_chance_eq R.qi c1.1 c1.2
    obtain ⟨V', e2, m⟩ := M_chanceOf_eq R.ki R.pr c1.1 c1.2
    refine (R.query f (m.up (by decide)) (by decide) (by decide)).op hn (r := chS (curP (V 3) P) l) e1 ?_
    unfold M_chance
    rw [M_lies_t c1.1 c1.2, mb_some, if_neg (by decide), e2, mb_some]
  · refine R.same.op hn (r := -1) ?_ ?_
    · unfold F_X0_chance
      rw [F_in_f (by omega), mb_some, if_pos rfl]
    · unfold M_chance
      rw [M_lies_f (by omega), mb_some, if_pos rfl]
