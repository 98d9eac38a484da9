/-! plain law: what a paper's words tell, on the model's side -/
set_option maxRecDepth 100000
set_option maxHeartbeats 400000
/-- where it reads, and brokenness -/
def gb (V : VV) (i b : Int) : VV := vup (vup V 18 0 i) 20 0 b
theorem gb18 {V : VV} {i b : Int} : gb V i b 18 0 = i := by unfold gb; rw [vupN (by decide), vup_at]
theorem gb20 {V : VV} {i b : Int} : gb V i b 20 0 = b := by unfold gb; rw [vup_at]
theorem gbo {V : VV} {i b : Int} {k : Nat} (h1 : k ≠ 18) (h2 : k ≠ 20) : gb V i b k = V k := by unfold gb; rw [vupN h2, vupN h1]
theorem vup_vup {V : VV} {k : Nat} {j x y : Int} : vup (vup V k j x) k j y = vup V k j y := by
  funext a b
  unfold vup
  by_cases c : a = k ∧ b = j
  · rw [if_pos c, if_pos c]
  · rw [if_neg c, if_neg c, if_neg c]
theorem vup_comm {V : VV} {k l : Nat} {i j x y : Int} (h : k ≠ l) : vup (vup V k i x) l j y = vup (vup V l j y) k i x := by
  funext a b
  unfold vup
  by_cases c : a = k ∧ b = i
  · rw [if_pos c, if_pos c, if_neg (fun e => h (c.1.symm.trans e.1))]
  · rw [if_neg c, if_neg c]
theorem vup_id {V : VV} {k : Nat} {j x : Int} (e : V k j = x) : vup V k j x = V := by
  funext a b
  unfold vup
  by_cases c : a = k ∧ b = j
  · rw [if_pos c, c.1, c.2]; exact e.symm
  · rw [if_neg c]
theorem gbu18 {V : VV} {i b x : Int} : vup (gb V i b) 18 0 x = gb V x b := by
  unfold gb; rw [vup_comm (by decide), vup_vup]
theorem gbu20 {V : VV} {i b x : Int} : vup (gb V i b) 20 0 x = gb V i x := by
  unfold gb; rw [vup_vup]
theorem gb_self {V : VV} : gb V (V 18 0) (V 20 0) = V := by
  unfold gb; rw [vup_id rfl, vup_id rfl]
/-- the words and the asked numbers -/
def TK (V : VV) (C N A : Int → Int) : Prop := (0 ≤ V 19 0 ∧ V 19 0 ≤ 2400) ∧ (∀ k : Int, 0 ≤ k → C k = if V 19 0 ≤ k then 0 else V 3 (401 + k)) ∧ (∀ k : Int, 0 ≤ k → N k = V 3 (2801 + k)) ∧ AB A (V 21)
def EV (lv b : Int) (o : Option Int) (r b' : Int) : Prop := (b' = 0 ∨ b' = 1) ∧ (lv = 1 → b = 0 → (∃ v, o = some v ∧ b9 v ∧ r = v ∧ b' = 0) ∨ (o = none ∧ b' = 1)) ∧ ((lv = 0 ∨ b = 1) → b' = b)
def EM (V : VV) (lv b : Int) (o : Option Int) (j : Int) (res : Option (Int × VV)) : Prop := ∃ r b', res = some (r, gb V j b') ∧ EV lv b o r b'
def EVt (lv b : Int) (o : Option Bool) (r b' : Int) : Prop := (r = 0 ∨ r = 1) ∧ (b' = 0 ∨ b' = 1) ∧ (lv = 1 → b = 0 → (∃ v, o = some v ∧ r = (if v = true then 1 else 0) ∧ b' = 0) ∨ (o = none ∧ b' = 1)) ∧ ((lv = 0 ∨ b = 1) → b' = b)
def EMt (V : VV) (lv b : Int) (o : Option Bool) (j : Int) (res : Option (Int × VV)) : Prop := ∃ r b', res = some (r, gb V j b') ∧ EVt lv b o r b'
section
variable {V : VV} {C N A : Int → Int}
theorem TK.lt (T : TK V C N A) {k : Int} (h0 : 0 ≤ k) (h : C k ≠ 0) : k < 2400 := by
  have h1 := T.1
  have h2 := T.2.1 k h0
  by_cases c : V 19 0 ≤ k
  · rw [if_pos c] at h2; exact absurd h2 h
  · omega
theorem M_codeAt_eq (T : TK V C N A) {k i b : Int} (h0 : 0 ≤ k) (h1 : k ≤ 1000000) : M_codeAt k (gb V i b) = some (C k, gb V i b) := by
  have h2 := T.2.1 k h0
  have h3 := T.1
  unfold M_codeAt
  rw [gbo (by decide) (by decide), gbo (by decide) (by decide), h2]
  by_cases c : V 19 0 ≤ k
  · rw [if_pos c, if_pos c]
  · rw [if_neg c, if_neg c, w32_id (by omega) (by omega), ck_ok (by omega) (by omega)]
theorem M_passes0_eq (T : TK V C N A) {c i b : Int} (h0 : 0 ≤ i) (h1 : i ≤ 100000) : M_passes0 c (gb V i b) = some (if C i = c then 1 else 0, gb V (if C i = c then i + 1 else i) b) := by
  unfold M_passes0
  rw [gb18, M_codeAt_eq T h0 (by omega), mb_some, nm_eq]
  by_cases e : C i = c
  · rw [if_pos e, if_pos e, if_neg (by decide), gb18, nm_eq, cb_ok (Or.inr rfl), gbu18, w32_id (by omega) (by omega)]
  · rw [if_neg e, if_neg e, if_pos rfl, cb_ok (Or.inl rfl)]
theorem M_bounded_eq {v lv j b : Int} (hl : lv = 0 ∨ lv = 1) (hb : b = 0 ∨ b = 1) : ∃ r b', M_bounded v lv (gb V j b) = some (r, gb V j b') ∧ (b' = 0 ∨ b' = 1) ∧ ((lv = 0 ∨ b = 1) → b' = b) ∧ (lv = 1 → b = 0 → (∃ w, dW v = some w ∧ b9 w ∧ r = w ∧ b' = 0) ∨ (dW v = none ∧ b' = 1)) := by
  have e25 : ∀ b, M_bounded_25 v (gb V j b) = some (if b = 0 then v else 0, gb V j b) := fun b => by
    unfold M_bounded_25; rw [gb20, nm_eq]
  have e20 : M_bounded_20 v (gb V j b) = some (0, gb V j 1) := by
    unfold M_bounded_20; rw [nm_eq, gbu20, e25, if_neg (by decide)]
  unfold M_bounded
  rw [e25, e20]
  rcases hl with rfl | rfl
  · rw [if_pos rfl]
    exact ⟨_, _, rfl, hb, fun _ => rfl, fun e => absurd e (by decide)⟩
  · rw [if_neg (by decide)]
    by_cases c1 : 1000000000 < v
    · rw [if_pos c1]
      refine ⟨_, _, rfl, Or.inr rfl, fun e => ?_, fun _ _ => Or.inr ⟨if_pos (Or.inl c1), rfl⟩⟩
      rcases e with e | e
      · exact absurd e (by decide)
      · exact e.symm
    · rw [if_neg c1]
      by_cases c2 : -1000000000 ≤ v
      · rw [if_pos c2]
        refine ⟨_, _, rfl, hb, fun _ => rfl, fun _ e => Or.inl ⟨v, if_neg (by omega), ⟨c2, by omega⟩, by rw [if_pos e], e⟩⟩
      · rw [if_neg c2]
        refine ⟨_, _, rfl, Or.inr rfl, fun e => ?_, fun _ _ => Or.inr ⟨if_pos (Or.inr (by omega)), rfl⟩⟩
        rcases e with e | e
        · exact absurd e (by decide)
        · exact e.symm
/-- one more part of a sum or term -/
theorem EV.dead {lv b : Int} {o : Option Int} {r b' : Int} (E : EV lv b o r b') (h : lv = 0 ∨ b = 1) : b' = b := E.2.2 h
theorem EV.mk_dead {lv b : Int} {o : Option Int} {r b' : Int} (hb : b = 0 ∨ b = 1) (h : ¬ (lv = 1 ∧ b = 0)) (e : b' = b) : EV lv b o r b' := ⟨by rw [e]; exact hb, fun h1 h2 => absurd ⟨h1, h2⟩ h, fun _ => e⟩
theorem not_live {lv b : Int} (hl : lv = 0 ∨ lv = 1) (hb : b = 0 ∨ b = 1) (h : ¬ (lv = 1 ∧ b = 0)) : lv = 0 ∨ b = 1 := by
  rcases hl with hl | hl
  · exact Or.inl hl
  · rcases hb with hb | hb
    · exact absurd ⟨hl, hb⟩ h
    · exact Or.inr hb
/-- what holds of a reader of sums -/
def RS (V : VV) (D : Int → Int → DS → Prop) (A : Int → Int) (R : Int → VV → Option (Int × VV)) : Prop := ∀ (i j : Int) (d : DS), 0 ≤ i → D i j d → i < j ∧ j ≤ 2400 ∧ ∀ lv b : Int, (lv = 0 ∨ lv = 1) → (b = 0 ∨ b = 1) → EM V lv b (d A) j (R lv (gb V i b))
theorem part_ok (T : TK V C N A) {D : Int → Int → DS → Prop} {R1 R2 R3 : Int → VV → Option (Int × VV)} (h : RS V D A R1) : RS V (DP D C N) A (M_partOf_b R1 R2 R3) := by
  intro i j d i0 q
  have hA := T.2.2.2
  have leaf : C i ≠ 191 → C i ≠ 0 → ∀ lv b : Int, (lv = 0 ∨ lv = 1) → M_partOf_b R1 R2 R3 lv (gb V i b) = if lv = 0 then some (0, gb V (i + 1) b) else if b = 0 then (if C i = 50 then ck (w32 (w32 (2801 + (i + 1)) - 1)) 5201 (some (V 3 (w32 (w32 (2801 + (i + 1)) - 1)), gb V (i + 1) b)) else ck (w32 (C i - 8)) 7 (some (V 21 (w32 (C i - 8)), gb V (i + 1) b))) else some (0, gb V (i + 1) b) := fun n1 n0 lv b hl => by
    have hi := T.lt i0 n0
    unfold M_partOf_b
    rw [M_sign_eq (by decide) (by decide), mb_some, M_passes0_eq T i0 (by omega), show (100 : Int) + 91 = 191 from rfl, if_neg n1, if_neg n1, mb_some, if_pos rfl, gb18, M_codeAt_eq T i0 (by omega), mb_some, gb18, nm_eq, gbu18, w32_id (by omega) (by omega), gb20, gb18, gbo (by decide) (by decide), gbo (by decide) (by decide)]
  rcases q with ⟨c, r, e, rfl⟩ | ⟨c1, c2, e, rfl⟩ | ⟨c, m, q, cm, e⟩
  · have hi := T.lt i0 (k := i) (by rw [c]; decide)
    refine ⟨by omega, by omega, fun lv b hl hb => ?_⟩
    rw [leaf (by rw [c]; decide) (by rw [c]; decide) lv b hl, e]
    rcases hl with rfl | rfl
    · rw [if_pos rfl]; exact ⟨_, _, rfl, EV.mk_dead hb (by omega) rfl⟩
    · rw [if_neg (by decide)]
      rcases hb with rfl | rfl
      · have hn := T.2.2.1 i i0
        rw [if_pos rfl, if_pos c, w32_id (x := 2801 + (i + 1)) (by omega) (by omega), w32_id (by omega) (by omega), ck_ok (by omega) (by omega), show 2801 + (i + 1) - 1 = 2801 + i by omega, ← hn]
        exact ⟨_, _, rfl, Or.inl rfl, fun _ _ => Or.inl ⟨_, rfl, ⟨by omega, by omega⟩, rfl, rfl⟩, fun _ => rfl⟩
      · rw [if_neg (by decide)]; exact ⟨_, _, rfl, EV.mk_dead (Or.inr rfl) (by omega) rfl⟩
  · have hi := T.lt i0 (k := i) (by omega)
    refine ⟨by omega, by omega, fun lv b hl hb => ?_⟩
    rw [leaf (by omega) (by omega) lv b hl, e]
    rcases hl with rfl | rfl
    · rw [if_pos rfl]; exact ⟨_, _, rfl, EV.mk_dead hb (by omega) rfl⟩
    · rw [if_neg (by decide)]
      rcases hb with rfl | rfl
      · have ha := hA (C i - 8) (by omega) (by omega)
        rw [if_pos rfl, if_neg (by omega), w32_id (by omega) (by omega), ck_ok (by omega) (by omega), ha.1]
        exact ⟨_, _, rfl, Or.inl rfl, fun _ _ => Or.inl ⟨_, rfl, ha.2, rfl, rfl⟩, fun _ => rfl⟩
      · rw [if_neg (by decide)]; exact ⟨_, _, rfl, EV.mk_dead (Or.inr rfl) (by omega) rfl⟩
  · have hi := T.lt i0 (k := i) (by rw [c]; decide)
    obtain ⟨g1, g2, g3⟩ := h (i + 1) m d (by omega) q
    have hm := T.lt (k := m) (by omega) (by rw [cm]; decide)
    refine ⟨by omega, by omega, fun lv b hl hb => ?_⟩
    obtain ⟨r, b', e1, e2⟩ := g3 lv b hl hb
    unfold M_partOf_b
    rw [M_sign_eq (by decide) (by decide), mb_some, M_passes0_eq T i0 (by omega), show (100 : Int) + 91 = 191 from rfl, if_pos c, if_pos c, mb_some, if_neg (by decide), e1, mb_some, gb18, nm_eq, gbu18, w32_id (by omega) (by omega), e]
    exact ⟨_, _, rfl, e2⟩
/-- a step of a chain -/
theorem term_ok (T : TK V C N A) {D : Int → Int → DS → Prop} {R1 R2 R3 : Int → VV → Option (Int × VV)} (h : RS V D A R3) : RS V (DTm D C) A (M_termOf_b R1 R2 R3) := by
  have chain : ∀ (ds : List DS) (i j : Int) (d0 d : DS) (fuel : Nat) (lv b x b1 : Int), 0 ≤ i → i ≤ 2400 → DChain D C 142 147 ds i j d0 d → ds.length < fuel → (lv = 0 ∨ lv = 1) → (b = 0 ∨ b = 1) → EV lv b (d0 A) x b1 → i ≤ j ∧ j ≤ 2400 ∧ EM V lv b (d A) j (M_termOf_6 R1 R2 R3 fuel lv x (gb V i b1)) := by
    intro ds
    induction ds with
    | nil =>
      intro i j d0 d fuel lv b x b1 i0 i1 q hf hl hb E
      obtain ⟨rfl, rfl, n1, n2⟩ := q
      cases fuel with
      | zero => exact absurd hf (Nat.not_lt_zero _)
      | succ fuel =>
        refine ⟨Int.le_refl _, i1, ?_⟩
        rw [M_termOf_6, gb18, M_codeAt_eq T i0 (by omega), mb_some, M_sign_eq (by decide) (by decide), mb_some, show (100 : Int) + 42 = 142 from rfl, if_neg n1, gb18, M_codeAt_eq T i0 (by omega), mb_some, M_sign_eq (by decide) (by decide), mb_some, show (100 : Int) + 47 = 147 from rfl, if_neg n2]
        exact ⟨_, _, rfl, E⟩
    | cons d1 ds ih =>
      intro i j d0 d fuel lv b x b1 i0 i1 q hf hl hb E
      obtain ⟨co, m, qd, him, qr⟩ := q
      cases fuel with
      | zero => exact absurd hf (Nat.not_lt_zero _)
      | succ fuel =>
        have hi := T.lt i0 (k := i) (by omega)
        obtain ⟨g1, g2, g3⟩ := h (i + 1) m d1 (by omega) qd
        have hb1 := E.1
        obtain ⟨w, b2, e1, E2⟩ := g3 lv b1 hl hb1
        have e38 : ∃ x3 b3, M_termOf_38 R1 R2 R3 (M_termOf_6 R1 R2 R3 fuel) lv x (gb V i b1) = M_termOf_6 R1 R2 R3 fuel lv x3 (gb V m b3) ∧ EV lv b (dJ (C i - 100) d0 d1 A) x3 b3 := by
          unfold M_termOf_38
          rw [gb18, M_codeAt_eq T i0 (by omega), mb_some, M_sign_eq (by decide) (by decide), mb_some, show (100 : Int) + 42 = 142 from rfl, nm_eq, gb18, nm_eq, gbu18, w32_id (by omega) (by omega), e1, mb_some, gb20]
          have hb2 := E2.1
          -- a bounded end
          have fin : ∀ (v b3 : Int), (b3 = 0 ∨ b3 = 1) → ((lv = 0 ∨ b = 1) → b3 = b) → (lv = 1 → b = 0 → (∃ o, dJ (C i - 100) d0 d1 A = dW o ∧ b3 = 0 ∧ v = o) ∨ (dJ (C i - 100) d0 d1 A = none ∧ b3 = 1)) → ∃ x3 b4, M_termOf_130 R1 R2 R3 (M_termOf_6 R1 R2 R3 fuel) v lv (gb V m b3) = M_termOf_6 R1 R2 R3 fuel lv x3 (gb V m b4) ∧ EV lv b (dJ (C i - 100) d0 d1 A) x3 b4 := fun v b3 h3 hd hlive => by
            obtain ⟨r, b4, m1, m2, m3, m4⟩ := M_bounded_eq (V := V) (v := v) (j := m) hl h3
            unfold M_termOf_130
            rw [m1, mb_some]
            refine ⟨_, _, rfl, m2, fun l1 bb => ?_, fun hdd => ?_⟩
            · rcases hlive l1 bb with ⟨o, o1, o2, o3⟩ | ⟨o1, o2⟩
              · rw [o1, ← o3]; exact m4 l1 o2
              · exact Or.inr ⟨o1, (m3 (Or.inr o2)).trans o2⟩
            · have e3 := hd hdd
              rw [← e3]
              refine m3 ?_
              rcases hdd with hdd | hdd
              · exact Or.inl hdd
              · exact Or.inr (by rw [e3]; exact hdd)
          have hdead : (lv = 0 ∨ b = 1) → b2 = b := fun hd => by
            have e3 := E.2.2 hd
            rw [← e3]
            refine E2.2.2 ?_
            rcases hd with hd | hd
            · exact Or.inl hd
            · exact Or.inr (by rw [e3]; exact hd)
          have hlive : lv = 1 → b = 0 → (∃ p q, d0 A = some p ∧ d1 A = some q ∧ b9 p ∧ b9 q ∧ x = p ∧ w = q ∧ b2 = 0) ∨ (dJ (C i - 100) d0 d1 A = none ∧ b2 = 1) := fun l1 bb => by
            rcases E.2.1 l1 bb with ⟨p, p1, p2, p3, p4⟩ | ⟨p1, p2⟩
            · rcases E2.2.1 l1 p4 with ⟨s, s1, s2, s3, s4⟩ | ⟨s1, s2⟩
              · exact Or.inl ⟨p, s, p1, s1, p2, s2, p3, s3, s4⟩
              · exact Or.inr ⟨dJ_n2 s1, s2⟩
            · exact Or.inr ⟨dJ_n1 p1, (E2.2.2 (Or.inr p2)).trans p2⟩
          by_cases ct : C i = 142
          · rw [if_pos ct, if_neg (by decide)]
            unfold M_termOf_113
            rw [if_neg (by decide)]
            refine fin _ b2 hb2 hdead (fun l1 bb => ?_)
            rcases hlive l1 bb with ⟨p, s, p1, s1, p2, s2, rfl, rfl, e2⟩ | e2
            · have hm := mul_e9 p2 s2
              refine Or.inl ⟨x * w, ?_, e2, w64_id (by omega) (by omega)⟩
              rw [dJ_ss p1 s1, ct]; rfl
            · exact Or.inr e2
          · have cd : C i = 147 := co.resolve_left ct
            have e113 : ∀ x5 V10, M_termOf_113 R1 R2 R3 (M_termOf_6 R1 R2 R3 fuel) lv x 0 x5 V10 = cz x5 (M_termOf_130 R1 R2 R3 (M_termOf_6 R1 R2 R3 fuel) (w64 (x.tdiv x5)) lv V10) := fun x5 V10 => by
              unfold M_termOf_113; rw [if_pos rfl]
            rw [if_neg ct, if_pos rfl]
            by_cases c0 : w = 0
            · rw [if_pos c0, nm_eq]
              have e9 : ∃ b3, (if b2 = 0 then (if lv = 0 then (0 : Int) else 1) else 1) = b3 ∧ (b3 = 0 ∨ b3 = 1) ∧ ((lv = 0 ∨ b = 1) → b3 = b) ∧ (lv = 1 → b = 0 → dJ (C i - 100) d0 d1 A = none ∧ b3 = 1) := by
                refine ⟨_, rfl, by split <;> (try split) <;> simp, fun hd => ?_, fun l1 bb => ?_⟩
                · have e3 := hdead hd
                  rcases hb with rfl | rfl
                  · rw [e3, if_pos rfl]
                    rcases hd with hd | hd
                    · rw [if_pos hd]
                    · exact absurd hd (by decide)
                  · rw [e3, if_neg (by decide)]
                · refine ⟨?_, ?_⟩
                  · rcases hlive l1 bb with ⟨p, s, p1, s1, p2, s2, rfl, rfl, e2⟩ | e2
                    · rw [dJ_ss p1 s1, cd, if_pos (by decide), if_pos c0]
                    · exact e2.1
                  · rw [l1]; split <;> rfl
              obtain ⟨b3, e9, k1, k2, k3⟩ := e9
              rw [e9, cb_ok k1, nm_eq, gbu20, e113, cz_ok (by decide)]
              exact fin _ b3 k1 k2 (fun l1 bb => Or.inr (k3 l1 bb))
            · rw [if_neg c0, e113, cz_ok c0]
              refine fin _ b2 hb2 hdead (fun l1 bb => ?_)
              rcases hlive l1 bb with ⟨p, s, p1, s1, p2, s2, rfl, rfl, e2⟩ | e2
              · have hm := tdiv_bd (q := w) p2
                refine Or.inl ⟨x.tdiv w, ?_, e2, w64_id (by omega) (by omega)⟩
                rw [dJ_ss p1 s1, cd, if_pos (by decide), if_neg c0]
                unfold dW
                rw [if_neg (by omega)]
              · exact Or.inr e2
        obtain ⟨x3, b3, e4, E3⟩ := e38
        obtain ⟨k1, k2, k3⟩ := ih m j (dJ (C i - 100) d0 d1) d fuel lv b x3 b3 (by omega) g2 qr (by rw [List.length_cons] at hf; omega) hl hb E3
        refine ⟨by omega, k2, ?_⟩
        rw [M_termOf_6, gb18, M_codeAt_eq T i0 (by omega), mb_some, M_sign_eq (by decide) (by decide), mb_some, show (100 : Int) + 42 = 142 from rfl, e4]
        by_cases ct : C i = 142
        · rw [if_pos ct]; exact k3
        · rw [if_neg ct, gb18, M_codeAt_eq T i0 (by omega), mb_some, M_sign_eq (by decide) (by decide), mb_some, show (100 : Int) + 47 = 147 from rfl, if_pos (by omega), e4]; exact k3
  have clen : ∀ (ds : List DS) (i j : Int) (d0 d : DS), 0 ≤ i → i ≤ 2400 → DChain D C 142 147 ds i j d0 d → i + ds.length ≤ 2400 := by
    intro ds
    induction ds with
    | nil => intro i j d0 d i0 i1 q; simp; exact i1
    | cons d1 ds ih =>
      intro i j d0 d i0 i1 q
      obtain ⟨co, m, qd, him, qr⟩ := q
      obtain ⟨g1, g2, g3⟩ := h (i + 1) m d1 (by omega) qd
      have := ih m j _ d (by omega) g2 qr
      rw [List.length_cons]; omega
  intro i j d i0 q
  obtain ⟨m, d0, ds, q0, qc⟩ := q
  obtain ⟨g1, g2, g3⟩ := h i m d0 i0 q0
  have hlen := clen ds m j d0 d (by omega) g2 qc
  have base : i < j ∧ j ≤ 2400 := by
    have := chain ds m j d0 d FU 0 0 0 0 (by omega) g2 qc (by rw [FU_eq]; omega) (Or.inl rfl) (Or.inl rfl) (EV.mk_dead (Or.inl rfl) (by omega) rfl)
    omega
  refine ⟨base.1, base.2, fun lv b hl hb => ?_⟩
  obtain ⟨r, b1, e1, E1⟩ := g3 lv b hl hb
  unfold M_termOf_b
  rw [e1, mb_some]
  exact (chain ds m j d0 d FU lv b r b1 (by omega) g2 qc (by rw [FU_eq]; omega) hl hb E1).2.2
theorem sum_ok (T : TK V C N A) {D : Int → Int → DS → Prop} {R1 R2 R3 : Int → VV → Option (Int × VV)} (h : RS V D A R2) : RS V (fun i j d => ∃ m d0 ds, D i m d0 ∧ DChain D C 143 145 ds m j d0 d) A (M_sumOf_b R1 R2 R3) := by
  have chain : ∀ (ds : List DS) (i j : Int) (d0 d : DS) (fuel : Nat) (lv b x b1 : Int), 0 ≤ i → i ≤ 2400 → DChain D C 143 145 ds i j d0 d → ds.length < fuel → (lv = 0 ∨ lv = 1) → (b = 0 ∨ b = 1) → EV lv b (d0 A) x b1 → i ≤ j ∧ j ≤ 2400 ∧ EM V lv b (d A) j (M_sumOf_6 R1 R2 R3 fuel lv x (gb V i b1)) := by
    intro ds
    induction ds with
    | nil =>
      intro i j d0 d fuel lv b x b1 i0 i1 q hf hl hb E
      obtain ⟨rfl, rfl, n1, n2⟩ := q
      cases fuel with
      | zero => exact absurd hf (Nat.not_lt_zero _)
      | succ fuel =>
        refine ⟨Int.le_refl _, i1, ?_⟩
        rw [M_sumOf_6, gb18, M_codeAt_eq T i0 (by omega), mb_some, M_sign_eq (by decide) (by decide), mb_some, show (100 : Int) + 43 = 143 from rfl, if_neg n1, gb18, M_codeAt_eq T i0 (by omega), mb_some, M_sign_eq (by decide) (by decide), mb_some, show (100 : Int) + 45 = 145 from rfl, if_neg n2]
        exact ⟨_, _, rfl, E⟩
    | cons d1 ds ih =>
      intro i j d0 d fuel lv b x b1 i0 i1 q hf hl hb E
      obtain ⟨co, m, qd, him, qr⟩ := q
      cases fuel with
      | zero => exact absurd hf (Nat.not_lt_zero _)
      | succ fuel =>
        have hi := T.lt i0 (k := i) (by omega)
        obtain ⟨g1, g2, g3⟩ := h (i + 1) m d1 (by omega) qd
        have hb1 := E.1
        obtain ⟨w, b2, e1, E2⟩ := g3 lv b1 hl hb1
        have e38 : ∃ x3 b3, M_sumOf_38 R1 R2 R3 (M_sumOf_6 R1 R2 R3 fuel) lv x (gb V i b1) = M_sumOf_6 R1 R2 R3 fuel lv x3 (gb V m b3) ∧ EV lv b (dJ (C i - 100) d0 d1 A) x3 b3 := by
          unfold M_sumOf_38
          rw [gb18, M_codeAt_eq T i0 (by omega), mb_some, M_sign_eq (by decide) (by decide), mb_some, show (100 : Int) + 43 = 143 from rfl, nm_eq, gb18, nm_eq, gbu18, w32_id (by omega) (by omega), e1, mb_some, nm_eq]
          have hb2 := E2.1
          have hdead : (lv = 0 ∨ b = 1) → b2 = b := fun hd => by
            have e3 := E.2.2 hd
            rw [← e3]
            refine E2.2.2 ?_
            rcases hd with hd | hd
            · exact Or.inl hd
            · exact Or.inr (by rw [e3]; exact hd)
          have hlive : lv = 1 → b = 0 → (∃ p q, d0 A = some p ∧ d1 A = some q ∧ b9 p ∧ b9 q ∧ x = p ∧ w = q ∧ b2 = 0) ∨ (dJ (C i - 100) d0 d1 A = none ∧ b2 = 1) := fun l1 bb => by
            rcases E.2.1 l1 bb with ⟨p, p1, p2, p3, p4⟩ | ⟨p1, p2⟩
            · rcases E2.2.1 l1 p4 with ⟨s, s1, s2, s3, s4⟩ | ⟨s1, s2⟩
              · exact Or.inl ⟨p, s, p1, s1, p2, s2, p3, s3, s4⟩
              · exact Or.inr ⟨dJ_n2 s1, s2⟩
            · exact Or.inr ⟨dJ_n1 p1, (E2.2.2 (Or.inr p2)).trans p2⟩
          generalize hv : (if (if C i = 143 then (1 : Int) else 0) = 0 then w64 (x - w) else w64 (x + w)) = v
          obtain ⟨r, b4, m1, m2, m3, m4⟩ := M_bounded_eq (V := V) (v := v) (j := m) hl hb2
          rw [m1, mb_some]
          refine ⟨_, _, rfl, m2, fun l1 bb => ?_, fun hdd => ?_⟩
          · rcases hlive l1 bb with ⟨p, s, p1, s1, p2, s2, rfl, rfl, o2⟩ | ⟨o1, o2⟩
            · have e5 : dJ (C i - 100) d0 d1 A = dW v := by
                rw [dJ_ss p1 s1, ← hv]
                unfold b9 at p2 s2
                rcases co with co | co
                · rw [co, if_neg (by decide), if_pos (by decide), if_pos rfl, if_neg (by decide), w64_id (by omega) (by omega)]
                · rw [co, if_neg (by decide), if_neg (by decide), if_pos (by decide), if_neg (show ¬ (145 : Int) = 143 by decide), if_pos rfl, w64_id (by omega) (by omega)]
              rw [e5]; exact m4 l1 o2
            · exact Or.inr ⟨o1, (m3 (Or.inr o2)).trans o2⟩
          · have e3 := hdead hdd
            rw [← e3]
            refine m3 ?_
            rcases hdd with hdd | hdd
            · exact Or.inl hdd
            · exact Or.inr (by rw [e3]; exact hdd)
        obtain ⟨x3, b3, e4, E3⟩ := e38
        obtain ⟨k1, k2, k3⟩ := ih m j (dJ (C i - 100) d0 d1) d fuel lv b x3 b3 (by omega) g2 qr (by rw [List.length_cons] at hf; omega) hl hb E3
        refine ⟨by omega, k2, ?_⟩
        rw [M_sumOf_6, gb18, M_codeAt_eq T i0 (by omega), mb_some, M_sign_eq (by decide) (by decide), mb_some, show (100 : Int) + 43 = 143 from rfl, e4]
        by_cases ct : C i = 143
        · rw [if_pos ct]; exact k3
        · rw [if_neg ct, gb18, M_codeAt_eq T i0 (by omega), mb_some, M_sign_eq (by decide) (by decide), mb_some, show (100 : Int) + 45 = 145 from rfl, if_pos (by omega), e4]; exact k3
  have clen : ∀ (ds : List DS) (i j : Int) (d0 d : DS), 0 ≤ i → i ≤ 2400 → DChain D C 143 145 ds i j d0 d → i + ds.length ≤ 2400 := by
    intro ds
    induction ds with
    | nil => intro i j d0 d i0 i1 q; simp; exact i1
    | cons d1 ds ih =>
      intro i j d0 d i0 i1 q
      obtain ⟨co, m, qd, him, qr⟩ := q
      obtain ⟨g1, g2, g3⟩ := h (i + 1) m d1 (by omega) qd
      have := ih m j _ d (by omega) g2 qr
      rw [List.length_cons]; omega
  intro i j d i0 q
  obtain ⟨m, d0, ds, q0, qc⟩ := q
  obtain ⟨g1, g2, g3⟩ := h i m d0 i0 q0
  have hlen := clen ds m j d0 d (by omega) g2 qc
  have base : i < j ∧ j ≤ 2400 := by
    have := chain ds m j d0 d FU 0 0 0 0 (by omega) g2 qc (by rw [FU_eq]; omega) (Or.inl rfl) (Or.inl rfl) (EV.mk_dead (Or.inl rfl) (by omega) rfl)
    omega
  refine ⟨base.1, base.2, fun lv b hl hb => ?_⟩
  obtain ⟨r, b1, e1, E1⟩ := g3 lv b hl hb
  unfold M_sumOf_b
  rw [e1, mb_some]
  exact (chain ds m j d0 d FU lv b r b1 (by omega) g2 qc (by rw [FU_eq]; omega) hl hb E1).2.2
theorem M_sumOf_ok (T : TK V C N A) : ∀ (m n : Nat), 3 * m ≤ n → RS V (DSm m C N) A (M_sumOf n)
  | 0, n, _ => fun i j d _ q => q.elim
  | m + 1, n, hn => by
    obtain ⟨k, rfl⟩ : ∃ k, n = k + 3 := ⟨n - 3, by omega⟩
    have h1 : RS V (DSm m C N) A (MR_sumOf k).1 := M_sumOf_ok T m k (by omega)
    have h2 : RS V (DP (DSm m C N) C N) A (MR_sumOf (k + 1)).2.2 := part_ok (R2 := (MR_sumOf k).2.1) (R3 := (MR_sumOf k).2.2) T h1
    have h3 : RS V (DTm (DP (DSm m C N) C N) C) A (MR_sumOf (k + 2)).2.1 := term_ok (R1 := (MR_sumOf (k + 1)).1) (R2 := (MR_sumOf (k + 1)).2.1) T h2
    exact sum_ok (R1 := (MR_sumOf (k + 2)).1) (R3 := (MR_sumOf (k + 2)).2.2) T h3
end
