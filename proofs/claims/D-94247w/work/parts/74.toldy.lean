/-! plain law: what the paper in use tells, on the system's side -/
set_option maxRecDepth 100000
set_option maxHeartbeats 400000
theorem QW.tf {c s : Nat} {h h' : XH} (H : SH h) (f : Fr (QW h) c s h h') : TF h h' := f.tf fun a j h1 h2 q => by
  rcases q with rfl | ⟨rfl, -⟩ | ⟨-, q, q2⟩
  · rw [H.x11.2.2]; exact ⟨rfl, fun e => absurd e (by decide)⟩
  · rw [H.x10.2.2]; exact ⟨rfl, fun e => absurd e (by decide)⟩
  · rw [q]; exact ⟨rfl, fun _ => q2⟩
theorem SH.q {c s : Nat} {h h' : XH} (H : SH h) (f : Fr (QW h) c s h h') : SH h' := H.fr f (fun j _ => QW.n1 H j) (QW.nk H.x10 (Or.inl (by decide)) (Or.inr (by decide)) (Or.inl (by decide)) H) (QW.nk H.x12 (Or.inl (by decide)) (Or.inl (by decide)) (Or.inl (by decide)) H)
/-- what queries rest on -/
def QI (g : Int → Int) (P : Nat → CLS) (h : XH) (K : Int → Int) : Prop := SH h ∧ GW g h ∧ ER g 1 h (xv h 1 0) K P ∧ KI K
section
variable {g : Int → Int} {P : Nat → CLS} {h h' : XH} {K : Int → Int} {c s : Nat}
theorem RelG.qi {n : Nat} {V : VV} (R : RelG g P n h V) : QI g P h (V 3) := ⟨R.sh, R.gw, R.er, R.ki⟩
theorem QI.e1 (Q : QI g P h K) (f : Fr (QW h) c s h h') (j : Int) : xv h' 1 j = xv h 1 j := f.v (by have := Q.1.1; omega) (QW.n1 Q.1 j)
theorem QI.fr (Q : QI g P h K) (f : Fr (QW h) c s h h') : QI g P h' K := ⟨Q.1.q f, Q.2.1.fr f, by rw [Q.e1 f]; exact Q.2.2.1.fr Q.2.2.2.1.1.2 (by decide) (QW.ok Q.1 Q.2.1) f, Q.2.2.2⟩
theorem QI.vn (Q : QI g P h K) (f : Fr (QW h) c s h h') {a : Int} {k : Nat} (o : OB h a k) (h1 : k ≠ 101) (h2 : k ≠ 3) (h3 : k ≠ 14) (j : Int) : xv h' a j = xv h a j := f.v o.2.1 (QW.nk o (Or.inl h1) (Or.inl h2) (Or.inl h3) Q.1)
theorem QI.qn (Q : QI g P h K) (f : Fr (QW h) c s h h') {k : Int} (h0 : 0 ≤ k) (h1 : k < K 390) : qn h' k = qn h k := by
  have E := Q.2.2.1
  unfold _root_.Jvm.Pilot.CExamSlipsLaw_law_r1529_4f64e4.qn
  rw [Q.e1 f, Q.vn f E.o (by decide) (by decide) (by decide)]
  exact nth_fr E.lq f (fun j => QW.nk E.lq.1 (Or.inl (by decide)) (Or.inl (by decide)) (Or.inl (by decide)) Q.1) (fun j o => QW.nk o (Or.inl (by decide)) (Or.inl (by decide)) (Or.inl (by decide)) Q.1) (by omega)
theorem QW.s11 {h : XH} {j x : Int} : Fr (QW h) 0 0 h (hset h 11 j x) := Fr.set fun _ => Or.inl rfl
theorem QW.s10 {h : XH} {x : Int} : Fr (QW h) 0 0 h (hset h 10 1 x) := Fr.set fun _ => Or.inr (Or.inl ⟨rfl, rfl⟩)
/-- a clause -/
def HX (z : Int × DS × DT) (A : Int → Int) (h : XH) (c : Int) (res : Option XR) : Prop := ∃ r h', res = some (r, h') ∧ Fr (QW h) 0 0 h h' ∧ (∀ i, xv h' 11 i = xv h 11 i) ∧ ((∃ v, z.2.2 A = some true ∧ z.2.1 A = some v ∧ b9 v ∧ r = 1 ∧ xv h' c 3 = v) ∨ (r = 0 ∧ ¬ ∃ v, z.2.2 A = some true ∧ z.2.1 A = some v))
theorem holds_ok {h : XH} {A : Int → Int} {z : Int × DS × DT} {c : Int} (H : SH h) (hA : AB A (xv h 11)) (Z : CR h c z) : HX z A h c (F_X16_holds c 10 h) := by
  have Q0 := QW.s10 (h := h) (x := 0)
  have H0 : SH (hset h 10 1 0) := H.q Q0
  have b0 : xv (hset h 10 1 0) 10 1 = 0 := hset_vv
  have v11 : ∀ i, xv (hset h 10 1 0) 11 i = xv h 11 i := fun i => hset_vn (by decide)
  have hA0 : AB A (xv (hset h 10 1 0) 11) := fun i i0 i1 => by rw [v11]; exact hA i i0 i1
  have Z0 : CR (hset h 10 1 0) c z := Z.tf (QW.tf H Q0)
  have oc : OB h c 14 := Z.1
  obtain ⟨o, -, -, q1, q2⟩ := Z0
  unfold F_X16_holds
  rw [obk H.x10, cb_ok (Or.inl rfl), nm_eq, obk o]
  generalize hh : hset h 10 1 0 = h0 at *
  have x1 : OB (hset h0 10 1 1) 10 3 := H0.x10
  have nc10 : (10 : Int) ≠ c := fun e => by have := oc.2.2; rw [← e, H.x10.2.2] at this; cases this
  have nc11 : (11 : Int) ≠ c := fun e => by have := oc.2.2; rw [← e, H.x11.2.2] at this; cases this
  have fB : Fr (QW h) 0 0 h (hset h0 10 1 1) := QF.tr Q0 QW.s10
  have fT : ∀ (h1 : XH) (v : Int), Fr (QW h) 0 0 h h1 → Fr (QW h) 0 0 h (hset h1 c 3 v) := fun h1 v f => QF.tr f (Fr.set fun hc => Or.inr (Or.inr ⟨oc.1, by rw [f.k oc.2.1]; exact oc.2.2, rfl⟩))
  have vB : ∀ i, xv (hset h0 10 1 1) 11 i = xv h 11 i := fun i => (hset_vn (by decide)).trans (v11 i)
  have e23b : F_X16_holds_23 c 10 (hset h0 10 1 1) = some (0, hset h0 10 1 1) := by
    unfold F_X16_holds_23
    rw [obk x1, hset_vv, if_neg (by decide)]
  have e23 : z.2.2 A = some true → HX z A h c (F_X16_holds_23 c 10 h0) := fun ht => by
    unfold F_X16_holds_23
    rw [obk H0.x10, if_pos b0, obk o, RF_eq]
    rcases VSum_ok H0 b0 hA0 _ _ _ q1 with ⟨v, p1, p2, p3⟩ | ⟨p1, v, p3⟩
    · rw [p3, mb_some, obk o, nm_eq, obk (h := hset h0 c 3 v) H0.x10, hset_vn nc10, if_pos b0, nm_eq, cb_ok (Or.inr rfl)]
      exact ⟨_, _, rfl, fT _ v Q0, fun i => (hset_vn nc11).trans (v11 i), Or.inl ⟨v, ht, p1, p2, rfl, hset_vv⟩⟩
    · have e1 : xv (hset (hset h0 10 1 1) c 3 v) 10 1 = 1 := (hset_vn nc10).trans hset_vv
      rw [p3, mb_some, obk (h := hset h0 10 1 1) o, nm_eq, obk (h := hset (hset h0 10 1 1) c 3 v) x1, e1, if_neg (by decide), nm_eq, cb_ok (Or.inl rfl)]
      exact ⟨_, _, rfl, fT _ v fB, fun i => (hset_vn nc11).trans (vB i), Or.inr ⟨rfl, fun ⟨w, w1, w2⟩ => by rw [p1] at w2; cases w2⟩⟩
  by_cases c2 : xv h0 c 2 = 0
  · rw [if_pos c2]
    rcases q2 with ⟨-, q2⟩ | q2
    · exact e23 (by rw [q2])
    · exfalso
      have h60 : ∃ m, HT (m + 1) h0 (xv h0 c 2) z.2.2 := ⟨59, q2⟩
      obtain ⟨m, q2⟩ := h60
      rcases q2 with ⟨o9, -⟩ | ⟨o9, -⟩ | ⟨o9, -⟩ <;> (have := o9.1; omega)
  · rw [if_neg c2, obk o, RF_eq]
    rcases q2 with ⟨q2, -⟩ | q2
    · exact absurd q2 c2
    · rcases VTest_ok H0 b0 hA0 _ _ _ q2 with ⟨b, p1, p3⟩ | ⟨p1, v, p3⟩
      · rw [p3, mb_some]
        cases b with
        | true => rw [if_neg (by decide)]; exact e23 p1
        | false =>
          rw [if_pos (show (if false = true then (1 : Int) else 0) = 0 from rfl)]
          exact ⟨_, _, rfl, Q0, v11, Or.inr ⟨rfl, fun ⟨w, w1, w2⟩ => by rw [p1] at w1; cases w1⟩⟩
      · rw [p3, mb_some, e23b]
        have hno : ¬ ∃ v, z.2.2 A = some true ∧ z.2.1 A = some v := fun ⟨w, w1, w2⟩ => by rw [p1] at w1; cases w1
        by_cases c3 : v = 0
        · rw [if_pos c3]; exact ⟨_, _, rfl, fB, vB, Or.inr ⟨rfl, hno⟩⟩
        · rw [if_neg c3]; exact ⟨_, _, rfl, fB, vB, Or.inr ⟨rfl, hno⟩⟩
theorem clampS_eq {lo hi x : Int} (h : lo ≤ hi) : (if (if x < hi then x else hi) < lo then lo else (if x < hi then x else hi)) = clampS lo hi x := by
  unfold clampS
  split <;> split <;> (try split) <;> omega
theorem clampS_in {lo hi x : Int} (h : lo ≤ hi) : lo ≤ clampS lo hi x ∧ clampS lo hi x ≤ hi := by
  unfold clampS; split
  · omega
  · split <;> omega
theorem tells_ok {A : Int → Int} {head lo hi arr : Int} (hlo : lo ≤ hi) (h0 : -2147483648 ≤ lo) (h1 : hi ≤ 2147483647) : ∀ (cl : CLS) (k its : Int) (fuel : Nat) (h : XH), SH h → AB A (xv h 11) → OB h arr 104 → 0 ≤ k → k + cl.length = (xl h arr : Int) → k + cl.length ≤ 12 → cl.length < fuel → (∀ (i : Nat) (z : Int × DS × DT), cl[i]? = some z → CR h (xv h arr (k + i)) z) → ∃ h', F_X3_tells_18 fuel head 10 lo hi its arr (xl h arr : Int) k h = some (clampS lo hi (cl.foldl (toldStep head A) its), h') ∧ Fr (QW h) 0 0 h h' := by
  intro cl
  induction cl with
  | nil =>
    intro k its fuel h H hA o k0 k1 k2 hf hd
    cases fuel with
    | zero => exact absurd hf (Nat.not_lt_zero _)
    | succ fuel =>
      have k3 : k = (xl h arr : Int) := by rw [← k1]; simp
      have hc := clampS_in (x := its) hlo
      refine ⟨h, ?_, Fr.rf⟩
      rw [F_X3_tells_18, if_pos (by omega)]
      unfold F_X3_tells_63
      rw [nm_eq, nm_eq, clampS_eq hlo, w32_id (by omega) (by omega)]
      rfl
  | cons z cl ih =>
    intro k its fuel h H hA o k0 k1 k2 hf hd
    cases fuel with
    | zero => exact absurd hf (Nat.not_lt_zero _)
    | succ fuel =>
      rw [List.length_cons] at k1 k2 hf
      have Z := hd 0 z rfl
      rw [show k + ((0 : Nat) : Int) = k by omega] at Z
      rw [F_X3_tells_18, if_neg (by omega), aik (t := 4) o k0 (by omega), nm_eq, obk Z.1, Z.2.1]
      have hd' : ∀ (i : Nat) (z : Int × DS × DT), cl[i]? = some z → CR h (xv h arr (k + 1 + i)) z := fun i z hi => by
        have := hd (i + 1) z hi
        rw [show k + ((i + 1 : Nat) : Int) = k + 1 + i by omega] at this
        exact this
      have hfl : ∀ x, (z :: cl).foldl (toldStep head A) x = cl.foldl (toldStep head A) (toldStep head A x z) := fun _ => rfl
      rw [hfl]
      by_cases c : z.1 = head
      · rw [if_pos c, obk Z.1]
        obtain ⟨r, h', e1, f, v11, e2⟩ := holds_ok H hA Z
        have hA' : AB A (xv h' 11) := fun i i0 i1 => by rw [v11]; exact hA i i0 i1
        have t := QW.tf H f
        have el : xl h' arr = xl h arr := f.l o.2.1
        have hd2 : ∀ (i : Nat) (z : Int × DS × DT), cl[i]? = some z → CR h' (xv h' arr (k + 1 + i)) z := fun i z hi => by
          rw [t.v o rfl]; exact (hd' i z hi).tf t
        rw [e1, mb_some]
        have ef : ∀ x, ∃ h2, F_X3_tells_57 (F_X3_tells_18 fuel) head 10 lo hi x arr (xl h arr : Int) k h' = some (clampS lo hi (cl.foldl (toldStep head A) x), h2) ∧ Fr (QW h) 0 0 h h2 := fun x => by
          unfold F_X3_tells_57
          rw [nm_eq, w32_id (by omega) (by omega), ← el]
          obtain ⟨h2, g1, g2⟩ := ih (k + 1) x fuel h' (H.q f) hA' (f.ob o) (by omega) (by rw [el]; omega) (by omega) (by omega) hd2
          exact ⟨h2, g1, QF.tr f g2⟩
        rcases e2 with ⟨v, t1, t2, t3, rfl, t4⟩ | ⟨rfl, hno⟩
        · rw [if_neg (by decide), obk (f.ob Z.1), nm_eq, t4]
          have es : toldStep head A its z = v := by unfold toldStep; rw [if_pos c, t1, t2]
          rw [es]; exact ef v
        · rw [if_pos rfl]
          have es : toldStep head A its z = its := by
            unfold toldStep
            rw [if_pos c]
            split
            · rename_i e3 e4; exact absurd ⟨_, e3, e4⟩ hno
            · rfl
          rw [es]; exact ef its
      · have es : toldStep head A its z = its := by unfold toldStep; rw [if_neg c]
        rw [if_neg c, es]
        unfold F_X3_tells_57
        rw [nm_eq, w32_id (by omega) (by omega)]
        exact ih (k + 1) its fuel h H hA o (by omega) (by omega) (by omega) (by omega) hd'
theorem F_tells_eq {h : XH} {A : Int → Int} {t head lo hi wo : Int} {cl : CLS} (H : SH h) (hA : AB A (xv h 11)) (T : TR h t cl) (hlo : lo ≤ hi) (h0 : -2147483648 ≤ lo) (h1 : hi ≤ 2147483647) : ∃ h', F_X3_tells t head 10 wo lo hi h = some (clampS lo hi (toldS cl head A wo), h') ∧ Fr (QW h) 0 0 h h' := by
  obtain ⟨o, o2, e, e2, q⟩ := T
  unfold F_X3_tells
  rw [obk o, nm_eq, alk (t := 4) o2, nm_eq]
  exact tells_ok hlo h0 h1 cl 0 wo FU h H hA o2 (by decide) (by rw [e]; omega) (by omega) (by rw [FU_eq]; omega) (fun i z hi => by rw [Int.zero_add]; exact q i z hi)
theorem F_inUse_eq (Q : QI g P h K) : ∃ t, F_X0_inUse 1 h = some (t, h) ∧ TR h t (curP K P) := by
  obtain ⟨H, G, E, KK⟩ := Q
  have hk := KK.1
  unfold F_X0_inUse
  rw [obk H.x1, obk E.o, E.us]
  by_cases c : K 394 = -1
  · rw [if_pos c, obk H.x1]
    refine ⟨_, rfl, ?_⟩
    unfold curP
    rw [if_pos c, H.f3]
    exact ⟨H.x12, by rw [H.n0]; exact H.x13, by rw [H.n0, H.l13]; rfl, by decide, fun i z hi => by simp at hi⟩
  · have ep := E.p (K 394).toNat (by omega)
    rw [show (((K 394).toNat : Nat) : Int) = K 394 by omega] at ep
    rw [if_neg c, obk H.x1, obk E.o, obk H.x1, obk E.o, obk E.lp.1, F_get_eq E.lp (by omega) (by omega), mb_some, obk ep.1]
    refine ⟨_, rfl, ?_⟩
    unfold curP
    rw [if_neg c]
    exact ep
/-- the asked numbers -/
theorem F_clear_eq (H : SH h) : ∃ h', F_X2_clear 10 h = some (10, h') ∧ Fr (QW h) 0 0 h h' ∧ ∀ i : Int, 0 ≤ i → i ≤ 6 → xv h' 11 i = 0 := by
  have loop : ∀ (k : Nat) (i : Int) (fuel : Nat) (h1 : XH), Fr (QW h) 0 0 h h1 → 0 ≤ i → i + k = 7 → k < fuel → (∀ j : Int, 0 ≤ j → j < i → xv h1 11 j = 0) → ∃ h', F_X2_clear_2 fuel 10 i h1 = some (10, h') ∧ Fr (QW h) 0 0 h h' ∧ ∀ i : Int, 0 ≤ i → i ≤ 6 → xv h' 11 i = 0 := by
    intro k
    induction k with
    | zero =>
      intro i fuel h1 f i0 i1 hf hz
      cases fuel with
      | zero => exact absurd hf (Nat.not_lt_zero _)
      | succ fuel => rw [F_X2_clear_2, if_pos (by omega)]; exact ⟨h1, rfl, f, fun j a b => hz j a (by omega)⟩
    | succ k ih =>
      intro i fuel h1 f i0 i1 hf hz
      cases fuel with
      | zero => exact absurd hf (Nat.not_lt_zero _)
      | succ fuel =>
        have H1 := H.q f
        rw [F_X2_clear_2, if_neg (by omega), obk H1.x10, H1.a0, aik (t := 1) H1.x11 i0 (by rw [H1.l11]; omega), nm_eq, nm_eq, w32_id (by omega) (by omega)]
        refine ih (i + 1) fuel _ (QF.tr f QW.s11) (by omega) (by omega) (by omega) (fun j a b => ?_)
        by_cases e : j = i
        · rw [e, hset_vv]
        · rw [hset_vj e]; exact hz j a (by omega)
  exact loop 7 0 FU h Fr.rf (by decide) (by decide) (by rw [FU_eq]; decide) (fun j a b => by omega)
theorem F_ask_eq (Q : QI g P h K) {q : Int} (h0 : 0 ≤ q) (h1 : q < K 390) {l : Int} : ∃ h', F_X5_ask (qn h q) 10 l h = some (10, h') ∧ Fr (QW h) 0 0 h h' ∧ ∀ i : Int, 0 ≤ i → i ≤ 6 → xv h' 11 i = askS K q l 0 0 i := by
  obtain ⟨H, G, E, KK⟩ := Q
  obtain ⟨h1', e1, f, z⟩ := F_clear_eq H
  have H1 := H.q f
  obtain ⟨o, -, q0, q1, q2, q3, q4, q5⟩ := E.q q h0 h1
  have kq := (KK.2.1 q h0 h1).2.2.2.1
  have n11 : qn h q ≠ 11 := fun e => by have := o.2.2; unfold qn at e; rw [e, H.x11.2.2] at this; cases this
  have ev : ∀ j, xv h1' (qn h q) j = xv h (qn h q) j := fun j => f.v o.2.1 (QW.nk o (Or.inl (by decide)) (Or.inl (by decide)) (Or.inl (by decide)) H)
  have oq : OB h1' (qn h q) 5 := f.ob o
  unfold F_X5_ask
  rw [obk H.x10, e1, mb_some, obk H1.x10, obk oq, H1.a0, aik (t := 1) H1.x11 (by decide) (by rw [H1.l11]; decide), nm_eq, ev 1]
  have s1 : Fr (QW h) 0 0 h (hset h1' 11 0 (xv h (qn h q) 1)) := QF.tr f QW.s11
  have a1 := H.q s1
  generalize g1 : hset h1' 11 0 (xv h (qn h q) 1) = h2 at *
  have o2 : OB h2 (qn h q) 5 := s1.ob o
  have ev2 : ∀ j, xv h2 (qn h q) j = xv h (qn h q) j := fun j => by rw [← g1, hset_vn n11, ev]
  rw [obk a1.x10, obk o2, a1.a0, aik (t := 1) a1.x11 (by decide) (by rw [a1.l11]; decide), nm_eq, ev2 2]
  have s2 : Fr (QW h) 0 0 h (hset h2 11 1 (xv h (qn h q) 2)) := QF.tr s1 QW.s11
  have a2 := H.q s2
  generalize g2 : hset h2 11 1 (xv h (qn h q) 2) = h3 at *
  rw [obk a2.x10, a2.a0, aik (t := 1) a2.x11 (by decide) (by rw [a2.l11]; decide), nm_eq]
  have s3 : Fr (QW h) 0 0 h (hset h3 11 2 l) := QF.tr s2 QW.s11
  have a3 := H.q s3
  generalize g3 : hset h3 11 2 l = h4 at *
  have o4 : OB h4 (qn h q) 5 := s3.ob o
  have ev4 : ∀ j, xv h4 (qn h q) j = xv h (qn h q) j := fun j => by rw [← g3, hset_vn n11, ← g2, hset_vn n11, ev2]
  rw [obk a3.x10, obk o4, nm_eq, a3.a0, aik (t := 1) a3.x11 (by decide) (by rw [a3.l11]; decide), nm_eq, ev4 4]
  have s4 : Fr (QW h) 0 0 h (hset h4 11 4 (if xv h (qn h q) 4 = 0 then 0 else 1)) := QF.tr s3 QW.s11
  have a4 := H.q s4
  generalize g4 : hset h4 11 4 (if xv h (qn h q) 4 = 0 then 0 else 1) = h5 at *
  have o5 : OB h5 (qn h q) 5 := s4.ob o
  have ev5 : ∀ j, xv h5 (qn h q) j = xv h (qn h q) j := fun j => by rw [← g4, hset_vn n11, ev4]
  rw [obk a4.x10, obk o5, a4.a0, aik (t := 1) a4.x11 (by decide) (by rw [a4.l11]; decide), nm_eq, ev5 0]
  refine ⟨_, rfl, QF.tr s4 QW.s11, fun i i0 i1 => ?_⟩
  unfold qn
  rw [q0]
  unfold qn at g1 g2 g4
  rw [q1] at g1
  rw [q2] at g2
  rw [q4] at g4
  have hh : ∀ i, xv (hset h5 11 6 q) 11 i = if i = 6 then q else if i = 4 then (if K (5 * q + 3) = 0 then 0 else 1) else if i = 2 then l else if i = 1 then K (5 * q + 1) else if i = 0 then K (5 * q) else xv h1' 11 i := fun i => by
    by_cases e6 : i = 6
    · rw [e6, hset_vv]; rfl
    rw [hset_vj e6, if_neg e6, ← g4]
    by_cases e4 : i = 4
    · rw [e4, hset_vv]; rfl
    rw [hset_vj e4, if_neg e4, ← g3]
    by_cases e2 : i = 2
    · rw [e2, hset_vv]; rfl
    rw [hset_vj e2, if_neg e2, ← g2]
    by_cases e1 : i = 1
    · rw [e1, hset_vv]; rfl
    rw [hset_vj e1, if_neg e1, ← g1]
    by_cases e0 : i = 0
    · rw [e0, hset_vv]; rfl
    rw [hset_vj e0, if_neg e0]
  rw [hh]
  unfold askS
  have e4 : (if K (5 * q + 3) = 0 then (0 : Int) else 1) = K (5 * q + 3) := by split <;> omega
  rw [e4]
  have hz := z i i0 i1
  by_cases c0 : i = 0
  · subst c0; rfl
  by_cases c1 : i = 1
  · subst c1; rfl
  by_cases c2 : i = 2
  · subst c2; rfl
  by_cases c3 : i = 3
  · subst c3; exact hz
  by_cases c4 : i = 4
  · subst c4; rfl
  by_cases c5 : i = 5
  · subst c5; exact hz
  by_cases c6 : i = 6
  · subst c6; rfl
  omega
theorem askS_b (KK : KI K) {q l hp day : Int} (h0 : 0 ≤ q) (h1 : q < K 390) (l0 : b9 l) (p0 : b9 hp) (d0 : b9 day) (i : Int) : b9 (askS K q l hp day i) := by
  have k1 := KK.2.1 q h0 h1
  have hk := KK.1.1
  unfold askS
  unfold b9 at *
  split
  · omega
  split
  · omega
  split
  · omega
  split
  · omega
  split
  · omega
  split
  · omega
  split <;> omega
theorem F_takes2_eq (Q : QI g P h K) {q l hp day : Int} (h0 : 0 ≤ q) (h1 : q < K 390) (hl : l ≠ 3) (l0 : b9 l) (p0 : b9 hp) (d0 : b9 day) : ∃ h', F_X0_takes_2 1 (qn h q) l hp day h = some (takesS K (curP K P) q l hp day, h') ∧ Fr (QW h) 0 0 h h' := by
  obtain ⟨h1', e1, f, z⟩ := F_ask_eq Q h0 h1 (l := l)
  have H := Q.1
  have Q1 := Q.fr f
  have H1 := Q1.1
  have s1 : Fr (QW h) 0 0 h (hset h1' 11 3 hp) := QF.tr f QW.s11
  have a1 := H.q s1
  have s2 : Fr (QW h) 0 0 h (hset (hset h1' 11 3 hp) 11 5 day) := QF.tr s1 QW.s11
  have Q2 := Q.fr s2
  have hA : AB (askS K q l hp day) (xv (hset (hset h1' 11 3 hp) 11 5 day) 11) := fun i i0 i1 => by
    refine ⟨?_, askS_b Q.2.2.2 h0 h1 l0 p0 d0 i⟩
    by_cases c5 : i = 5
    · rw [c5, hset_vv]; rfl
    rw [hset_vj c5]
    by_cases c3 : i = 3
    · rw [c3, hset_vv]; rfl
    rw [hset_vj c3, z i i0 i1]
    unfold askS
    rw [if_neg c3, if_neg c3, if_neg c5, if_neg c5]
  obtain ⟨t, e3, T⟩ := F_inUse_eq Q2
  obtain ⟨h5, e4, f4⟩ := F_tells_eq (head := 0) (wo := 4) (lo := 1) (hi := 20) Q2.1 hA T (by decide) (by decide) (by decide)
  refine ⟨h5, ?_, QF.tr s2 f4⟩
  have e10 : xv h 1 2 = 10 := H.f2
  unfold F_X0_takes_2
  rw [if_neg hl, obk H.x1, obk (show OB h (qn h q) 5 from (Q.2.2.1.q q h0 h1).1), e10, e1, mb_some, obk H1.x10, H1.a0, aik (t := 1) H1.x11 (by decide) (by rw [H1.l11]; decide), nm_eq, obk a1.x10, a1.a0, aik (t := 1) a1.x11 (by decide) (by rw [a1.l11]; decide), nm_eq, obk Q2.1.x1, e3, mb_some, obk T.1, e4, mb_some]
  rfl
theorem F_keepsOf_eq (Q : QI g P h K) {q l : Int} (h0 : 0 ≤ q) (h1 : q < K 390) (l0 : b9 l) : ∃ h', F_X0_keepsOf 1 (qn h q) l h = some (keepsS K (curP K P) q l, h') ∧ Fr (QW h) 0 0 h h' := by
  obtain ⟨h1', e1, f, z⟩ := F_ask_eq Q h0 h1 (l := l)
  have H := Q.1
  have Q1 := Q.fr f
  have hA : AB (askS K q l 0 0) (xv h1' 11) := fun i i0 i1 => ⟨z i i0 i1, askS_b Q.2.2.2 h0 h1 l0 ⟨by decide, by decide⟩ ⟨by decide, by decide⟩ i⟩
  obtain ⟨t, e3, T⟩ := F_inUse_eq Q
  have T1 := T.tf (QW.tf H f)
  obtain ⟨h5, e4, f4⟩ := F_tells_eq (head := 1) (wo := 10) (lo := 1) (hi := 30) Q1.1 hA T1 (by decide) (by decide) (by decide)
  refine ⟨h5, ?_, QF.tr f f4⟩
  unfold F_X0_keepsOf
  rw [obk H.x1, e3, mb_some, obk H.x1, obk (show OB h (qn h q) 5 from (Q.2.2.1.q q h0 h1).1), H.f2, e1, mb_some, obk T1.1, e4, mb_some]
  rfl
theorem F_chance_eq (Q : QI g P h K) {l : Int} (h0 : 0 ≤ l) (h1 : l ≤ 2) : ∃ h', F_X0_chance 1 l h = some (chS (curP K P) l, h') ∧ Fr (QW h) 0 0 h h' := by
  have H := Q.1
  obtain ⟨h1', e1, f, z⟩ := F_clear_eq H
  have H1 := H.q f
  have s1 : Fr (QW h) 0 0 h (hset h1' 11 2 l) := QF.tr f QW.s11
  have Q1 := Q.fr s1
  have hA : AB (chA l) (xv (hset h1' 11 2 l) 11) := fun i i0 i1 => by
    unfold chA
    by_cases c2 : i = 2
    · rw [c2, hset_vv]; exact ⟨rfl, by unfold b9; rw [if_pos rfl]; omega⟩
    · rw [hset_vj c2, z i i0 i1, if_neg c2]; exact ⟨rfl, by unfold b9; omega⟩
  obtain ⟨t, e3, T⟩ := F_inUse_eq Q1
  obtain ⟨h5, e4, f4⟩ := F_tells_eq (head := 2) (wo := 50 * l) (lo := 0) (hi := 100) Q1.1 hA T (by decide) (by decide) (by decide)
  refine ⟨h5, ?_, QF.tr s1 f4⟩
  unfold F_X0_chance
  rw [F_in_t h0 h1, mb_some, if_neg (by decide), obk H.x1, H.f2, obk H.x10, e1, mb_some, obk H1.x1, H1.f2, obk H1.x10, H1.a0, aik (t := 1) H1.x11 (by decide) (by rw [H1.l11]; decide), nm_eq, obk Q1.1.x1, e3, mb_some, obk Q1.1.x1, obk T.1, Q1.1.f2, w32_id (by omega) (by omega), e4, mb_some]
  rfl
end
