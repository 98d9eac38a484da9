/-! plain law: what the relation gives, in the form of the functions; keeping it -/
set_option maxRecDepth 100000
section
variable {g : Int → Int} {P : Nat → CLS} {n : Nat} {h : XH} {V : VV}
theorem SH.x1 (H : SH h) : OB h 1 1 := ⟨by decide, by have := H.1; omega, H.2.1⟩
theorem SH.x9 (H : SH h) : OB h 9 105 := ⟨by decide, by have := H.1; omega, H.2.2.1.1⟩
theorem SH.x10 (H : SH h) : OB h 10 3 := ⟨by decide, by have := H.1; omega, H.2.2.2.1⟩
theorem SH.x11 (H : SH h) : OB h 11 101 := ⟨by decide, by have := H.1; omega, H.2.2.2.2.1.1⟩
theorem SH.x12 (H : SH h) : OB h 12 4 := ⟨by decide, by have := H.1; omega, H.2.2.2.2.2.1⟩
theorem SH.x13 (H : SH h) : OB h 13 104 := ⟨by decide, by have := H.1; omega, H.2.2.2.2.2.2.1.1⟩
theorem SH.x14 (H : SH h) : OB h 14 100 := ⟨by decide, by have := H.1; omega, H.2.2.2.2.2.2.2.1.1⟩
theorem SH.x15 (H : SH h) : OB h 15 100 := ⟨by decide, by have := H.1; omega, H.2.2.2.2.2.2.2.2.1.1⟩
theorem SH.x16 (H : SH h) : OB h 16 102 := ⟨by decide, by have := H.1; omega, H.2.2.2.2.2.2.2.2.2.1.1⟩
theorem SH.l9 (H : SH h) : xl h 9 = 2 := H.2.2.1.2
theorem SH.l11 (H : SH h) : xl h 11 = 7 := H.2.2.2.2.1.2
theorem SH.l13 (H : SH h) : xl h 13 = 0 := H.2.2.2.2.2.2.1.2
theorem SH.l14 (H : SH h) : xl h 14 = 7 := H.2.2.2.2.2.2.2.1.2
theorem SH.l15 (H : SH h) : xl h 15 = 148176 := H.2.2.2.2.2.2.2.2.1.2
theorem SH.l16 (H : SH h) : xl h 16 = 400 := H.2.2.2.2.2.2.2.2.2.1.2
theorem SH.f1 (H : SH h) : xv h 1 1 = 9 := H.2.2.2.2.2.2.2.2.2.2.1.1
theorem SH.f2 (H : SH h) : xv h 1 2 = 10 := H.2.2.2.2.2.2.2.2.2.2.1.2.1
theorem SH.f3 (H : SH h) : xv h 1 3 = 12 := H.2.2.2.2.2.2.2.2.2.2.1.2.2.1
theorem SH.f4 (H : SH h) : xv h 1 4 = 14 := H.2.2.2.2.2.2.2.2.2.2.1.2.2.2.1
theorem SH.f10 (H : SH h) : xv h 1 10 = 15 := H.2.2.2.2.2.2.2.2.2.2.1.2.2.2.2.1
theorem SH.f11 (H : SH h) : xv h 1 11 = 16 := H.2.2.2.2.2.2.2.2.2.2.1.2.2.2.2.2
theorem SH.a0 (H : SH h) : xv h 10 0 = 11 := H.2.2.2.2.2.2.2.2.2.2.2.1
theorem SH.n0 (H : SH h) : xv h 12 0 = 13 := H.2.2.2.2.2.2.2.2.2.2.2.2
theorem SH.fr {W : Int → Int → Prop} {c s : Nat} {h' : XH} (H : SH h) (f : Fr W c s h h') (hW : ∀ j, (j = 1 ∨ j = 2 ∨ j = 3 ∨ j = 4 ∨ j = 10 ∨ j = 11) → ¬ W 1 j) (h10 : ¬ W 10 0) (h12 : ¬ W 12 0) : SH h' := by
  have hn := H.1
  have hm := f.n
  refine ⟨by omega, ?_, ⟨?_, ?_⟩, ?_, ⟨?_, ?_⟩, ?_, ⟨?_, ?_⟩, ⟨?_, ?_⟩, ⟨?_, ?_⟩, ⟨?_, ?_⟩, ⟨?_, ?_, ?_, ?_, ?_, ?_⟩, ?_, ?_⟩
  · rw [f.k (by omega)]; exact H.x1.2.2
  · rw [f.k (by omega)]; exact H.x9.2.2
  · rw [f.l (by omega)]; exact H.l9
  · rw [f.k (by omega)]; exact H.x10.2.2
  · rw [f.k (by omega)]; exact H.x11.2.2
  · rw [f.l (by omega)]; exact H.l11
  · rw [f.k (by omega)]; exact H.x12.2.2
  · rw [f.k (by omega)]; exact H.x13.2.2
  · rw [f.l (by omega)]; exact H.l13
  · rw [f.k (by omega)]; exact H.x14.2.2
  · rw [f.l (by omega)]; exact H.l14
  · rw [f.k (by omega)]; exact H.x15.2.2
  · rw [f.l (by omega)]; exact H.l15
  · rw [f.k (by omega)]; exact H.x16.2.2
  · rw [f.l (by omega)]; exact H.l16
  · rw [f.v (by omega) (hW _ (by decide))]; exact H.f1
  · rw [f.v (by omega) (hW _ (by decide))]; exact H.f2
  · rw [f.v (by omega) (hW _ (by decide))]; exact H.f3
  · rw [f.v (by omega) (hW _ (by decide))]; exact H.f4
  · rw [f.v (by omega) (hW _ (by decide))]; exact H.f10
  · rw [f.v (by omega) (hW _ (by decide))]; exact H.f11
  · rw [f.v (by omega) h10]; exact H.a0
  · rw [f.v (by omega) h12]; exact H.n0
theorem RelG.sh (R : RelG g P n h V) : SH h := R.1
theorem RelG.gw (R : RelG g P n h V) : GW g h := R.2.1
theorem RelG.er (R : RelG g P n h V) : ER g 1 h (xv h 1 0) (V 3) P := R.2.2.1
theorem RelG.ki (R : RelG g P n h V) : KI (V 3) := R.2.2.2.1
theorem RelG.pr (R : RelG g P n h V) : PR (V 3) P := R.2.2.2.2.1
theorem RelG.im (R : RelG g P n h V) : IM g h V 0 ∧ IM g h V 1 := R.2.2.2.2.2.1
theorem RelG.sc (R : RelG g P n h V) : SC h V := R.2.2.2.2.2.2.1
theorem RelG.tb (R : RelG g P n h V) : TB h V := R.2.2.2.2.2.2.2.1
theorem RelG.mw (R : RelG g P n h V) : MW V := R.2.2.2.2.2.2.2.2.1
theorem RelG.ca (R : RelG g P n h V) : CA h V (curP (V 3) P) := R.2.2.2.2.2.2.2.2.2.1
theorem RelG.vr (R : RelG g P n h V) : 0 ≤ V 1 0 ∧ V 1 0 ≤ n := R.2.2.2.2.2.2.2.2.2.2.1
theorem RelG.rm (R : RelG g P n h V) : xc h ≤ 200 + 18000 * n ∧ xs h ≤ 149000 + 80000 * n := R.2.2.2.2.2.2.2.2.2.2.2
theorem Rel.ob (R : Rel n h V) : 1 ≤ xn h ∧ xk h 1 = 1 := by
  obtain ⟨g, P, R⟩ := R
  exact ⟨by have := R.sh.1; omega, R.sh.x1.2.2⟩
theorem KI.nn (H : KI (V 3)) : 0 ≤ V 3 390 ∧ V 3 390 ≤ 20 := H.1.1
end
/-! lists -/
section
variable {g : Int → Int} {t : Int} {h : XH} {l n : Int}
theorem F_size_eq (L : LR g t h l n) : F_J2_size l h = some (n, h) := by
  unfold F_J2_size
  rw [obk L.1, L.2.2.1]
theorem F_get_eq (L : LR g t h l n) {k : Int} (h0 : 0 ≤ k) (h1 : k < n) : F_J2_get l k h = some (nth h l k, h) := by
  obtain ⟨o, -, e, -, q⟩ := L
  rcases q with ⟨-, q⟩ | ⟨o2, -, q⟩
  · omega
  · unfold F_J2_get
    rw [obk o, e]
    have e1 : F_J6_checkIndex k n h = some (k, h) := by
      unfold F_J6_checkIndex F_J7_checkIndex
      rw [if_neg (by omega), if_pos h1, mb_some]
    rw [e1, mb_some, obk o]
    unfold F_J2_elementData
    rw [obk o, aik (t := 9) o2 h0 (by omega), mb_some]
    rfl
theorem F_in_t {a b c : Int} (h1 : b ≤ a) (h2 : a ≤ c) : F_X0_in a b c h = some (1, h) := by
  unfold F_X0_in nm; rw [if_neg (by omega), if_neg (by omega)]; rfl
theorem F_in_f {a b c : Int} (q : a < b ∨ c < a) : F_X0_in a b c h = some (0, h) := by
  unfold F_X0_in nm
  by_cases h1 : a < b
  · rw [if_pos h1]; rfl
  · rw [if_neg h1, if_pos (by omega)]; rfl
end
section
variable {g : Int → Int} {P : Nat → CLS} {K : Int → Int} {h : XH}
theorem ER.o {s e : Int} (E : ER g s h e K P) : OB h e 2 := E.1
theorem ER.lq {s e : Int} (E : ER g s h e K P) : LR g (1000 * s + 1) h (xv h e 0) (K 390) := E.2.2.1
theorem ER.lp {s e : Int} (E : ER g s h e K P) : LR g (1000 * s + 2) h (xv h e 1) (K 393) := E.2.2.2.1
theorem ER.ld {s e : Int} (E : ER g s h e K P) : LR g (1000 * s + 3) h (xv h e 2) (K 391) := E.2.2.2.2.1
theorem ER.te {s e : Int} (E : ER g s h e K P) : IR g (1000 * s + 4) h (xv h e 3) 7 (fun k => K (100 + k)) 7 := E.2.2.2.2.2.1
theorem ER.fd {s e : Int} (E : ER g s h e K P) : IR g (1000 * s + 5) h (xv h e 4) 3 (fun k => K (347 + k)) 3 := E.2.2.2.2.2.2.1
theorem ER.ye {s e : Int} (E : ER g s h e K P) : IR g (1000 * s + 6) h (xv h e 5) 40 (fun k => K (350 + k)) (K 392) := E.2.2.2.2.2.2.2.1
theorem ER.yd {s e : Int} (E : ER g s h e K P) : xv h e 6 = K 392 := E.2.2.2.2.2.2.2.2.1
theorem ER.us {s e : Int} (E : ER g s h e K P) : xv h e 7 = K 394 := E.2.2.2.2.2.2.2.2.2.1
theorem ER.q {s e : Int} (E : ER g s h e K P) : ∀ k : Int, 0 ≤ k → k < K 390 → QR g (1000 * s + 100 + k) h (nth h (xv h e 0) k) k K := E.2.2.2.2.2.2.2.2.2.2.1
theorem ER.d {s e : Int} (E : ER g s h e K P) : ∀ k : Int, 0 ≤ k → k < K 391 → OB h (nth h (xv h e 2) k) 19 ∧ xv h (nth h (xv h e 2) k) 0 = K (107 + 2 * k) ∧ xv h (nth h (xv h e 2) k) 1 = K (107 + 2 * k + 1) := E.2.2.2.2.2.2.2.2.2.2.2.1
theorem ER.p {s e : Int} (E : ER g s h e K P) : ∀ t : Nat, (t : Int) < K 393 → TR h (nth h (xv h e 1) t) (P t) := E.2.2.2.2.2.2.2.2.2.2.2.2
/-- the k-th question as things are -/
def qn (h : XH) (k : Int) : Int := nth h (xv h (xv h 1 0) 0) k
theorem F_many_eq (H : SH h) (E : ER g 1 h (xv h 1 0) K P) : F_X0_many 1 h = some (K 390, h) := by
  unfold F_X0_many
  rw [obk H.x1, obk E.o, obk E.lq.1, F_size_eq E.lq, mb_some]
theorem F_qof_t (H : SH h) (E : ER g 1 h (xv h 1 0) K P) (hK : 0 ≤ K 390 ∧ K 390 ≤ 20) {q : Int} (h0 : 0 ≤ q) (h1 : q < K 390) : F_X0_questionOf 1 q h = some (qn h q, h) := by
  unfold F_X0_questionOf
  rw [obk H.x1, F_many_eq H E, mb_some, w32_id (by omega) (by omega), F_in_t h0 (by omega), mb_some, if_neg (by decide), obk H.x1, obk E.o, obk E.lq.1, F_get_eq E.lq h0 h1, mb_some, obk (E.q q h0 h1).1]
  rfl
theorem F_qof_f (H : SH h) (E : ER g 1 h (xv h 1 0) K P) (hK : 0 ≤ K 390 ∧ K 390 ≤ 20) {q : Int} (h1 : q < 0 ∨ K 390 ≤ q) : F_X0_questionOf 1 q h = some (0, h) := by
  unfold F_X0_questionOf
  rw [obk H.x1, F_many_eq H E, mb_some, w32_id (by omega) (by omega), F_in_f (by omega), mb_some, if_pos rfl]
theorem qn_ne (E : ER g 1 h (xv h 1 0) K P) {q : Int} (h0 : 0 ≤ q) (h1 : q < K 390) : qn h q ≠ 0 := by
  have := (E.q q h0 h1).1.1
  unfold qn; omega
/-- the two ways of an answer that says no or that nothing was refused -/
def hTell (h : XH) (v : Int) : XH := if 0 ≤ v then hset h 1 5 0 else hset (hset h 1 5 v) 14 (-v) (w32 (xv h 14 (-v) + 1))
theorem F_tell_p (H : SH h) {v : Int} (h0 : 0 ≤ v) : F_X0_tell 1 v h = some (v, hset h 1 5 0) := by
  unfold F_X0_tell
  have e : (if (0 : Int) < v then (0 : Int) else v) = 0 := by split <;> omega
  rw [nm_eq, e, obk H.x1, nm_eq, if_pos h0]
theorem F_tell_m (H : SH h) {v : Int} (h0 : v < 0) (h1 : -7 < v) : F_X0_tell 1 v h = some (v, hset (hset h 1 5 v) 14 (-v) (w32 (xv h 14 (-v) + 1))) := by
  unfold F_X0_tell
  have e : (if (0 : Int) < v then (0 : Int) else v) = v := if_neg (by omega)
  have e1 : xv (hset h 1 5 v) 1 4 = 14 := (hset_vj (by decide)).trans H.f4
  rw [nm_eq, e, obk H.x1, nm_eq, if_neg (by omega), obk (h := hset h 1 5 v) H.x1, e1, w32_id (by omega) (by omega), aik (t := 0) (h := hset h 1 5 v) H.x14 (by omega) (by show -v < (xl h 14 : Int); rw [H.l14]; omega), aik (t := 0) (h := hset h 1 5 v) H.x14 (by omega) (by show -v < (xl h 14 : Int); rw [H.l14]; omega), nm_eq, hset_vn (by decide)]
theorem F_was_eq (H : SH h) {v : Int} : F_X0_was 1 v h = some (v, hset (hset h 1 9 0) 1 5 0) := by
  unfold F_X0_was
  rw [obk H.x1, nm_eq, obk (h := hset h 1 9 0) H.x1, nm_eq]
end
/-! keeping the relation -/
theorem GW.fr {g : Int → Int} {W : Int → Int → Prop} {c s : Nat} {h h' : XH} (G : GW g h) (f : Fr W c s h h') : GW g h' := by
  obtain ⟨a, b, d⟩ := G
  refine ⟨a, fun x h1 h2 h3 => ?_, fun x hx => d x (by have := f.n; omega)⟩
  by_cases hx : x ≤ (xn h : Int)
  · exact b x h1 hx (by rw [← f.k hx]; exact h3)
  · exact d x (by omega)
/-- what never touches an exam nor a tree -/
def OK (g : Int → Int) (h : XH) (W : Int → Int → Prop) : Prop := ∀ a j : Int, 1 ≤ a → a ≤ (xn h : Int) → W a j → g a = 0 ∧ tkd (xk h a) = false ∧ (xk h a = 14 → j = 3)
theorem OK.tf {g : Int → Int} {W : Int → Int → Prop} {c s : Nat} {h h' : XH} (o : OK g h W) (f : Fr W c s h h') : TF h h' := f.tf fun a j h1 h2 q => (o a j h1 h2 q).2
theorem OK.ef {g : Int → Int} {W : Int → Int → Prop} {c s : Nat} {h h' : XH} (o : OK g h W) (f : Fr W c s h h') {i : Int} (hi : 1 ≤ i) : EF g i h h' := fun a j h1 h2 h3 h4 => f.v h2 fun q => by have := (o a j h1 h2 q).1; omega
theorem ER.fr {g : Int → Int} {W : Int → Int → Prop} {c s : Nat} {h h' : XH} {i e : Int} {K : Int → Int} {P : Nat → CLS} (E : ER g i h e K P) (hn : K 390 ≤ 20) (hi : 1 ≤ i) (o : OK g h W) (f : Fr W c s h h') : ER g i h' e K P := E.st (o.tf f) (o.ef f hi) hn
theorem IM.fr {g : Int → Int} {W : Int → Int → Prop} {c s : Nat} {h h' : XH} {V V' : VV} {i : Int} (I : IM g h V i) (hi : 0 ≤ i) (o : OK g h W) (f : Fr W c s h h') (e9 : xv h' 9 i = xv h 9 i) (e4 : V' 4 = V 4) (e5 : V' 5 = V 5) : IM g h' V' i := by
  have ek : Kim V' i = Kim V i := by unfold Kim; rw [e4]
  unfold IM
  rw [ek, e5, e9]
  rcases I with I | ⟨I1, P, I2, I3, I4⟩
  · exact Or.inl I
  · exact Or.inr ⟨I1, P, I2.fr I3.1.1.2 (by omega) o f, I3, I4⟩
theorem QW.ok {g : Int → Int} {h : XH} (H : SH h) (G : GW g h) : OK g h (QW h) := fun a j h1 h2 q => by
  rcases q with rfl | ⟨rfl, -⟩ | ⟨-, q, q2⟩
  · exact ⟨G.1.2.2.2.1, by rw [H.x11.2.2]; rfl, fun e => by rw [H.x11.2.2] at e; cases e⟩
  · exact ⟨G.1.2.2.1, by rw [H.x10.2.2]; rfl, fun e => by rw [H.x10.2.2] at e; cases e⟩
  · exact ⟨G.2.1 a h1 h2 q, by rw [q]; rfl, fun _ => q2⟩
theorem QW.n1 {h : XH} (H : SH h) (j : Int) : ¬ QW h 1 j := fun q => by
  rcases q with q | ⟨q, -⟩ | ⟨-, q, -⟩
  · omega
  · omega
  · rw [H.x1.2.2] at q; cases q
theorem QW.nk {h : XH} {a j : Int} {k : Nat} (o : OB h a k) (h11 : k ≠ 101 ∨ a ≠ 11) (h10 : k ≠ 3 ∨ j ≠ 1) (h14 : k ≠ 14 ∨ j ≠ 3) (H : SH h) : ¬ QW h a j := fun q => by
  have e := o.2.2
  rcases q with rfl | ⟨rfl, q⟩ | ⟨-, q, q2⟩
  · rw [H.x11.2.2] at e; omega
  · rw [H.x10.2.2] at e; omega
  · omega
theorem MS.mf {V V' : VV} {K : Int → Int} {cl : CLS} (M : MS V K cl) (e1 : V' 31 = V 31) (e2 : V' 32 = V 32) (e3 : V' 33 = V 33) (e4 : V' 34 = V 34) : MS V' K cl := by
  unfold MS; rw [e1, e2, e3, e4]; exact M
theorem MH.mf {V V' : VV} {K : Int → Int} {cl : CLS} (M : MH V K cl) (e1 : V' 57 = V 57) (e2 : V' 54 = V 54) : MH V' K cl := by
  unfold MH; rw [e1, e2]; exact M
theorem nth_fr {g : Int → Int} {W : Int → Int → Prop} {c s : Nat} {h h' : XH} {t l n : Int} (L : LR g t h l n) (f : Fr W c s h h') (h1 : ∀ j, ¬ W l j) (h2 : ∀ j, OB h (xv h l 1) 109 → ¬ W (xv h l 1) j) {k : Int} (hn : 1 ≤ n) : nth h' l k = nth h l k := by
  obtain ⟨o, -, -, -, q⟩ := L
  unfold nth
  rw [f.v o.2.1 (h1 1)]
  rcases q with q | ⟨o2, -⟩
  · omega
  · exact f.v o2.2.1 (h2 k o2)
theorem FS.fr {g : Int → Int} {W : Int → Int → Prop} {c s : Nat} {h h' : XH} {z : Int} {K : Int → Int} {P : Nat → CLS} {cl : CLS} (F : FS h z K cl) (E : ER g 1 h (xv h 1 0) K P) (H : SH h) (f : Fr W c s h h') (hW : ∀ a j, W a j → ¬ (a = 1 ∧ j = 0) ∧ a ≠ 15 ∧ (xk h a = 2 → j ≠ 0) ∧ xk h a ≠ 26 ∧ xk h a ≠ 109 ∧ xk h a ≠ 18 ∧ xk h a ≠ 107 ∧ (xk h a = 101 → a ≤ 16)) : FS h' z K cl := by
  obtain ⟨o, o1, l1, r1, o2, l2, g2, t4, t3, p, q⟩ := F
  have ez : ∀ j, xv h' z j = xv h z j := fun j => f.v o.2.1 fun w => (hW z j w).2.2.2.2.2.1 o.2.2
  have e10 : xv h' 1 0 = xv h 1 0 := f.v (by have := H.1; omega) fun w => (hW 1 0 w).1 ⟨rfl, rfl⟩
  have ee : xv h' (xv h 1 0) 0 = xv h (xv h 1 0) 0 := f.v E.o.2.1 fun w => (hW _ 0 w).2.2.1 E.o.2.2 rfl
  have er : ∀ j, xv h' (xv h z 0) j = xv h (xv h z 0) j := fun j => f.v o1.2.1 fun w => (hW _ j w).2.2.2.2.2.2.1 o1.2.2
  have ep : ∀ j, xv h' (xv h z 1) j = xv h (xv h z 1) j := fun j => f.v o2.2.1 fun w => by have := (hW _ j w).2.2.2.2.2.2.2 o2.2.2; omega
  have e15 : ∀ j, xv h' 15 j = xv h 15 j := fun j => f.v (by have := H.1; omega) fun w => (hW 15 j w).2.1 rfl
  refine ⟨f.ob o, by rw [ez]; exact f.ob o1, by rw [ez, f.l o1.2.1]; exact l1, fun i i0 i1 => ?_, by rw [ez]; exact f.ob o2, by rw [ez, f.l o2.2.1]; exact l2, by rw [ez]; exact g2, by rw [ez]; exact t4, by rw [ez]; exact t3, fun a b h1 h2 h3 => by rw [ez, ep]; exact p a b h1 h2 h3, fun q' a b mask h1 h2 h3 h4 h5 h6 h7 => by rw [e15]; exact q q' a b mask h1 h2 h3 h4 h5 h6 h7⟩
  rw [ez, er, e10, ee, r1 i i0 i1]
  have hn := bowlN_le (K := K) E.lq.2.2.2.1
  exact (nth_fr E.lq f (fun j w => (hW _ j w).2.2.2.1 E.lq.1.2.2) (fun j o9 w => (hW _ j w).2.2.2.2.1 o9.2.2) (by omega)).symm
/-- the model's fields that queries may change -/
def QS : List Nat := [8, 11, 12, 13, 14, 15, 16, 17, 18, 19, 20, 21, 22, 23, 24, 25, 26, 27, 28, 29, 30, 36, 37, 38, 39, 40, 41, 42, 43, 44, 45, 46, 47, 48, 49, 50, 51, 52, 53, 55, 56, 60, 61, 62, 63, 67, 68, 69]
theorem RelG.query {g : Int → Int} {P : Nat → CLS} {n : Nat} {h h' : XH} {V V' : VV} {c s : Nat} (R : RelG g P n h V) (f : Fr (QW h) c s h h') (m : MF QS V V') (hc : c ≤ 18000) (hs : s ≤ 80000) : RelG g P (n + 1) h' V' := by
  have H := R.sh
  have G := R.gw
  have o := QW.ok H G
  have e3 : V' 3 = V 3 := m 3 (by decide)
  have e1 : ∀ j, xv h' 1 j = xv h 1 j := fun j => f.v (by have := H.1; omega) (QW.n1 H j)
  have e9 : ∀ j, xv h' 9 j = xv h 9 j := fun j => f.v (by have := H.1; omega) (QW.nk H.x9 (Or.inl (by decide)) (Or.inl (by decide)) (Or.inl (by decide)) H)
  have e14 : ∀ j, xv h' 14 j = xv h 14 j := fun j => f.v (by have := H.1; omega) (QW.nk H.x14 (Or.inl (by decide)) (Or.inl (by decide)) (Or.inl (by decide)) H)
  have e16 : ∀ j, xv h' 16 j = xv h 16 j := fun j => f.v (by have := H.1; omega) (QW.nk H.x16 (Or.inl (by decide)) (Or.inl (by decide)) (Or.inl (by decide)) H)
  refine ⟨H.fr f (fun j _ => QW.n1 H j) (QW.nk H.x10 (Or.inl (by decide)) (Or.inr (by decide)) (Or.inl (by decide)) H) (QW.nk H.x12 (Or.inl (by decide)) (Or.inl (by decide)) (Or.inl (by decide)) H), G.fr f, ?_, ?_, ?_, ⟨?_, ?_⟩, ?_, ?_, ?_, ?_, ?_, ?_⟩
  · rw [e1, e3]; exact R.er.fr R.ki.1.1.2 (by decide) o f
  · rw [e3]; exact R.ki
  · rw [e3]; exact R.pr
  · exact R.im.1.fr (by decide) o f (e9 0) (m 4 (by decide)) (m 5 (by decide))
  · exact R.im.2.fr (by decide) o f (e9 1) (m 4 (by decide)) (m 5 (by decide))
  · obtain ⟨s1, s2, s3, s4, s5, s6, s7⟩ := R.sc
    unfold SC
    rw [m 0 (by decide), m 2 (by decide), m 10 (by decide), m 59 (by decide), m 9 (by decide), m 7 (by decide), e1, e1, e1, e1]
    exact ⟨s1, fun k a b => by rw [e14]; exact s2 k a b, s3, s4, s5, s6, fun k a b => by rw [e16]; exact s7 k a b⟩
  · have T := R.tb
    unfold TB at *
    rw [m 64 (by decide), m 65 (by decide), m 66 (by decide), e1]
    rcases T with T | ⟨t1, t2, t3, t4, t5⟩
    · exact Or.inl T
    · have et : ∀ j, xv h' (xv h 1 8) j = xv h (xv h 1 8) j := fun j => f.v t1.2.1 (QW.nk t1 (Or.inl (by decide)) (Or.inl (by decide)) (Or.inl (by decide)) H)
      exact Or.inr ⟨f.ob t1, t2, by rw [et]; exact t3, by rw [et]; exact t4, by rw [et]; exact t5⟩
  · unfold MW; rw [m 6 (by decide)]; exact R.mw
  · obtain ⟨c1, c2, c3, c4, c5⟩ := R.ca
    unfold CA
    rw [m 35 (by decide), m 1 (by decide), m 58 (by decide), e1, e3]
    refine ⟨c1, fun q => (c2 q).mf (m 31 (by decide)) (m 32 (by decide)) (m 33 (by decide)) (m 34 (by decide)), c3, fun q => (c4 q).mf (m 57 (by decide)) (m 54 (by decide)), ?_⟩
    rcases c5 with c5 | c5
    · exact Or.inl c5
    · refine Or.inr (c5.fr R.er H f fun a j w => ?_)
      rcases w with rfl | ⟨rfl, rfl⟩ | ⟨-, w, w2⟩
      · rw [H.x11.2.2]; exact ⟨by omega, by decide, (fun e => absurd e (by decide)), by decide, by decide, by decide, by decide, fun _ => by decide⟩
      · rw [H.x10.2.2]; exact ⟨by omega, by decide, (fun e => absurd e (by decide)), by decide, by decide, by decide, by decide, fun e => absurd e (by decide)⟩
      · have n1 : a ≠ 1 := fun e => by rw [e, H.x1.2.2] at w; exact absurd w (by decide)
        have n15 : a ≠ 15 := fun e => by rw [e, H.x15.2.2] at w; exact absurd w (by decide)
        rw [w]; exact ⟨fun e => n1 e.1, n15, (fun e => absurd e (by decide)), by decide, by decide, by decide, by decide, fun e => absurd e (by decide)⟩
  · rw [m 1 (by decide)]; have := R.vr; omega
  · have := R.rm; have := f.1.2; constructor <;> omega
