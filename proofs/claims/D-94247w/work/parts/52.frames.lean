/-! plain law: frames of the system's heap -/
set_option maxRecDepth 100000
/-- old names keep kinds, lengths and values but at W; so many cells and slots at most are new -/
def Fr (W : Int → Int → Prop) (c s : Nat) (h h' : XH) : Prop := (xn h ≤ xn h' ∧ xc h' ≤ xc h + c ∧ xs h' ≤ xs h + s) ∧ (∀ a : Int, a ≤ (xn h : Int) → xk h' a = xk h a ∧ xl h' a = xl h a) ∧ ∀ a j : Int, a ≤ (xn h : Int) → ¬ W a j → xv h' a j = xv h a j
theorem Fr.rf {W : Int → Int → Prop} {h : XH} : Fr W 0 0 h h := ⟨⟨Nat.le_refl _, Nat.le_refl _, Nat.le_refl _⟩, fun _ _ => ⟨rfl, rfl⟩, fun _ _ _ _ => rfl⟩
theorem Fr.n {W : Int → Int → Prop} {c s : Nat} {h h' : XH} (f : Fr W c s h h') : xn h ≤ xn h' := f.1.1
theorem Fr.k {W : Int → Int → Prop} {c s : Nat} {h h' : XH} (f : Fr W c s h h') {a : Int} (ha : a ≤ (xn h : Int)) : xk h' a = xk h a := (f.2.1 a ha).1
theorem Fr.l {W : Int → Int → Prop} {c s : Nat} {h h' : XH} (f : Fr W c s h h') {a : Int} (ha : a ≤ (xn h : Int)) : xl h' a = xl h a := (f.2.1 a ha).2
theorem Fr.v {W : Int → Int → Prop} {c s : Nat} {h h' : XH} (f : Fr W c s h h') {a j : Int} (ha : a ≤ (xn h : Int)) (hW : ¬ W a j) : xv h' a j = xv h a j := f.2.2 a j ha hW
theorem Fr.ob {W : Int → Int → Prop} {c s : Nat} {h h' : XH} (f : Fr W c s h h') {a : Int} {k : Nat} (H : OB h a k) : OB h' a k := ⟨H.1, by have := f.n; have := H.2.1; omega, (f.k H.2.1).trans H.2.2⟩
theorem Fr.tr {W W' : Int → Int → Prop} {c s c' s' : Nat} {h h1 h2 : XH} (f : Fr W c s h h1) (g : Fr W' c' s' h1 h2) (hW : ∀ a j : Int, a ≤ (xn h : Int) → W' a j → W a j) : Fr W (c + c') (s + s') h h2 := by
  obtain ⟨⟨a1, a2, a3⟩, b, d⟩ := f
  obtain ⟨⟨e1, e2, e3⟩, f1, g1⟩ := g
  refine ⟨⟨by omega, by omega, by omega⟩, fun a ha => ?_, fun a j ha hn => ?_⟩
  · have h1 := b a ha; have h2 := f1 a (by omega)
    exact ⟨h2.1.trans h1.1, h2.2.trans h1.2⟩
  · exact (g1 a j (by omega) (fun q => hn (hW a j ha q))).trans (d a j ha hn)
theorem Fr.up {W W' : Int → Int → Prop} {c s c' s' : Nat} {h h' : XH} (f : Fr W c s h h') (hW : ∀ a j : Int, a ≤ (xn h : Int) → W a j → W' a j) (hc : c ≤ c') (hs : s ≤ s') : Fr W' c' s' h h' := by
  obtain ⟨⟨a1, a2, a3⟩, b, d⟩ := f
  exact ⟨⟨a1, by omega, by omega⟩, b, fun a j ha hn => d a j ha (fun q => hn (hW a j ha q))⟩
theorem Fr.set {W : Int → Int → Prop} {h : XH} {a j x : Int} (hW : a ≤ (xn h : Int) → W a j) : Fr W 0 0 h (hset h a j x) := ⟨⟨Nat.le_refl _, Nat.le_refl _, Nat.le_refl _⟩, fun _ _ => ⟨rfl, rfl⟩, fun b i hb hn => if_neg (fun q => hn (by rw [q.1, q.2]; exact hW (by rw [← q.1]; exact hb)))⟩
theorem Fr.new {W : Int → Int → Prop} {h : XH} {k n : Nat} : Fr W 1 n h (hnew h k n) := ⟨⟨Nat.le_succ _, Nat.le_refl _, Nat.le_refl _⟩, fun _ ha => ⟨hnew_k ha, hnew_l ha⟩, fun _ _ ha _ => hnew_v ha⟩
/-- what queries may change: the asked numbers, the flag of brokenness, what a clause told -/
def QW (h : XH) : Int → Int → Prop := fun a j => a = 11 ∨ (a = 10 ∧ j = 1) ∨ (1 ≤ a ∧ xk h a = 14 ∧ j = 3)
abbrev QF (c s : Nat) (h h' : XH) : Prop := Fr (QW h) c s h h'
theorem QW.bk {W : Int → Int → Prop} {c s : Nat} {h h1 : XH} (f : Fr W c s h h1) {a j : Int} (ha : a ≤ (xn h : Int)) (q : QW h1 a j) : QW h a j := by
  unfold QW at *
  rw [f.k ha] at q
  exact q
theorem QF.tr {c s c' s' : Nat} {h h1 h2 : XH} (f : QF c s h h1) (g : QF c' s' h1 h2) : QF (c + c') (s + s') h h2 := Fr.tr f g fun _ _ ha q => QW.bk f ha q
/-- what keeps trees and clauses -/
def tkd (k : Nat) : Bool := k == 4 || k == 8 || k == 9 || k == 10 || k == 11 || k == 12 || k == 13 || k == 19 || k == 104 || k == 108
def TF (h h' : XH) : Prop := xn h ≤ xn h' ∧ (∀ a : Int, a ≤ (xn h : Int) → xk h' a = xk h a ∧ xl h' a = xl h a) ∧ ∀ a j : Int, 1 ≤ a → a ≤ (xn h : Int) → (tkd (xk h a) = true ∨ (xk h a = 14 ∧ j ≠ 3)) → xv h' a j = xv h a j
theorem Fr.tf {W : Int → Int → Prop} {c s : Nat} {h h' : XH} (f : Fr W c s h h') (hW : ∀ a j : Int, 1 ≤ a → a ≤ (xn h : Int) → W a j → tkd (xk h a) = false ∧ (xk h a = 14 → j = 3)) : TF h h' := ⟨f.n, f.2.1, fun a j h1 h2 hq => f.v h2 fun q => by
  obtain ⟨e1, e2⟩ := hW a j h1 h2 q
  rcases hq with hq | hq
  · rw [e1] at hq; cases hq
  · exact hq.2 (e2 hq.1)⟩
theorem TF.ob {h h' : XH} (f : TF h h') {a : Int} {k : Nat} (H : OB h a k) : OB h' a k := ⟨H.1, by have := f.1; have := H.2.1; omega, (f.2.1 a H.2.1).1.trans H.2.2⟩
theorem TF.v {h h' : XH} (f : TF h h') {a : Int} {k : Nat} (H : OB h a k) (hk : tkd k = true) (j : Int) : xv h' a j = xv h a j := f.2.2 a j H.1 H.2.1 (Or.inl (by rw [H.2.2]; exact hk))
theorem TF.vc {h h' : XH} (f : TF h h') {a j : Int} (H : OB h a 14) (hj : j ≠ 3) : xv h' a j = xv h a j := f.2.2 a j H.1 H.2.1 (Or.inr ⟨H.2.2, hj⟩)
theorem HS.tf {h h' : XH} (f : TF h h') : ∀ {n : Nat} {a : Int} {d : DS}, HS n h a d → HS n h' a d
  | 0, _, _, q => q
  | n + 1, a, d, q => by
    rcases q with ⟨o, r, e⟩ | ⟨o, r, e⟩ | ⟨o, d1, d2, q1, q2, r, e⟩
    · exact Or.inl ⟨f.ob o, by rw [f.v o rfl]; exact r, by rw [f.v o rfl]; exact e⟩
    · exact Or.inr (Or.inl ⟨f.ob o, by rw [f.v o rfl]; exact r, by rw [f.v o rfl]; exact e⟩)
    · exact Or.inr (Or.inr ⟨f.ob o, d1, d2, by rw [f.v o rfl]; exact HS.tf f q1, by rw [f.v o rfl]; exact HS.tf f q2, by rw [f.v o rfl]; exact r, by rw [f.v o rfl]; exact e⟩)
theorem HT.tf {h h' : XH} (f : TF h h') : ∀ {n : Nat} {a : Int} {d : DT}, HT n h a d → HT n h' a d
  | 0, _, _, q => q
  | n + 1, a, d, q => by
    rcases q with ⟨o, d1, d2, q1, q2, r, e⟩ | ⟨o, d1, q1, e⟩ | ⟨o, r, o2, ds, e1, e2, q1, e⟩
    · exact Or.inl ⟨f.ob o, d1, d2, by rw [f.v o rfl]; exact HS.tf f q1, by rw [f.v o rfl]; exact HS.tf f q2, by rw [f.v o rfl]; exact r, by rw [f.v o rfl]; exact e⟩
    · exact Or.inr (Or.inl ⟨f.ob o, d1, by rw [f.v o rfl]; exact HT.tf f q1, e⟩)
    · have e9 := f.v o rfl 1
      exact Or.inr (Or.inr ⟨f.ob o, by rw [f.v o rfl]; exact r, by rw [e9]; exact f.ob o2, ds, by rw [e9, (f.2.1 _ o2.2.1).2]; exact e1, e2, fun i d1 hi => by rw [e9, f.v o2 rfl]; exact HT.tf f (q1 i d1 hi), by rw [f.v o rfl]; exact e⟩)
theorem HS.up {h : XH} : ∀ {n m : Nat} {a : Int} {d : DS}, n ≤ m → HS n h a d → HS m h a d
  | 0, _, _, _, _, q => q.elim
  | n + 1, 0, _, _, hm, _ => absurd hm (by omega)
  | n + 1, m + 1, a, d, hm, q => by
    rcases q with q | q | ⟨o, d1, d2, q1, q2, r, e⟩
    · exact Or.inl q
    · exact Or.inr (Or.inl q)
    · exact Or.inr (Or.inr ⟨o, d1, d2, HS.up (by omega) q1, HS.up (by omega) q2, r, e⟩)
theorem HT.up {h : XH} : ∀ {n m : Nat} {a : Int} {d : DT}, n ≤ m → HT n h a d → HT m h a d
  | 0, _, _, _, _, q => q.elim
  | n + 1, 0, _, _, hm, _ => absurd hm (by omega)
  | n + 1, m + 1, a, d, hm, q => by
    rcases q with q | ⟨o, d1, q1, e⟩ | ⟨o, r, o2, ds, e1, e2, q1, e⟩
    · exact Or.inl q
    · exact Or.inr (Or.inl ⟨o, d1, HT.up (by omega) q1, e⟩)
    · exact Or.inr (Or.inr ⟨o, r, o2, ds, e1, e2, fun i d1 hi => HT.up (by omega) (q1 i d1 hi), e⟩)
theorem CR.tf {h h' : XH} (f : TF h h') {c : Int} {z : Int × DS × DT} (q : CR h c z) : CR h' c z := by
  obtain ⟨o, e, r, q1, q2⟩ := q
  refine ⟨f.ob o, by rw [f.vc o (by decide)]; exact e, r, by rw [f.vc o (by decide)]; exact q1.tf f, ?_⟩
  rw [f.vc o (by decide)]
  rcases q2 with q2 | q2
  · exact Or.inl q2
  · exact Or.inr (q2.tf f)
theorem TR.tf {h h' : XH} (f : TF h h') {t : Int} {cl : CLS} (q : TR h t cl) : TR h' t cl := by
  obtain ⟨o, o2, e, e2, q1⟩ := q
  have e9 := f.v o rfl 0
  exact ⟨f.ob o, by rw [e9]; exact f.ob o2, by rw [e9, (f.2.1 _ o2.2.1).2]; exact e, e2, fun i z hi => by rw [e9, f.v o2 rfl]; exact (q1 i z hi).tf f⟩
/-- an exam's own cells keep their values -/
def EF (g : Int → Int) (s : Int) (h h' : XH) : Prop := ∀ a j : Int, 1 ≤ a → a ≤ (xn h : Int) → 1000 * s ≤ g a → g a < 1000 * s + 1000 → xv h' a j = xv h a j
theorem EF.v {g : Int → Int} {s : Int} {h h' : XH} (f : EF g s h h') {a : Int} {k : Nat} (H : OB h a k) {t : Int} (hg : g a = t) (h1 : 1000 * s ≤ t) (h2 : t < 1000 * s + 1000) (j : Int) : xv h' a j = xv h a j := f a j H.1 H.2.1 (by omega) (by omega)
theorem LR.st {g : Int → Int} {s t : Int} {h h' : XH} {l n : Int} (f : TF h h') (e : EF g s h h') (h1 : 1000 * s ≤ t) (h2 : t + 6 < 1000 * s + 1000) (q : LR g t h l n) : LR g t h' l n ∧ xv h' l 1 = xv h l 1 ∧ (1 ≤ n → ∀ k, nth h' l k = nth h l k) := by
  obtain ⟨o, q1, q2, q3, q4⟩ := q
  have ev := e.v o q1 h1 (by omega)
  refine ⟨⟨f.ob o, q1, by rw [ev]; exact q2, q3, ?_⟩, ev 1, fun hn k => ?_⟩
  · rw [ev]
    rcases q4 with q4 | ⟨o2, q5, q6⟩
    · exact Or.inl q4
    · exact Or.inr ⟨f.ob o2, q5, by rw [(f.2.1 _ o2.2.1).2]; exact q6⟩
  · unfold nth
    rw [ev]
    rcases q4 with q4 | ⟨o2, q5, q6⟩
    · omega
    · exact e.v o2 q5 (by omega) h2 k
theorem IR.st {g : Int → Int} {s t : Int} {h h' : XH} {a : Int} {len : Nat} {F : Int → Int} {n : Int} (f : TF h h') (e : EF g s h h') (h1 : 1000 * s ≤ t) (h2 : t < 1000 * s + 1000) (q : IR g t h a len F n) : IR g t h' a len F n := by
  obtain ⟨o, q1, q2, q3⟩ := q
  exact ⟨f.ob o, q1, by rw [(f.2.1 _ o.2.1).2]; exact q2, fun k k0 k1 => by rw [e.v o q1 h1 h2]; exact q3 k k0 k1⟩
theorem ER.st {g : Int → Int} {s : Int} {h h' : XH} {x : Int} {K : Int → Int} {P : Nat → CLS} (f : TF h h') (e : EF g s h h') (hn : K 390 ≤ 20) (q : ER g s h x K P) : ER g s h' x K P := by
  obtain ⟨o, q1, l1, l2, l3, i1, i2, i3, q2, q3, q4, q5, q6⟩ := q
  have ev := e.v o q1 (by omega) (by omega)
  have s1 := l1.st f e (by omega) (by omega)
  have s2 := l2.st f e (by omega) (by omega)
  have s3 := l3.st f e (by omega) (by omega)
  refine ⟨f.ob o, q1, by rw [ev]; exact s1.1, by rw [ev]; exact s2.1, by rw [ev]; exact s3.1, by rw [ev]; exact i1.st f e (by omega) (by omega), by rw [ev]; exact i2.st f e (by omega) (by omega), by rw [ev]; exact i3.st f e (by omega) (by omega), by rw [ev]; exact q2, by rw [ev]; exact q3, fun k k0 k1 => ?_, fun k k0 k1 => ?_, fun t ht => ?_⟩
  · rw [ev, s1.2.2 (by omega)]
    obtain ⟨p1, p2, p3, p4, p5, p6, p7, p8⟩ := q4 k k0 k1
    have e2 := e.v p1 p2 (by omega) (by omega)
    exact ⟨f.ob p1, p2, by rw [e2]; exact p3, by rw [e2]; exact p4, by rw [e2]; exact p5, by rw [e2]; exact p6, by rw [e2]; exact p7, by rw [e2]; exact p8⟩
  · rw [ev, s3.2.2 (by omega)]
    obtain ⟨p1, p2, p3⟩ := q5 k k0 k1
    exact ⟨f.ob p1, by rw [f.v p1 rfl]; exact p2, by rw [f.v p1 rfl]; exact p3⟩
  · rw [ev, s2.2.2 (by omega)]
    exact (q6 t ht).tf f
