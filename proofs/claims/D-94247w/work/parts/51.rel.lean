/-! plain law: what a paper means, and how the system's heap and the model's row stand for one another -/
set_option maxRecDepth 100000
/-- meanings: of sums and tests by what is asked; none: broken -/
abbrev DS : Type := (Int → Int) → Option Int
abbrev DT : Type := (Int → Int) → Option Bool
abbrev CLS : Type := List (Int × DS × DT)
def dW (v : Int) : Option Int := if v > 1000000000 ∨ v < -1000000000 then none else some v
def dJ (sg : Int) (d1 d2 : DS) : DS := fun A => (d1 A).bind fun p => (d2 A).bind fun q => if sg = 47 then (if q = 0 then none else some (p.tdiv q)) else dW (if sg = 43 then p + q else if sg = 45 then p - q else p * q)
def dC (sg : Int) (d1 d2 : DS) : DT := fun A => (d1 A).bind fun p => (d2 A).bind fun q => some (if sg = 60 then decide (p < q) else if sg = 62 then decide (q < p) else decide (p = q))
def dN (d : DT) : DT := fun A => (d A).map fun b => !b
def dR (all : Bool) : List DT → DT
  | [] => fun _ => some all
  | d :: ds => fun A => (d A).bind fun b => if b = all then dR all ds A else some (!all)
/-- trees of the heap, and what they mean -/
def HS : Nat → XH → Int → DS → Prop
  | 0, _, _, _ => False
  | n + 1, h, a, d => (OB h a 8 ∧ (0 ≤ xv h a 0 ∧ xv h a 0 ≤ 1000) ∧ d = fun _ => some (xv h a 0)) ∨ (OB h a 9 ∧ (0 ≤ xv h a 0 ∧ xv h a 0 ≤ 6) ∧ d = fun A => some (A (xv h a 0))) ∨ (OB h a 10 ∧ ∃ d1 d2, HS n h (xv h a 0) d1 ∧ HS n h (xv h a 1) d2 ∧ (xv h a 2 = 43 ∨ xv h a 2 = 45 ∨ xv h a 2 = 42 ∨ xv h a 2 = 47) ∧ d = dJ (xv h a 2) d1 d2)
def HT : Nat → XH → Int → DT → Prop
  | 0, _, _, _ => False
  | n + 1, h, a, d => (OB h a 11 ∧ ∃ d1 d2, HS 60 h (xv h a 0) d1 ∧ HS 60 h (xv h a 1) d2 ∧ (xv h a 2 = 60 ∨ xv h a 2 = 62 ∨ xv h a 2 = 61) ∧ d = dC (xv h a 2) d1 d2) ∨ (OB h a 12 ∧ ∃ d1, HT n h (xv h a 0) d1 ∧ d = dN d1) ∨ (OB h a 13 ∧ (xv h a 0 = 0 ∨ xv h a 0 = 1) ∧ OB h (xv h a 1) 108 ∧ ∃ ds : List DT, xl h (xv h a 1) = ds.length ∧ ds.length ≤ 50 ∧ (∀ (i : Nat) (d1 : DT), ds[i]? = some d1 → HT n h (xv h (xv h a 1) i) d1) ∧ d = dR (decide (xv h a 0 = 1)) ds)
/-- a clause, a paper -/
def CR (h : XH) (c : Int) (z : Int × DS × DT) : Prop := OB h c 14 ∧ xv h c 0 = z.1 ∧ (0 ≤ z.1 ∧ z.1 ≤ 2) ∧ HS 60 h (xv h c 1) z.2.1 ∧ ((xv h c 2 = 0 ∧ z.2.2 = fun _ => some true) ∨ HT 60 h (xv h c 2) z.2.2)
def TR (h : XH) (t : Int) (cl : CLS) : Prop := OB h t 4 ∧ OB h (xv h t 0) 104 ∧ xl h (xv h t 0) = cl.length ∧ cl.length ≤ 12 ∧ ∀ (i : Nat) (z : Int × DS × DT), cl[i]? = some z → CR h (xv h (xv h t 0) i) z
/-- a list of the heap: tag, name, size -/
def LR (g : Int → Int) (t : Int) (h : XH) (l n : Int) : Prop := OB h l 26 ∧ g l = t ∧ xv h l 2 = n ∧ 0 ≤ n ∧ ((xv h l 1 = -1 ∧ n = 0) ∨ (OB h (xv h l 1) 109 ∧ g (xv h l 1) = t + 6 ∧ n ≤ (xl h (xv h l 1) : Int)))
def IR (g : Int → Int) (t : Int) (h : XH) (a : Int) (len : Nat) (f : Int → Int) (n : Int) : Prop := OB h a 100 ∧ g a = t ∧ xl h a = len ∧ ∀ k : Int, 0 ≤ k → k < n → xv h a k = f k
def QR (g : Int → Int) (t : Int) (h : XH) (q k : Int) (K : Int → Int) : Prop := OB h q 5 ∧ g q = t ∧ xv h q 0 = k ∧ xv h q 1 = K (5 * k) ∧ xv h q 2 = K (5 * k + 1) ∧ xv h q 3 = K (5 * k + 2) ∧ xv h q 4 = K (5 * k + 3) ∧ xv h q 5 = K (5 * k + 4)
def nth (h : XH) (l k : Int) : Int := xv h (xv h l 1) k
/-- an exam of the heap stands for a row of the model, its papers for their meanings -/
def ER (g : Int → Int) (s : Int) (h : XH) (e : Int) (K : Int → Int) (P : Nat → CLS) : Prop :=
  OB h e 2 ∧ g e = 1000 * s ∧ LR g (1000 * s + 1) h (xv h e 0) (K 390) ∧ LR g (1000 * s + 2) h (xv h e 1) (K 393) ∧ LR g (1000 * s + 3) h (xv h e 2) (K 391) ∧ IR g (1000 * s + 4) h (xv h e 3) 7 (fun k => K (100 + k)) 7 ∧ IR g (1000 * s + 5) h (xv h e 4) 3 (fun k => K (347 + k)) 3 ∧ IR g (1000 * s + 6) h (xv h e 5) 40 (fun k => K (350 + k)) (K 392) ∧ xv h e 6 = K 392 ∧ xv h e 7 = K 394 ∧
  (∀ k : Int, 0 ≤ k → k < K 390 → QR g (1000 * s + 100 + k) h (nth h (xv h e 0) k) k K) ∧
  (∀ k : Int, 0 ≤ k → k < K 391 → OB h (nth h (xv h e 2) k) 19 ∧ xv h (nth h (xv h e 2) k) 0 = K (107 + 2 * k) ∧ xv h (nth h (xv h e 2) k) 1 = K (107 + 2 * k + 1)) ∧
  ∀ t : Nat, (t : Int) < K 393 → TR h (nth h (xv h e 1) t) (P t)
/-- what a row of the model keeps to -/
def KI (K : Int → Int) : Prop :=
  ((0 ≤ K 390 ∧ K 390 ≤ 20) ∧ (0 ≤ K 391 ∧ K 391 ≤ 120) ∧ (0 ≤ K 392 ∧ K 392 ≤ 40) ∧ (0 ≤ K 393 ∧ K 393 ≤ 6) ∧ (-1 ≤ K 394 ∧ K 394 < K 393)) ∧
  (∀ q : Int, 0 ≤ q → q < K 390 → (0 ≤ K (5 * q) ∧ K (5 * q) ≤ 4) ∧ (1 ≤ K (5 * q + 1) ∧ K (5 * q + 1) ≤ 99) ∧ (0 ≤ K (5 * q + 2) ∧ K (5 * q + 2) ≤ 2) ∧ (0 ≤ K (5 * q + 3) ∧ K (5 * q + 3) ≤ 1) ∧ (0 ≤ K (5 * q + 4) ∧ K (5 * q + 4) ≤ 1)) ∧
  ((1 ≤ K 100 ∧ K 100 ≤ 10) ∧ (1 ≤ K 101 ∧ K 101 ≤ 3) ∧ (1 ≤ K 102 ∧ K 102 ≤ 3) ∧ (0 ≤ K 103 ∧ K 103 ≤ 100) ∧ (0 ≤ K 104 ∧ K 104 ≤ 100) ∧ (1 ≤ K 105 ∧ K 105 ≤ 20) ∧ (0 ≤ K 106 ∧ K 106 ≤ 16)) ∧
  (∀ k : Int, 0 ≤ k → k < 3 → 0 ≤ K (347 + k) ∧ K (347 + k) ≤ 99) ∧
  (∀ k : Int, 0 ≤ k → k < K 391 → (0 ≤ K (107 + 2 * k) ∧ K (107 + 2 * k) ≤ 19) ∧ (0 ≤ K (107 + 2 * k + 1) ∧ K (107 + 2 * k + 1) < K 390)) ∧
  (∀ k : Int, 0 ≤ k → k < K 392 → 0 ≤ K (350 + k) ∧ K (350 + k) ≤ 1048575) ∧
  (∀ t : Int, 0 ≤ t → t < K 393 → 0 ≤ K (395 + t) ∧ K (395 + t) ≤ 400) ∧
  ∀ j : Int, j < 0 ∨ 5201 ≤ j → K j = 0
/-- the model's words of a paper, and what they mean: from place i to place j -/
def DP (DSum : Int → Int → DS → Prop) (C N : Int → Int) (i j : Int) (d : DS) : Prop := (C i = 50 ∧ (0 ≤ N i ∧ N i ≤ 1000) ∧ j = i + 1 ∧ d = fun _ => some (N i)) ∨ (8 ≤ C i ∧ C i ≤ 14 ∧ j = i + 1 ∧ d = fun A => some (A (C i - 8))) ∨ (C i = 191 ∧ ∃ m, DSum (i + 1) m d ∧ C m = 193 ∧ j = m + 1)
/-- a chain: operators, what follows each; what lies ahead of it means d0 -/
def DChain (D : Int → Int → DS → Prop) (C : Int → Int) (o1 o2 : Int) : List DS → Int → Int → DS → DS → Prop
  | [], i, j, d0, d => i = j ∧ d0 = d ∧ C i ≠ o1 ∧ C i ≠ o2
  | d1 :: ds, i, j, d0, d => (C i = o1 ∨ C i = o2) ∧ ∃ m, D (i + 1) m d1 ∧ i < m ∧ DChain D C o1 o2 ds m j (dJ (C i - 100) d0 d1) d
def DTm (DPart : Int → Int → DS → Prop) (C : Int → Int) (i j : Int) (d : DS) : Prop := ∃ m d0 ds, DPart i m d0 ∧ DChain DPart C 142 147 ds m j d0 d
def DSm (n : Nat) (C N : Int → Int) : Int → Int → DS → Prop := match n with
  | 0 => fun _ _ _ => False
  | n + 1 => fun i j d => ∃ m d0 ds, DTm (DP (DSm n C N) C N) C i m d0 ∧ DChain (DTm (DP (DSm n C N) C N) C) C 143 145 ds m j d0 d
/-- rows of tests with a word between them -/
def DRow (D : Int → Int → DT → Prop) (C : Int → Int) (o : Int) : List DT → Int → Int → Prop
  | [], _, _ => False
  | [d], i, j => D i j d ∧ C j ≠ o
  | d :: ds, i, j => ∃ m, D i m d ∧ C m = o ∧ i < m ∧ DRow D C o ds (m + 1) j
def nots (k : Nat) (d : DT) : DT := match k with | 0 => d | k + 1 => dN (nots k d)
def DPos (DTest : Int → Int → DT → Prop) (C N : Int → Int) (i j : Int) (d : DT) : Prop := C i ≠ 7 ∧ ((C i = 140 ∧ ∃ m, DTest (i + 1) m d ∧ C m = 141 ∧ j = m + 1) ∨ (C i ≠ 140 ∧ ∃ m d1 d2, DSm 10 C N i m d1 ∧ (C m = 160 ∨ C m = 162 ∨ C m = 161) ∧ DSm 10 C N (m + 1) j d2 ∧ d = dC (C m - 100) d1 d2))
def DPl (DTest : Int → Int → DT → Prop) (C N : Int → Int) (i j : Int) (d : DT) : Prop := ∃ (k : Nat) (d0 : DT), (∀ t : Int, 0 ≤ t → t < k → C (i + t) = 7) ∧ DPos DTest C N (i + k) j d0 ∧ d = nots k d0
def DTs (n : Nat) (C N : Int → Int) : Int → Int → DT → Prop := match n with
  | 0 => fun _ _ _ => False
  | n + 1 => fun i j d => ∃ ds, d = dR false ds ∧ DRow (fun i j d => ∃ es, d = dR true es ∧ DRow (DPl (DTs n C N) C N) C 6 es i j) C 5 ds i j
def DCl (C N : Int → Int) (i j : Int) (z : Int × DS × DT) : Prop := C i = z.1 + 1 ∧ (0 ≤ z.1 ∧ z.1 ≤ 2) ∧ ∃ m, DSm 10 C N (i + 1) m z.2.1 ∧ ((C m ≠ 4 ∧ z.2.2 = (fun _ => some true) ∧ j = m) ∨ (C m = 4 ∧ DTs 10 C N (m + 1) j z.2.2))
def DPap (C N : Int → Int) (e : Int) : CLS → Int → Prop
  | [], _ => False
  | [z], i => DCl C N i e z
  | z :: zs, i => ∃ j, DCl C N i j z ∧ C j = 159 ∧ i < j ∧ j + 1 < e ∧ DPap C N e zs (j + 1)
/-- the words of the t-th paper by place from 400 t on; 0 behind its end -/
def pC (K : Int → Int) (t : Int) : Int → Int := fun k => if k < 0 ∨ 400 * t + K (395 + t) ≤ k then 0 else K (401 + k)
def pN (K : Int → Int) : Int → Int := fun k => if k < 0 then 0 else K (2801 + k)
def PR (K : Int → Int) (P : Nat → CLS) : Prop := ∀ t : Nat, (t : Int) < K 393 → DPap (pC K t) (pN K) (400 * t + K (395 + t)) (P t) (400 * t)
