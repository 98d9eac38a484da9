/-! plain law: both sides stand for one another -/
set_option maxRecDepth 100000
/-- the system's fixed cells -/
def SH (h : XH) : Prop := 16 ≤ xn h ∧ xk h 1 = 1 ∧ (xk h 9 = 105 ∧ xl h 9 = 2) ∧ xk h 10 = 3 ∧ (xk h 11 = 101 ∧ xl h 11 = 7) ∧ xk h 12 = 4 ∧ (xk h 13 = 104 ∧ xl h 13 = 0) ∧ (xk h 14 = 100 ∧ xl h 14 = 7) ∧ (xk h 15 = 100 ∧ xl h 15 = 148176) ∧ (xk h 16 = 102 ∧ xl h 16 = 400) ∧
  (xv h 1 1 = 9 ∧ xv h 1 2 = 10 ∧ xv h 1 3 = 12 ∧ xv h 1 4 = 14 ∧ xv h 1 10 = 15 ∧ xv h 1 11 = 16) ∧ xv h 10 0 = 11 ∧ xv h 12 0 = 13
def GW (g : Int → Int) (h : XH) : Prop := (g 1 = 0 ∧ g 9 = 0 ∧ g 10 = 0 ∧ g 11 = 0 ∧ g 14 = 0 ∧ g 15 = 0 ∧ g 16 = 0) ∧ (∀ a : Int, 1 ≤ a → a ≤ (xn h : Int) → xk h a = 14 → g a = 0) ∧ ∀ a : Int, (xn h : Int) < a → g a = 0
def Kim (V : VV) (i : Int) : Int → Int := fun j => if 0 ≤ j ∧ j < 5201 then V 4 (5201 * i + j) else 0
def IM (g : Int → Int) (h : XH) (V : VV) (i : Int) : Prop := (V 5 i = 0 ∧ xv h 9 i = 0) ∨ (V 5 i = 1 ∧ ∃ P, ER g (i + 2) h (xv h 9 i) (Kim V i) P ∧ KI (Kim V i) ∧ PR (Kim V i) P)
def TB (h : XH) (V : VV) : Prop := (xv h 1 8 = 0 ∧ V 64 0 = -1) ∨ (OB h (xv h 1 8) 25 ∧ V 64 0 ≠ -1 ∧ xv h (xv h 1 8) 0 = V 64 0 ∧ xv h (xv h 1 8) 1 = V 65 0 ∧ xv h (xv h 1 8) 2 = V 66 0)
/-- plain fields -/
def SC (h : XH) (V : VV) : Prop := xv h 1 5 = V 0 0 ∧ (∀ k : Int, 0 ≤ k → k < 7 → xv h 14 k = V 2 k) ∧ xv h 1 6 = V 10 0 ∧ xv h 1 7 = V 59 0 ∧ xv h 1 12 = V 9 0 ∧ (0 ≤ V 9 0 ∧ V 9 0 ≤ 400) ∧ ∀ k : Int, 0 ≤ k → k < 400 → xv h 16 k = V 7 k
def MW (V : VV) : Prop := ∀ j : Nat, j < 76 → V 6 j = wordsT.getD j 0
/-- what was kept of schemes and friends -/
def CA (h : XH) (V : VV) (cl : CLS) : Prop := (-1 ≤ V 35 0 ∧ V 35 0 ≤ V 1 0) ∧ (V 35 0 = V 1 0 → MS V (V 3) cl) ∧ (-1 ≤ V 58 0 ∧ V 58 0 ≤ V 1 0) ∧ (V 58 0 = V 1 0 → MH V (V 3) cl) ∧ (xv h 1 9 = 0 ∨ FS h (xv h 1 9) (V 3) cl)
def RelG (g : Int → Int) (P : Nat → CLS) (n : Nat) (h : XH) (V : VV) : Prop :=
  SH h ∧ GW g h ∧ ER g 1 h (xv h 1 0) (V 3) P ∧ KI (V 3) ∧ PR (V 3) P ∧ (IM g h V 0 ∧ IM g h V 1) ∧ SC h V ∧ TB h V ∧ MW V ∧ CA h V (curP (V 3) P) ∧ (0 ≤ V 1 0 ∧ V 1 0 ≤ n) ∧ (xc h ≤ 200 + 18000 * n ∧ xs h ≤ 149000 + 80000 * n)
def Rel (n : Nat) (h : XH) (V : VV) : Prop := ∃ g P, RelG g P n h V
