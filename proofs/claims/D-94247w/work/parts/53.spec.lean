/-! plain law: what is computed, in numbers -/
set_option maxRecDepth 100000
def curP (K : Int → Int) (P : Nat → CLS) : CLS := if K 394 = -1 then [] else P (K 394).toNat
def clampS (lo hi x : Int) : Int := if x < lo then lo else if hi < x then hi else x
def toldStep (head : Int) (A : Int → Int) (its : Int) (z : Int × DS × DT) : Int := if z.1 = head then (match z.2.2 A, z.2.1 A with | some true, some v => v | _, _ => its) else its
def toldS (cl : CLS) (head : Int) (A : Int → Int) (wo : Int) : Int := cl.foldl (toldStep head A) wo
def askS (K : Int → Int) (q l hp day : Int) : Int → Int := fun i => if i = 0 then K (5 * q) else if i = 1 then K (5 * q + 1) else if i = 2 then l else if i = 3 then hp else if i = 4 then K (5 * q + 3) else if i = 5 then day else if i = 6 then q else 0
def takesS (K : Int → Int) (cl : CLS) (q l hp day : Int) : Int := clampS 1 20 (toldS cl 0 (askS K q l hp day) 4)
def keepsS (K : Int → Int) (cl : CLS) (q l : Int) : Int := clampS 1 30 (toldS cl 1 (askS K q l 0 0) 10)
def chA (l : Int) : Int → Int := fun i => if i = 2 then l else 0
def chS (cl : CLS) (l : Int) : Int := clampS 0 100 (toldS cl 2 (chA l) (50 * l))
/-- numbers of ways -/
def bin : Nat → Nat → Int
  | _, 0 => 1
  | 0, _ + 1 => 0
  | n + 1, k + 1 => bin n k + bin n (k + 1)
def chooseS (n k : Int) : Int := if k < 0 ∨ n < k then 0 else bin n.toNat k.toNat
/-- which is answered next; a step of the odds -/
def grS (c n : Int → Int) : Int :=
  let b0 : Int := if 0 < n 0 then 0 else -1
  let b1 : Int := if 0 < n 1 ∧ (b0 = -1 ∨ c b0 < c 1) then 1 else b0
  if 0 < n 2 ∧ (b1 = -1 ∨ c b1 < c 2) then 2 else b1
def stpS (c : Int) (w : Int → Int) : Int → Int := fun r => w r * (100 - c) + (if 0 < r then w (r - 1) * c else 0)
def decS (n : Int → Int) (l : Int) : Int → Int := fun i => if i = l then n i - 1 else n i
def incS (n : Int → Int) (l : Int) : Int → Int := fun i => if i = l then n i + 1 else n i
def pwS (c : Int → Int) : Nat → (Int → Int) → (Int → Int) → (Int → Int)
  | 0, _, w => w
  | a + 1, n, w => if grS c n = -1 then w else pwS c a (decS n (grS c n)) (stpS (c (grS c n)) w)
def w0S : Int → Int := fun r => if r = 0 then 1 else 0
def tri (a b c : Int) : Int → Int := fun i => if i = 0 then a else if i = 1 then b else if i = 2 then c else 0
def setS (th : Int → Int) (many a b : Int) : Int := chooseS (th 0) a * chooseS (th 1) b * chooseS (th 2) (many - a - b)
def lieS (many bes a b : Int) : Int → Int := if bes = -1 then tri a b (many - a - b) else incS (tri a b (many - a - b)) bes
def lotS (c : Int → Int) (ans : Nat) (th : Int → Int) (many bes r : Int) : Int := Sg (fun a => Sg (fun b => setS th many a b * pwS c ans (lieS many bes a b) w0S r) (many - a + 1).toNat 0) (many + 1).toNat 0
def sizeS (th : Int → Int) : Int := th 0 + th 1 + th 2
def lyS (K th : Int → Int) : Int := if K 100 < sizeS th then K 100 else sizeS th
def ansS (K th : Int → Int) : Nat := (if K 101 < lyS K th then K 101 else lyS K th).toNat
def leanS (K th lk : Int → Int) (lean : Int) : Bool := decide (0 < lean ∧ 0 < sizeS lk ∧ K 100 < sizeS th)
def sumsS (K c th lk : Int → Int) (lean r : Int) : Int := if leanS K th lk lean then (100 - lean) * sizeS lk * lyS K th * lotS c (ansS K th) th (lyS K th) (-1) r + Sg (fun l => if lk l = 0 then 0 else lean * lk l * sizeS th * lotS c (ansS K th) (decS th l) (lyS K th - 1) l r) 3 0 else lotS c (ansS K th) th (lyS K th) (-1) r
def wholeS (K th lk : Int → Int) (lean : Int) : Int := if leanS K th lk lean then chooseS (sizeS th) (lyS K th) * 100 ^ (ansS K th) * 100 * sizeS lk * lyS K th else chooseS (sizeS th) (lyS K th) * 100 ^ (ansS K th)
def passS (K c th lk : Int → Int) (lean : Int) : Int := Sg (sumsS K c th lk lean) (4 - K 102).toNat (K 102)
/-- by what is known; one question as if at a level -/
def asS (K : Int → Int) (as_ l q : Int) : Int := if q = as_ then l else K (5 * q + 2)
def thS (K : Int → Int) (as_ l : Int) : Int → Int := fun i => Sg (fun q => if K (5 * q + 4) = 0 ∧ asS K as_ l q = i then 1 else 0) (K 390).toNat 0
def lkS (K : Int → Int) (as_ l : Int) : Int → Int := fun i => Sg (fun q => if K (5 * q + 4) = 0 ∧ asS K as_ l q = i then K (5 * q + 3) else 0) (K 390).toNat 0
def zeroS : Int → Int := fun _ => 0
def withS (K : Int → Int) (cl : CLS) (half well : Int) : Int := passS K (chS cl) (tri (bowlN K - half - well) half well) zeroS 0
def wwS (K : Int → Int) : Int := wholeS K (tri (bowlN K) 0 0) zeroS 0
/-- reduced fractions -/
def redS (u l part : Int) : Int := if part = 0 then u / (Int.gcd u l : Int) else l / (Int.gcd u l : Int)
/-- the fewest hours, question by question from the last one back -/
def helpS (K : Int → Int) (q kings : Int) : Int := if K (5 * q) ≤ 0 then 0 else if iand (ishr kings (K (5 * q) - 1)) 1 = 1 then 1 else 0
def kingS (K : Int → Int) (q kings : Int) : Int := if K (5 * q) ≤ 0 then kings else ior kings (ishl 1 (K (5 * q) - 1))
def costS (K : Int → Int) (cl : CLS) (q l hp : Int) : Int := if l = 0 then 0 else if l = 1 then takesS K cl q 1 hp 0 else takesS K cl q 1 hp 0 + takesS K cl q 2 hp 0
def lessS (a b : Int) : Int := if b ≤ a then b else a
def leastS (K : Int → Int) (cl : CLS) : Nat → Int → Int → Int → Int
  | 0, _, half, well => if half = 0 ∧ well = 0 then 0 else 1000000
  | m + 1, kings, half, well =>
    let q := K 390 - (m + 1)
    let v0 := leastS K cl m kings half well
    if K (5 * q + 4) = 0 then
      let v1 := if half ≤ 0 then v0 else lessS v0 (costS K cl q 1 (helpS K q kings) + leastS K cl m (kingS K q kings) (half - 1) well)
      if well ≤ 0 then v1 else lessS v1 (costS K cl q 2 (helpS K q kings) + leastS K cl m (kingS K q kings) half (well - 1))
    else v0
def least0 (K : Int → Int) (cl : CLS) (half well : Int) : Int := leastS K cl (K 390).toNat 0 half well
/-- friends: the most that can be learned from the last m on, by what each has left -/
def wcS (K : Int → Int) (cl : CLS) (k : Int) : Int := takesS K cl k 1 0 0 + takesS K cl k 2 0 0
def shN (K : Int → Int) : Int := if K 390 ≤ 12 then K 390 else 12
def mostS (c : Int → Int) (N : Int) : Nat → Int → Int → Int → Int
  | 0, _, _, _ => 0
  | m + 1, l0, l1, l2 =>
    let k := c (N - (m + 1))
    let v := mostS c N m l0 l1 l2
    let v := if k ≤ l0 then max v (1 + mostS c N m (l0 - k) l1 l2) else v
    let v := if k ≤ l1 then max v (1 + mostS c N m l0 (l1 - k) l2) else v
    if k ≤ l2 then max v (1 + mostS c N m l0 l1 (l2 - k)) else v
/-- who learns which: the first that is at best -/
def whoS (c : Int → Int) (N : Int) : Nat → Int → Int → Int → Int → Int
  | 0, _, _, _, _ => -1
  | m + 1, l0, l1, l2, j =>
    let i := N - (m + 1)
    let k := c i
    let v := mostS c N (m + 1) l0 l1 l2
    if k ≤ l0 ∧ 1 + mostS c N m (l0 - k) l1 l2 = v then (if j = i then 0 else whoS c N m (l0 - k) l1 l2 j)
    else if k ≤ l1 ∧ 1 + mostS c N m l0 (l1 - k) l2 = v then (if j = i then 1 else whoS c N m l0 (l1 - k) l2 j)
    else if k ≤ l2 ∧ 1 + mostS c N m l0 l1 (l2 - k) = v then (if j = i then 2 else whoS c N m l0 l1 (l2 - k) j)
    else if j = i then -1 else whoS c N m l0 l1 l2 j
def shB (K : Int → Int) (cl : CLS) : Int := mostS (wcS K cl) (shN K) (shN K).toNat (K 347) (K 348) (K 349)
def shW (K : Int → Int) (cl : CLS) (j : Int) : Int := whoS (wcS K cl) (shN K) (shN K).toNat (K 347) (K 348) (K 349) j
/-- the i-th in the bowl -/
def bqS (K : Int → Int) : Nat → Int → Int → Int
  | 0, q, _ => q
  | m + 1, q, i => if K (5 * q + 4) = 0 then (if i = 0 then q else bqS K m (q + 1) (i - 1)) else bqS K m (q + 1) i
def bqI (K : Int → Int) (i : Int) : Int := bqS K (K 390).toNat 0 i
/-- how many of the questions from one on are in the bowl -/
def bwFrom (K : Int → Int) (q : Int) : Int := Sg (bw K) (K 390 - q).toNat q
def atS (i half well mask : Int) : Int := ((i * 21 + half) * 21 + well) * 16 + mask
/-- schemes that were made stand for what is so -/
def ansX (K : Int → Int) : Nat := (K 101).toNat - ansS K (tri (bowlN K) 0 0)
def FS (h : XH) (z : Int) (K : Int → Int) (cl : CLS) : Prop :=
  OB h z 18 ∧ OB h (xv h z 0) 107 ∧ (xl h (xv h z 0) : Int) = bowlN K ∧ (∀ i : Int, 0 ≤ i → i < bowlN K → xv h (xv h z 0) i = nth h (xv h (xv h 1 0) 0) (bqI K i)) ∧ OB h (xv h z 1) 101 ∧ xl h (xv h z 1) = 441 ∧ 16 < xv h z 1 ∧ xv h z 4 = 1 ∧ xv h z 3 = wwS K * 100 ^ ansX K ∧
  (∀ a b : Int, 0 ≤ a → 0 ≤ b → a + b ≤ bowlN K → xv h (xv h z 1) (21 * a + b) = withS K cl a b * 100 ^ ansX K) ∧
  ∀ q a b mask : Int, 0 ≤ q → q ≤ K 390 → 0 ≤ a → 0 ≤ b → a + b ≤ bwFrom K q → 0 ≤ mask → mask < 16 → xv h 15 (atS (bowlN K - bwFrom K q) a b mask) = leastS K cl (K 390 - q).toNat mask a b
/-- the model's row of schemes -/
def MS (V : VV) (K : Int → Int) (cl : CLS) : Prop :=
  (∀ q hp l : Int, 0 ≤ q → q < K 390 → 0 ≤ hp → hp ≤ 1 → 1 ≤ l → l ≤ 2 → V 33 (4 * q + 2 * hp + l - 1) = takesS K cl q l hp 0) ∧
  (∀ q kings a b : Int, 0 ≤ q → q ≤ K 390 → 0 ≤ kings → kings < 16 → 0 ≤ a → a < 21 → 0 ≤ b → b < 21 → V 31 (7056 * q + 441 * kings + 21 * a + b) = leastS K cl (K 390 - q).toNat kings a b) ∧
  (∀ a b : Int, 0 ≤ a → 0 ≤ b → a + b ≤ bowlN K → V 32 (21 * a + b) = withS K cl a b) ∧ V 34 0 = wwS K
/-- .. of friends -/
def MH (V : VV) (K : Int → Int) (cl : CLS) : Prop := V 57 0 = shB K cl ∧ ∀ j : Int, 0 ≤ j → j < shN K → V 54 j = shW K cl j
