/-! the system's layer: named cells. A heap of the layer: kinds and lengths by name, values by name and place, the number of names, cells and slots made so far -/
set_option maxRecDepth 100000
/-- the fields' kinds, a row a class of gcl: 0 int, 1 long, 2 boolean, 8 reference -/
def xFT : List (List Nat) := [[0, 0, 8, 8, 8, 8, 8, 8, 8, 0, 0, 8, 8, 8, 0, 0, 0, 0, 0, 0, 2, 8, 8, 8, 8, 8, 8, 8, 0, 0, 1, 8, 8, 8, 1, 0, 1, 0, 8, 8, 8, 8, 8, 0, 0, 0, 8, 8, 0, 0, 0, 2, 8, 8, 8, 8, 0, 0, 0, 0, 8, 8, 8, 0, 0, 0, 0, 0, 0, 0],
  [8, 8, 8, 8, 8, 0, 0, 0, 8, 8, 8, 8, 0],
  [8, 8, 8, 8, 8, 8, 0, 0],
  [8, 2],
  [8],
  [0, 0, 0, 0, 2, 2],
  [0, 0, 0, 0, 0, 8, 8, 8, 8],
  [8, 8, 8, 8, 8, 0, 0],
  [0],
  [0],
  [8, 8, 0],
  [8, 8, 0],
  [8],
  [2, 8],
  [0, 8, 8, 1],
  [8, 8, 8, 8],
  [8, 0],
  [1, 1],
  [8, 8, 8, 1, 8],
  [0, 0],
  [8, 8, 0, 0, 0, 0, 8],
  [8, 0, 0, 8],
  [0, 8, 8, 0, 8],
  [8],
  [1],
  [0, 0, 0],
  [0, 8, 0]]
-- 0 X4: the model
-- 1 X0: 0 exam, 1 images, 2 asked, 3 nothingTold, 4 refused, 5 status, 6 fault, 7 lost, 8 latest, 9 found, 10 fewest, 11 tape, 12 taped
-- 2 X1: 0 questions, 1 papers, 2 diary, 3 terms, 4 friends, 5 years, 6 yeared, 7 used
-- 3 X2: 0 numbers, 1 isBroken
-- 4 X3: 0 clauses
-- 5 X5: 0 number, 1 king, 2 pages, 3 known, 4 isLiked, 5 isOut
-- 6 X6: 0 from, 1 to, 2 leaves, 3 deep, 4 piled, 5 pile, 6 words, 7 heads, 8 this$0
-- 7 X7: 0 cause, 1 stackTrace, 2 suppressedExceptions, 3 detailMessage, 4 backtrace, 5 depth, 6 place
-- 8 X9: 0 number
-- 9 X10: 0 what
-- 10 X11: 0 one, 1 other, 2 sign
-- 11 X13: 0 one, 1 other, 2 sign
-- 12 X14: 0 test
-- 13 X15: 0 all, 1 tests
-- 14 X16: 0 head, 1 sum, 2 test, 3 told
-- 15 X17: 0 all, 1 liked, 2 answers, 3 this$0
-- 16 X18: 0 chances, 1 most
-- 17 X19: 0 upper, 1 lower
-- 18 X20: 0 row, 1 passes, 2 lying, 3 all, 4 this$0
-- 19 X21: 0 day, 1 question
-- 20 X22: 0 level, 1 last, 2 dropped, 3 fell, 4 firstDropped, 5 learned, 6 this$0
-- 21 X23: 0 days, 1 leftOut, 2 first, 3 this$0
-- 22 X24: 0 many, 1 costs, 2 who, 3 all, 4 this$0
-- 23 X25: 0 places
-- 24 X26: 0 state
-- 25 X27: 0 lay, 1 answered, 2 right
-- 26 J2: 0 modCount, 1 elementData, 2 size
abbrev XH : Type := (Int → Nat) × (Int → Nat) × (Int → Int → Int) × Nat × Nat × Nat
abbrev xk (h : XH) : Int → Nat := h.1
abbrev xl (h : XH) : Int → Nat := h.2.1
abbrev xv (h : XH) : Int → Int → Int := h.2.2.1
abbrev xn (h : XH) : Nat := h.2.2.2.1
abbrev xc (h : XH) : Nat := h.2.2.2.2.1
abbrev xs (h : XH) : Nat := h.2.2.2.2.2
def hset (h : XH) (a j x : Int) : XH := (h.1, h.2.1, (fun b i => if b = a ∧ i = j then x else h.2.2.1 b i), h.2.2.2)
def hnew (h : XH) (k n : Nat) : XH := ((fun b => if b = (xn h : Int) + 1 then k else h.1 b), (fun b => if b = (xn h : Int) + 1 then n else h.2.1 b), (fun b i => if b = (xn h : Int) + 1 then 0 else h.2.2.1 b i), xn h + 1, xc h + 1, xs h + n)
/-- the name of the next cell -/
def hnx (h : XH) : Int := (xn h : Int) + 1
def xft (c k : Nat) : Nat := (xFT.getD c []).getD k 0
def xNF (c : Nat) : Nat := (xFT.getD c []).length
def xAT (t : Nat) : FieldType := match t with
  | 0 => .int | 1 => .long | 2 => .byte | 3 => .boolean
  | 4 => .object "ExamSlips$Clause" | 5 => .object "ExamSlips$Exam" | 6 => .object "ExamSlips$Huge" | 7 => .object "ExamSlips$Question" | 8 => .object "ExamSlips$Test" | 9 => .object "java/lang/Object" | 10 => .object "java/lang/String" | _ => .array .int
/-- the kind of a place: 0 int, 1 long, 2 boolean, 5 byte, 8 reference -/
def xaty (t : Nat) : Nat := match t with
  | 0 => 0 | 1 => 1 | 2 => 5 | 3 => 2 | _ => 8
def xty (h : XH) (a j : Int) : Nat := if xk h a < 100 then xft (xk h a) j.toNat else xaty (xk h a - 100)
def okt (N t : Nat) (x : Int) : Prop := if t = 1 then in64 x else if t = 8 then x ≤ (N : Int) else if t = 2 then (x = 0 ∨ x = 1) else if t = 5 then in8 x else in32 x
def okH (h : XH) : Prop := ∀ a : Int, 1 ≤ a → a ≤ (xn h : Int) → (xk h a < 27 ∨ (100 ≤ xk h a ∧ xk h a < 112)) ∧ xl h a < 2147483648 ∧ ∀ j, okt (xn h) (xty h a j) (xv h a j)
def okX (N : Nat) (v : AV) : Prop := if v.1 = 0 then in32 v.2 else if v.1 = 1 then in64 v.2 else v.2 ≤ (N : Int)
def okXl (N : Nat) (lv : List (Nat × AV)) : Prop := ∀ q ∈ lv, okX N q.2
def okXs (N : Nat) (st : List AV) : Prop := ∀ v ∈ st, okX N v
theorem okXs.nil {N : Nat} : okXs N [] := fun v h => absurd h List.not_mem_nil
theorem okXs.c {N : Nat} {v : AV} {st : List AV} (hv : okX N v) (h : okXs N st) : okXs N (v :: st) := fun w hw => by
  rcases List.mem_cons.mp hw with rfl | hw
  · exact hv
  · exact h w hw
theorem okXs.t {N : Nat} {v : AV} {st : List AV} (h : okXs N (v :: st)) : okXs N st := fun w hw => h w (List.mem_cons_of_mem _ hw)
theorem okXs.hd {N : Nat} {v : AV} {st : List AV} (h : okXs N (v :: st)) : okX N v := h v List.mem_cons_self
theorem okXs.i {N : Nat} {x : Int} {st : List AV} (h : okXs N ((0, x) :: st)) : in32 x := h.hd
theorem okXs.l {N : Nat} {x : Int} {st : List AV} (h : okXs N ((1, x) :: st)) : in64 x := h.hd
theorem okXs.r {N : Nat} {x : Int} {st : List AV} (h : okXs N ((2, x) :: st)) : x ≤ (N : Int) := h.hd
theorem okX.i {N : Nat} {x : Int} (h : in32 x) : okX N (0, x) := h
theorem okX.l {N : Nat} {x : Int} (h : in64 x) : okX N (1, x) := h
theorem okX.r {N : Nat} {x : Int} (h : x ≤ (N : Int)) : okX N (2, x) := h
theorem okX.up {N M : Nat} (h : N ≤ M) {v : AV} (hv : okX N v) : okX M v := by
  unfold okX at *
  split
  · rename_i e; rw [if_pos e] at hv; exact hv
  · rename_i e
    rw [if_neg e] at hv
    split
    · rename_i e2; rw [if_pos e2] at hv; exact hv
    · rename_i e2; rw [if_neg e2] at hv; omega
theorem okXs.up {N M : Nat} (h : N ≤ M) {st : List AV} (hs : okXs N st) : okXs M st := fun v hv => (hs v hv).up h
theorem okXl.up {N M : Nat} (h : N ≤ M) {lv : List (Nat × AV)} (hs : okXl N lv) : okXl M lv := fun v hv => (hs v hv).up h
/-- the machine's values -/
def rv (ad : Int → Nat) (r : Int) : Value := if r = 0 then .null else .ref (ad r)
def ro (ad : Int → Nat) (r : Int) : Option Nat := if r = 0 then none else some (ad r)
theorem rv_ro (ad : Int → Nat) (r : Int) : va_rf (ro ad r) = rv ad r := by unfold ro rv; split <;> rfl
def cX (ad : Int → Nat) (v : AV) : Value := match v with
  | (0, x) => .int (I32 x)
  | (1, x) => .long (I64 x)
  | (_, r) => rv ad r
def cX1 (ad : Int → Nat) (q : Nat × AV) : Nat × Value := (q.1, cX ad q.2)
def xval (ad : Int → Nat) (t : Nat) (x : Int) : Value := if t = 1 then .long (I64 x) else if t = 8 then rv ad x else .int (I32 x)
def xfs (ad : Int → Nat) (h : XH) (a : Int) (c : Nat) : List Value := (List.range (xNF c)).map (fun k => xval ad (xft c k) (xv h a k))
def xarr (ad : Int → Nat) (h : XH) (a : Int) (t : Nat) : vp_A := if t = 1 then (xl h a, .inr (.inl fun j => I64 (xv h a j))) else if 4 ≤ t then (xl h a, .inr (.inr (.inr (.inr fun j => ro ad (xv h a j))))) else (xl h a, .inl fun j => I32 (xv h a j))
def xcell (cT : Nat → ClassId) (ad : Int → Nat) (h : XH) (a : Int) : Nat × va_E := (ad a, if xk h a < 100 then .inr (xk h a, xfs ad h a (xk h a)) else .inl (cT (xk h a - 100), xarr ad h a (xk h a - 100)))
def xW (cT : Nat → ClassId) (ad : Int → Nat) (h : XH) : va_W := (List.range (xn h)).map (fun (i : Nat) => xcell cT ad h ((i : Int) + 1))
def xTys (cT : Nat → ClassId) : List (ClassId × FieldType) := (List.range 12).map (fun i => (cT i, xAT i))
theorem xTys_at (cT : Nat → ClassId) {t : Nat} (h : t < 12) : (xTys cT)[t]? = some (cT t, xAT t) := map_at _ (List.getElem?_range h)
theorem xW_at {cT : Nat → ClassId} {ad : Int → Nat} {h : XH} {a : Int} (h1 : 1 ≤ a) (h2 : a ≤ (xn h : Int)) : (xW cT ad h)[a.toNat - 1]? = some (xcell cT ad h a) := by
  have e : (((a.toNat - 1 : Nat) : Int)) + 1 = a := by omega
  have h3 := map_at (fun (i : Nat) => xcell cT ad h ((i : Int) + 1)) (List.getElem?_range (show a.toNat - 1 < xn h by omega))
  rw [e] at h3
  exact h3
theorem hset_k (h : XH) (a j x : Int) : xk (hset h a j x) = xk h := rfl
theorem hset_l (h : XH) (a j x : Int) : xl (hset h a j x) = xl h := rfl
theorem hset_n (h : XH) (a j x : Int) : xn (hset h a j x) = xn h := rfl
theorem hset_c (h : XH) (a j x : Int) : xc (hset h a j x) = xc h := rfl
theorem hset_s (h : XH) (a j x : Int) : xs (hset h a j x) = xs h := rfl
theorem hset_v (h : XH) (a j x b i : Int) : xv (hset h a j x) b i = if b = a ∧ i = j then x else xv h b i := rfl
theorem hset_vn {h : XH} {a j x b i : Int} (e : b ≠ a) : xv (hset h a j x) b i = xv h b i := if_neg fun q => e q.1
theorem hset_vj {h : XH} {a j x b i : Int} (e : i ≠ j) : xv (hset h a j x) b i = xv h b i := if_neg fun q => e q.2
theorem hset_vv {h : XH} {a j x : Int} : xv (hset h a j x) a j = x := if_pos ⟨rfl, rfl⟩
theorem xcell_ne {cT : Nat → ClassId} {ad : Int → Nat} {h : XH} {a j x b : Int} (e : b ≠ a) : xcell cT ad (hset h a j x) b = xcell cT ad h b := by
  unfold xcell xfs xarr
  simp only [hset_vn e]
  rfl
theorem xW_set {cT : Nat → ClassId} {ad : Int → Nat} {h : XH} {a j x : Int} (h1 : 1 ≤ a) (h2 : a ≤ (xn h : Int)) : (xW cT ad h).set (a.toNat - 1) (xcell cT ad (hset h a j x) a) = xW cT ad (hset h a j x) := by
  have e : (((a.toNat - 1 : Nat) : Int)) + 1 = a := by omega
  have hi : (List.range (xn h))[a.toNat - 1]? = some (a.toNat - 1) := List.getElem?_range (by omega)
  have h3 := map_set (f := fun (i : Nat) => xcell cT ad h ((i : Int) + 1)) (f' := fun (i : Nat) => xcell cT ad (hset h a j x) ((i : Int) + 1)) List.nodup_range hi (fun b _ hb => xcell_ne (by omega))
  rw [e] at h3
  exact h3
theorem okH.set {h : XH} (hk : okH h) {a j x : Int} (hx : okt (xn h) (xty h a j) x) : okH (hset h a j x) := by
  intro b b1 b2
  obtain ⟨g1, g2, g3⟩ := hk b b1 b2
  refine ⟨g1, g2, fun i => ?_⟩
  rw [hset_v]
  split
  · rename_i e; rw [e.1, e.2]; exact hx
  · exact g3 i
theorem rv_cong {ad ad' : Int → Nat} {N : Nat} (h : ∀ a : Int, a ≤ (N : Int) → ad' a = ad a) {r : Int} (hr : r ≤ (N : Int)) : rv ad' r = rv ad r := by unfold rv; rw [h r hr]
theorem ro_cong {ad ad' : Int → Nat} {N : Nat} (h : ∀ a : Int, a ≤ (N : Int) → ad' a = ad a) {r : Int} (hr : r ≤ (N : Int)) : ro ad' r = ro ad r := by unfold ro; rw [h r hr]
theorem xval_cong {ad ad' : Int → Nat} {N : Nat} (h : ∀ a : Int, a ≤ (N : Int) → ad' a = ad a) {t : Nat} {x : Int} (hx : okt N t x) : xval ad' t x = xval ad t x := by
  unfold xval okt at *
  split
  · rfl
  · rename_i e
    rw [if_neg e] at hx
    split
    · rename_i e2; rw [if_pos e2] at hx; exact rv_cong h hx
    · rfl
theorem cX_cong {ad ad' : Int → Nat} {N : Nat} (h : ∀ a : Int, a ≤ (N : Int) → ad' a = ad a) {v : AV} (hv : okX N v) : cX ad' v = cX ad v := by
  match v, hv with
  | (0, x), _ => rfl
  | (1, x), _ => rfl
  | (n + 2, r), hv =>
    have hr : r ≤ (N : Int) := by
      unfold okX at hv
      rw [if_neg (by simp), if_neg (by simp)] at hv
      exact hv
    exact rv_cong h hr
/-- a new cell, at an address of its own -/
theorem xW_new {cT : Nat → ClassId} {ad ad' : Int → Nat} {h : XH} (hk : okH h) (hag : ∀ a : Int, a ≤ (xn h : Int) → ad' a = ad a) (k n : Nat) : xW cT ad' (hnew h k n) = xW cT ad h ++ [xcell cT ad' (hnew h k n) (hnx h)] := by
  unfold xW
  have e : xn (hnew h k n) = xn h + 1 := rfl
  rw [e, List.range_succ, List.map_append]
  congr 1
  refine List.map_congr_left fun i hi => ?_
  have hi' : i < xn h := List.mem_range.mp hi
  have hne : ((i : Int) + 1) ≠ (xn h : Int) + 1 := by omega
  have ek : xk (hnew h k n) ((i : Int) + 1) = xk h ((i : Int) + 1) := if_neg hne
  have el : xl (hnew h k n) ((i : Int) + 1) = xl h ((i : Int) + 1) := if_neg hne
  have ev : ∀ j, xv (hnew h k n) ((i : Int) + 1) j = xv h ((i : Int) + 1) j := fun j => if_neg hne
  obtain ⟨g1, g2, g3⟩ := hk ((i : Int) + 1) (by omega) (by omega)
  unfold xcell
  rw [ek, hag _ (by omega)]
  by_cases hc : xk h ((i : Int) + 1) < 100
  · rw [if_pos hc, if_pos hc]
    congr 3
    unfold xfs
    refine List.map_congr_left fun j _ => ?_
    rw [ev]
    have := g3 (j : Int)
    unfold xty at this
    rw [if_pos hc] at this
    exact xval_cong hag this
  · rw [if_neg hc, if_neg hc]
    congr 3
    unfold xarr
    rw [el]
    simp only [ev]
    split
    · rfl
    · split
      · rename_i e1 e2
        congr 5
        funext j
        have := g3 (j : Int)
        unfold xty at this
        rw [if_neg hc] at this
        have e8 : xaty (xk h ((i : Int) + 1) - 100) = 8 := by
          match hq : xk h ((i : Int) + 1) - 100 with
          | 0 => omega
          | 1 => omega
          | 2 => omega
          | 3 => omega
          | m + 4 => rfl
        rw [e8] at this
        exact ro_cong hag this
      · rfl
theorem okt.up {N M t : Nat} (h : N ≤ M) {x : Int} (hx : okt N t x) : okt M t x := by
  unfold okt at *
  split
  · rename_i e; rw [if_pos e] at hx; exact hx
  · rename_i e
    rw [if_neg e] at hx
    split
    · rename_i e2; rw [if_pos e2] at hx; omega
    · rename_i e2; rw [if_neg e2] at hx; exact hx
theorem okt0 (N t : Nat) : okt N t 0 := by
  unfold okt in64 in8 in32
  split
  · omega
  · split
    · omega
    · split
      · exact Or.inl rfl
      · split <;> omega
theorem okH.new {h : XH} (hk : okH h) {k n : Nat} (hkn : k < 27 ∨ (100 ≤ k ∧ k < 112)) (hn : n < 2147483648) : okH (hnew h k n) := by
  intro b b1 b2
  by_cases e : b = (xn h : Int) + 1
  · have ek : xk (hnew h k n) b = k := if_pos e
    have el : xl (hnew h k n) b = n := if_pos e
    have ev : ∀ j, xv (hnew h k n) b j = 0 := fun j => if_pos e
    refine ⟨by rw [ek]; exact hkn, by rw [el]; exact hn, fun j => by rw [ev]; exact okt0 _ _⟩
  · have ek : xk (hnew h k n) b = xk h b := if_neg e
    have el : xl (hnew h k n) b = xl h b := if_neg e
    have ev : ∀ j, xv (hnew h k n) b j = xv h b j := fun j => if_neg e
    have b2' : b ≤ (xn h : Int) := by
      have : b ≤ ((xn h + 1 : Nat) : Int) := b2
      omega
    obtain ⟨g1, g2, g3⟩ := hk b b1 b2'
    refine ⟨by rw [ek]; exact g1, by rw [el]; exact g2, fun j => ?_⟩
    have et : xty (hnew h k n) b j = xty h b j := by unfold xty; rw [ek]
    rw [ev, et]
    exact (g3 j).up (Nat.le_succ _)
