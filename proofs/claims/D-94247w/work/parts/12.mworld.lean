/-! the model's layer: its one object and its arrays as one function of field number and place; a walk of its methods against pure functions -/
set_option maxRecDepth 100000
/-- the model's fields by number: 0 int, 1 long, 2 boolean; 3 ints, 4 longs, 5 bytes, 6 booleans -/
def mKinds : List Nat := [0, 0, 3, 3, 3, 6, 5, 5, 3, 0, 0, 3, 3, 3, 0, 0, 0, 0, 0, 0, 2, 3, 3, 3, 3, 3, 4, 4, 0, 0, 1, 3, 4, 3, 1, 0, 1, 0, 3, 3, 3, 3, 3, 0, 0, 0, 3, 3, 0, 0, 0, 2, 3, 3, 3, 3, 0, 0, 0, 0, 4, 4, 4, 0, 0, 0, 0, 0, 0, 0]
def mLens : List Nat := [0, 0, 7, 5201, 10402, 2, 76, 400, 5, 0, 0, 401, 401, 401, 0, 0, 0, 0, 0, 0, 0, 7, 3, 3, 3, 3, 4, 4, 0, 0, 0, 148176, 441, 80, 0, 0, 0, 0, 20, 400, 20, 20, 20, 0, 0, 0, 40, 20, 0, 0, 0, 0, 3, 12, 12, 12, 0, 0, 0, 0, 12, 12, 12, 0, 0, 0, 0, 0, 0, 0]
/-- the array fields, in the order of the world's cells -/
def mArrs : List Nat := [2, 3, 4, 5, 6, 7, 8, 11, 12, 13, 21, 22, 23, 24, 25, 26, 27, 31, 32, 33, 38, 39, 40, 41, 42, 46, 47, 52, 53, 54, 55, 60, 61, 62]
-- 0 status, 1 version, 2 refused, 3 kept, 4 images, 5 hasImage, 6 words, 7 tape, 8 five, 9 taped, 10 fault, 11 code, 12 value, 13 placed, 14 tokens, 15 token, 16 leaves, 17 bad, 18 go, 19 goEnd, 20 broken, 21 asked, 22 chances, 23 there, 24 likedThere, 25 drawnOf, 26 rights, 27 sums, 28 lie, 29 answered, 30 whole, 31 least, 32 passing, 33 costs, 34 schemeWhole, 35 schemedBy, 36 bestPassing, 37 bestHours, 38 levels, 39 behind, 40 hoursOf, 41 now, 42 since, 43 dropped, 44 firstDropped, 45 fell, 46 dayOf, 47 room, 48 at, 49 leftOut, 50 firstDay, 51 full, 52 hoursLeft, 53 learner, 54 bestLearner, 55 wellCost, 56 shareMany, 57 shareBest, 58 sharedBy, 59 lost, 60 one, 61 two, 62 step, 63 latest, 64 examTable, 65 examAnswered, 66 examRight, 67 lay, 68 gave, 69 were
abbrev VV : Type := Nat → Int → Int
abbrev AV : Type := Nat × Int
def mKind (k : Nat) : Nat := mKinds.getD k 9
def mLen (k : Nat) : Nat := mLens.getD k 0
def vup (V : VV) (k : Nat) (j x : Int) : VV := fun k' j' => if k' = k ∧ j' = j then x else V k' j'
/-- pure words of the functions: a name, a check, a call -/
def nm {α β : Type} (e : α) (f : α → β) : β := f e
def ck {β : Type} (j n : Int) (r : Option β) : Option β := if 0 ≤ j ∧ j < n then r else none
def cz {β : Type} (b : Int) (r : Option β) : Option β := if b = 0 then none else r
def cb {β : Type} (b : Int) (r : Option β) : Option β := if b = 0 ∨ b = 1 then r else none
def mb {σ β : Type} (x : Option (Int × σ)) (f : Int → σ → Option β) : Option β := x.bind fun u => f u.1 u.2
def ca {β : Type} (kd : Nat) (k j : Int) (r : Option β) : Option β := if mKind k.toNat = kd ∧ 0 ≤ j ∧ j < (mLen k.toNat : Int) then r else none
theorem ck_ok {β : Type} {j n : Int} {r : Option β} (h0 : 0 ≤ j) (h1 : j < n) : ck j n r = r := if_pos ⟨h0, h1⟩
theorem cz_ok {β : Type} {b : Int} {r : Option β} (h : b ≠ 0) : cz b r = r := if_neg h
theorem cb_ok {β : Type} {b : Int} {r : Option β} (h : b = 0 ∨ b = 1) : cb b r = r := if_pos h
theorem mb_some {σ β : Type} (a : Int) (b : σ) (f : Int → σ → Option β) : mb (some (a, b)) f = f a b := rfl
theorem ck_some {β : Type} {j n : Int} {r : Option β} {b : β} (h : ck j n r = some b) : 0 ≤ j ∧ j < n ∧ r = some b := by
  unfold ck at h; split at h
  · rename_i g; exact ⟨g.1, g.2, h⟩
  · cases h
theorem cz_some {β : Type} {j : Int} {r : Option β} {b : β} (h : cz j r = some b) : j ≠ 0 ∧ r = some b := by
  unfold cz at h; split at h
  · cases h
  · rename_i g; exact ⟨g, h⟩
theorem cb_some {β : Type} {j : Int} {r : Option β} {b : β} (h : cb j r = some b) : (j = 0 ∨ j = 1) ∧ r = some b := by
  unfold cb at h; split at h
  · rename_i g; exact ⟨g, h⟩
  · cases h
theorem ca_some {β : Type} {kd : Nat} {k j : Int} {r : Option β} {b : β} (h : ca kd k j r = some b) : mKind k.toNat = kd ∧ 0 ≤ j ∧ j < (mLen k.toNat : Int) ∧ r = some b := by
  unfold ca at h; split at h
  · rename_i g; exact ⟨g.1, g.2.1, g.2.2, h⟩
  · cases h
theorem mb_eq {σ β : Type} {x : Option (Int × σ)} {f : Int → σ → Option β} {b : β} (h : mb x f = some b) : ∃ r V, x = some (r, V) ∧ f r V = some b := by
  unfold mb at h
  cases x with
  | none => cases h
  | some u => exact ⟨u.1, u.2, rfl, h⟩
/-- ranges -/
def okx (kd : Nat) (x : Int) : Prop := if kd = 1 ∨ kd = 4 then in64 x else if kd = 5 then in8 x else if kd = 2 ∨ kd = 6 then (x = 0 ∨ x = 1) else in32 x
def okV (V : VV) : Prop := ∀ k j, okx (mKind k) (V k j)
def okA (v : AV) : Prop := if v.1 = 0 then in32 v.2 else if v.1 = 1 then in64 v.2 else if v.1 = 2 then 0 ≤ v.2 else True
def okl (lv : List (Nat × AV)) : Prop := ∀ q ∈ lv, okA q.2
def oks (st : List AV) : Prop := ∀ v ∈ st, okA v
theorem okV.up {V : VV} (h : okV V) {k : Nat} {j x : Int} (hx : okx (mKind k) x) : okV (vup V k j x) := by
  intro k' j'
  unfold vup
  split
  · rename_i g; rw [g.1]; exact hx
  · exact h k' j'
theorem okV.i32 {V : VV} (h : okV V) {k : Nat} (hk : mKind k ≠ 1) (hk4 : mKind k ≠ 4) (j : Int) : in32 (V k j) := by
  have := h k j
  unfold okx at this
  rw [if_neg (by omega)] at this
  split at this
  · exact in8_32 this
  · split at this
    · unfold in32; omega
    · exact this
theorem okV.i64 {V : VV} (h : okV V) {k : Nat} (hk : mKind k = 1 ∨ mKind k = 4) (j : Int) : in64 (V k j) := by
  have := h k j
  unfold okx at this
  rw [if_pos hk] at this
  exact this
theorem oks.nil : oks [] := fun v h => absurd h List.not_mem_nil
theorem oks.c {v : AV} {st : List AV} (hv : okA v) (h : oks st) : oks (v :: st) := fun w hw => by
  rcases List.mem_cons.mp hw with rfl | hw
  · exact hv
  · exact h w hw
theorem oks.t {v : AV} {st : List AV} (h : oks (v :: st)) : oks st := fun w hw => h w (List.mem_cons_of_mem _ hw)
theorem oks.hd {v : AV} {st : List AV} (h : oks (v :: st)) : okA v := h v List.mem_cons_self
theorem oks.i {x : Int} {st : List AV} (h : oks ((0, x) :: st)) : in32 x := h.hd
theorem oks.l {x : Int} {st : List AV} (h : oks ((1, x) :: st)) : in64 x := h.hd
theorem okA.i {x : Int} (h : in32 x) : okA (0, x) := h
theorem okA.l {x : Int} (h : in64 x) : okA (1, x) := h
theorem okA.r (k : Nat) : okA (2, (k : Int)) := Int.natCast_nonneg k
theorem okA.t (k : Int) : okA (3, k) := trivial
/-- the machine's values and cells -/
def cA (aM : Nat → Nat) (a0 : Nat) (v : AV) : Value := match v with
  | (0, x) => .int (I32 x)
  | (1, x) => .long (I64 x)
  | (2, k) => .ref (aM k.toNat)
  | (_, _) => .ref a0
def cl1 (aM : Nat → Nat) (a0 : Nat) (q : Nat × AV) : Nat × Value := (q.1, cA aM a0 q.2)
def mFld (aM : Nat → Nat) (V : VV) (k : Nat) : Value := if mKind k = 1 then .long (I64 (V k 0)) else if mKind k < 3 then .int (I32 (V k 0)) else .ref (aM k)
def mArr (V : VV) (k : Nat) : vp_A := if mKind k = 4 then (mLen k, .inr (.inl fun j => I64 (V k j))) else (mLen k, .inl fun j => I32 (V k j))
def mCell (cT : Nat → ClassId) (aM : Nat → Nat) (V : VV) (k : Nat) : Nat × va_E := (aM k, .inl (cT (mKind k), mArr V k))
def mFs (aM : Nat → Nat) (V : VV) : List Value := (List.range 70).map (mFld aM V)
def mW (cT : Nat → ClassId) (aM : Nat → Nat) (a0 : Nat) (V : VV) : va_W := (a0, .inr (0, mFs aM V)) :: mArrs.map (mCell cT aM V)
def mTys (cT : Nat → ClassId) : List (ClassId × FieldType) := [(cT 3, .int), (cT 4, .long), (cT 5, .byte), (cT 6, .boolean)]
def mA (aM : Nat → Nat) (a0 : Nat) : Nat → Prop := fun q => q = a0 ∨ ∃ k, k ∈ mArrs ∧ q = aM k
def mDis (aM : Nat → Nat) (a0 : Nat) : Prop := (∀ k ∈ mArrs, aM k ≠ a0) ∧ ∀ k ∈ mArrs, ∀ j ∈ mArrs, aM k = aM j → k = j
def mRm (d : Nat) : Room := { frames := d, cells := 0, slots := 0, locals := 64 * d }
theorem map_at {α β : Type} (f : α → β) {l : List α} {i : Nat} {a : α} (h : l[i]? = some a) : (l.map f)[i]? = some (f a) := by rw [List.getElem?_map, h]; rfl
theorem map_set {α β : Type} {l : List α} (hl : l.Nodup) {f f' : α → β} {i : Nat} {a : α} (h : l[i]? = some a) (hf : ∀ b ∈ l, b ≠ a → f' b = f b) : (l.map f).set i (f' a) = l.map f' := by
  apply List.ext_getElem?
  intro j
  rw [List.getElem?_set, List.getElem?_map, List.getElem?_map]
  by_cases e : i = j
  · subst e
    rw [if_pos rfl, h]
    have : i < (l.map f).length := by rw [List.length_map]; exact (List.getElem?_eq_some_iff.mp h).1
    rw [if_pos this]; rfl
  · rw [if_neg e]
    cases hj : l[j]? with
    | none => rfl
    | some b =>
      have hb : b ≠ a := by
        intro q
        subst q
        exact e ((List.getElem?_inj (List.getElem?_eq_some_iff.mp h).1 hl).mp (by rw [h, hj]))
      show some (f b) = some (f' b)
      rw [hf b (List.mem_of_getElem? hj) hb]
theorem mArrs_nd : mArrs.Nodup := by decide +kernel
theorem mArrs_kd : ∀ k ∈ mArrs, 3 ≤ mKind k := by decide +kernel
theorem mKind_arr : ∀ k, k < 70 → 3 ≤ mKind k → k ∈ mArrs := by decide +kernel
theorem mKind_lt {k : Nat} (h : mKind k ≠ 9) : k < 70 := by
  rcases Nat.lt_or_ge k 70 with q | q
  · exact q
  · exact absurd (by unfold mKind; rw [List.getD_eq_getElem?_getD, List.getElem?_eq_none (show mKinds.length ≤ k from q)]; rfl) h
theorem mLen_lt : ∀ k, k < 70 → mLen k < 2147483648 := by decide +kernel
theorem mW_D {cT : Nat → ClassId} {aM : Nat → Nat} {a0 : Nat} (h : mDis aM a0) (V : VV) : va_D (mA aM a0) (mW cT aM a0 V) := by
  constructor
  · intro i j p q hi hj e
    cases i with
    | zero =>
      cases j with
      | zero => rfl
      | succ j =>
        simp only [mW, List.getElem?_cons_zero, List.getElem?_cons_succ] at hi hj
        rw [List.getElem?_map] at hj
        cases hk : mArrs[j]? with
        | none => rw [hk] at hj; cases hj
        | some k => rw [hk] at hj; cases hj; cases hi; exact absurd e.symm (h.1 k (List.mem_of_getElem? hk))
    | succ i =>
      simp only [mW, List.getElem?_cons_succ] at hi
      rw [List.getElem?_map] at hi
      cases hk : mArrs[i]? with
      | none => rw [hk] at hi; cases hi
      | some k =>
        rw [hk] at hi; cases hi
        cases j with
        | zero =>
          simp only [mW, List.getElem?_cons_zero] at hj
          cases hj
          exact absurd e (h.1 k (List.mem_of_getElem? hk))
        | succ j =>
          simp only [mW, List.getElem?_cons_succ] at hj
          rw [List.getElem?_map] at hj
          cases hk2 : mArrs[j]? with
          | none => rw [hk2] at hj; cases hj
          | some k2 =>
            rw [hk2] at hj; cases hj
            have := h.2 k (List.mem_of_getElem? hk) k2 (List.mem_of_getElem? hk2) e
            subst this
            have hij : i = j := (List.getElem?_inj (List.getElem?_eq_some_iff.mp hk).1 mArrs_nd).mp (hk.trans hk2.symm)
            rw [hij]
  · intro i q hi
    cases i with
    | zero => simp only [mW, List.getElem?_cons_zero] at hi; cases hi; exact Or.inl rfl
    | succ i =>
      simp only [mW, List.getElem?_cons_succ] at hi
      rw [List.getElem?_map] at hi
      cases hk : mArrs[i]? with
      | none => rw [hk] at hi; cases hi
      | some k => rw [hk] at hi; cases hi; exact Or.inr ⟨k, List.mem_of_getElem? hk, rfl⟩
theorem vup_ne {V : VV} {k k' : Nat} {j j' x : Int} (h : k' ≠ k) : vup V k j x k' j' = V k' j' := if_neg fun q => h q.1
theorem vup_nj {V : VV} {k k' : Nat} {j j' x : Int} (h : j' ≠ j) : vup V k j x k' j' = V k' j' := if_neg fun q => h q.2
theorem vup_eq {V : VV} {k : Nat} {j x : Int} : vup V k j x k j = x := if_pos ⟨rfl, rfl⟩
theorem mFs_up {aM : Nat → Nat} {V : VV} {k : Nat} {j x : Int} (hk : 3 ≤ mKind k) : mFs aM (vup V k j x) = mFs aM V := by
  refine List.map_congr_left fun k' _ => ?_
  by_cases e : k' = k
  · subst e; unfold mFld; rw [if_neg (by omega), if_neg (by omega), if_neg (by omega), if_neg (by omega)]
  · unfold mFld; rw [vup_ne e]
/-- the world after a write to an array -/
theorem mW_arr {cT : Nat → ClassId} {aM : Nat → Nat} {a0 : Nat} {V : VV} {i k : Nat} {j x : Int} (hi : mArrs[i]? = some k) : (mW cT aM a0 V).set (i + 1) (mCell cT aM (vup V k j x) k) = mW cT aM a0 (vup V k j x) := by
  unfold mW
  rw [List.set_cons_succ, mFs_up (mArrs_kd k (List.mem_of_getElem? hi)), map_set mArrs_nd hi]
  intro b _ hb
  unfold mCell mArr
  simp only [vup_ne hb]
theorem mW_fld {cT : Nat → ClassId} {aM : Nat → Nat} {a0 : Nat} {V : VV} {k : Nat} {x : Int} (hk : mKind k < 3) (h7 : k < 70) : (mW cT aM a0 V).set 0 (a0, .inr (0, (mFs aM V).set k (mFld aM (vup V k 0 x) k))) = mW cT aM a0 (vup V k 0 x) := by
  unfold mW
  rw [List.set_cons_zero]
  have h1 : (mFs aM V).set k (mFld aM (vup V k 0 x) k) = mFs aM (vup V k 0 x) := by
    unfold mFs
    refine map_set List.nodup_range (by rw [List.getElem?_range h7]) fun b _ hb => ?_
    unfold mFld; rw [vup_ne hb]
  rw [h1]
  congr 1
  refine List.map_congr_left fun b hb => ?_
  have h2 := mArrs_kd b hb
  have h3 : b ≠ k := fun q => by subst q; omega
  unfold mCell mArr
  simp only [vup_ne h3]
