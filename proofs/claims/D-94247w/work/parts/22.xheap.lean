/-! the system's layer: fields, arrays, new cells, casts -/
set_option maxRecDepth 100000
set_option maxHeartbeats 2000000
/-- the cell of a class is there -/
def ob {β : Type} (h : XH) (a : Int) (c : Nat) (r : Option β) : Option β := if 1 ≤ a ∧ a ≤ (xn h : Int) ∧ xk h a = c then r else none
/-- the array is there, and the place in range -/
def ai {β : Type} (h : XH) (a : Int) (t : Nat) (j : Int) (r : Option β) : Option β := if 1 ≤ a ∧ a ≤ (xn h : Int) ∧ xk h a = 100 + t ∧ 0 ≤ j ∧ j < (xl h a : Int) then r else none
theorem ob_some {β : Type} {h : XH} {a : Int} {c : Nat} {r : Option β} {b : β} (q : ob h a c r = some b) : 1 ≤ a ∧ a ≤ (xn h : Int) ∧ xk h a = c ∧ r = some b := by
  unfold ob at q; split at q
  · rename_i g; exact ⟨g.1, g.2.1, g.2.2, q⟩
  · cases q
theorem ai_some {β : Type} {h : XH} {a : Int} {t : Nat} {j : Int} {r : Option β} {b : β} (q : ai h a t j r = some b) : 1 ≤ a ∧ a ≤ (xn h : Int) ∧ xk h a = 100 + t ∧ 0 ≤ j ∧ j < (xl h a : Int) ∧ r = some b := by
  unfold ai at q; split at q
  · rename_i g; exact ⟨g.1, g.2.1, g.2.2.1, g.2.2.2.1, g.2.2.2.2, q⟩
  · cases q
theorem ob_ok {β : Type} {h : XH} {a : Int} {c : Nat} {r : Option β} (h1 : 1 ≤ a) (h2 : a ≤ (xn h : Int)) (h3 : xk h a = c) : ob h a c r = r := if_pos ⟨h1, h2, h3⟩
theorem ai_ok {β : Type} {h : XH} {a : Int} {t : Nat} {j : Int} {r : Option β} (h1 : 1 ≤ a) (h2 : a ≤ (xn h : Int)) (h3 : xk h a = 100 + t) (h4 : 0 ≤ j) (h5 : j < (xl h a : Int)) : ai h a t j r = r := if_pos ⟨h1, h2, h3, h4, h5⟩
theorem XM.ob {ρ : Type} {fh : ρ → XH} {h h0 : XH} {a : Int} {c : Nat} {r : Option ρ} (k : XM fh h r) : XM fh h (ob h0 a c r) := fun fin hf => k fin (ob_some hf).2.2.2
theorem XM.ai {ρ : Type} {fh : ρ → XH} {h h0 : XH} {a j : Int} {t : Nat} {r : Option ρ} (k : XM fh h r) : XM fh h (ai h0 a t j r) := fun fin hf => k fin (ai_some hf).2.2.2.2.2
theorem XM.set {ρ : Type} {fh : ρ → XH} {h : XH} {a j x : Int} {r : Option ρ} (k : XM fh (hset h a j x) r) : XM fh h r := k
theorem XM.new {ρ : Type} {fh : ρ → XH} {h : XH} {c n : Nat} {r : Option ρ} (k : XM fh (hnew h c n) r) : XM fh h r := fun fin hf => by
  obtain ⟨a, b, e⟩ := k fin hf
  have a' : xc h + 1 ≤ xc (fh fin) := a
  have b' : xs h + n ≤ xs (fh fin) := b
  have e' : xn h + 1 ≤ xn (fh fin) := e
  exact ⟨by omega, by omega, by omega⟩
theorem xcell_o {cT : Nat → ClassId} {ad : Int → Nat} {h : XH} {a : Int} {c : Nat} (hk : xk h a = c) (hc : c < 100) : xcell cT ad h a = (ad a, .inr (c, xfs ad h a c)) := by unfold xcell; rw [hk, if_pos hc]
theorem xcell_a {cT : Nat → ClassId} {ad : Int → Nat} {h : XH} {a : Int} {t : Nat} (hk : xk h a = 100 + t) : xcell cT ad h a = (ad a, .inl (cT t, xarr ad h a t)) := by
  unfold xcell
  have e : 100 + t - 100 = t := by omega
  rw [hk, if_neg (by omega), e]
theorem xfs_at (ad : Int → Nat) (h : XH) (a : Int) {c k : Nat} (hk : k < xNF c) : (xfs ad h a c)[k]? = some (xval ad (xft c k) (xv h a k)) := map_at (fun (i : Nat) => xval ad (xft c i) (xv h a i)) (List.getElem?_range hk)
theorem xfs_len (ad : Int → Nat) (h : XH) (a : Int) (c : Nat) : (xfs ad h a c).length = xNF c := by unfold xfs; rw [List.length_map, List.length_range]
theorem xfs_set {ad : Int → Nat} {h : XH} {a x : Int} {c k : Nat} (hk : k < xNF c) : (xfs ad h a c).set k (xval ad (xft c k) x) = xfs ad (hset h a k x) a c := by
  have hi : (List.range (xNF c))[k]? = some k := List.getElem?_range hk
  have h3 := map_set (f := fun (i : Nat) => xval ad (xft c i) (xv h a i)) (f' := fun (i : Nat) => xval ad (xft c i) (xv (hset h a k x) a i)) List.nodup_range hi (fun b _ hb => by
    show xval _ _ (xv (hset h a k x) a b) = _
    rw [hset_vj (by omega)])
  show (List.map _ _).set k _ = List.map _ _
  rw [← h3]
  congr 1
  show _ = xval ad (xft c k) (xv (hset h a k x) a k)
  rw [hset_vv]
theorem XS.okh {ρ : Type} {Z : XZ ρ} {h : XH} {ad : Int → Nat} {H : Heap} {locs : List Loc} {cells slots : Nat} (s : XS Z h ad H locs cells slots) : okH h := s.2.2.2.1
theorem XS.hP {ρ : Type} {Z : XZ ρ} {h : XH} {ad : Int → Nat} {H : Heap} {locs : List Loc} {cells slots : Nat} (s : XS Z h ad H locs cells slots) : va_P (yD Z) gcl (xW (yCT Z) ad h) H := s.1
theorem XS.hD {ρ : Type} {Z : XZ ρ} {h : XH} {ad : Int → Nat} {H : Heap} {locs : List Loc} {cells slots : Nat} (s : XS Z h ad H locs cells slots) : va_D (yAA Z) (xW (yCT Z) ad h) := s.2.1
theorem XS.hS {ρ : Type} {Z : XZ ρ} {h : XH} {ad : Int → Nat} {H : Heap} {locs : List Loc} {cells slots : Nat} (s : XS Z h ad H locs cells slots) : va_S (yAA Z) (yS Z).heap H locs := s.2.2.1
/-- the tag of a kind on the stack -/
def tgk (t : Nat) : Nat := if t = 1 then 1 else if t = 8 then 2 else 0
theorem xval_cX (ad : Int → Nat) (t : Nat) (x : Int) : xval ad t x = cX ad (tgk t, x) := by
  unfold xval tgk
  split
  · rfl
  · split <;> rfl
theorem okt_X {N t : Nat} {x : Int} (h : okt N t x) : okX N (tgk t, x) := by
  unfold okt at h
  unfold tgk
  split
  · rename_i e; rw [if_pos e] at h; exact h
  · rename_i e
    rw [if_neg e] at h
    split
    · rename_i e2; rw [if_pos e2] at h; exact h
    · rename_i e2
      rw [if_neg e2] at h
      show in32 x
      split at h
      · unfold in32; omega
      · split at h
        · exact in8_32 h
        · exact h
theorem okH.fld {h : XH} (hk : okH h) {a : Int} {c : Nat} (h1 : 1 ≤ a) (h2 : a ≤ (xn h : Int)) (h3 : xk h a = c) (hc : c < 100) (k : Nat) : okt (xn h) (xft c k) (xv h a k) := by
  have := (hk a h1 h2).2.2 (k : Int)
  unfold xty at this
  rw [h3, if_pos hc] at this
  exact this
theorem okH.arr {h : XH} (hk : okH h) {a : Int} {t : Nat} (h1 : 1 ≤ a) (h2 : a ≤ (xn h : Int)) (h3 : xk h a = 100 + t) (j : Int) : okt (xn h) (xaty t) (xv h a j) := by
  have := (hk a h1 h2).2.2 j
  unfold xty at this
  rw [h3, if_neg (by omega)] at this
  have e : 100 + t - 100 = t := by omega
  rw [e] at this
  exact this
section ROWS
variable {ρ : Type} {fh : ρ → XH} {QQ : XZ ρ → State → Prop} {own mn : String} {cc : ByteArray} {nL : Nat} {ret : Option FieldType} {d : Nat} {Z : XZ ρ} {pc : Nat} {lv : List (Nat × AV)} {st : List AV} {h : XH} {res : Option ρ}
theorem x_same {ref o n ds : String} (X : XX fh own mn cc nL ret d Z) (hT : o = ref ∨ Cond.sameField ref o n ds ∈ lw_all) : ∀ x, (yS Z).fieldFound? o n ds = some x → (yS Z).fieldFound? ref n ds = some x := fun x e => by
  rcases hT with rfl | hw
  · exact e
  · exact u_same (X.hts _ hw) x e
/-- getfield: the link is one of the lists, or a nest mate's -/
theorem x_get {C ref : String} {T : u_T} {N ix : Nat} {a : Int} (ci k : Nat) (hc : gcl[ci]? = some (C, T, N)) (hin : ∀ w ∈ u_ws C T N, w ∈ lw_all) (hci : ci < 100) (hN : xNF ci = N) (hk : k < N) (hT : (T k).1 = ref ∨ Cond.sameField ref (T k).1 (T k).2.1 (T k).2.2.1 ∈ lw_all) (hlink : Cond.fieldLink own ix ref (T k).2.1 (T k).2.2.1 ∈ lw_all) (hd : decode cc pc = .ok (.getfield ix, 3)) (kk : XG fh QQ own mn cc nL ret d Z (pc + 3) lv ((tgk (xft ci k), xv h a k) :: st) h res) : XG fh QQ own mn cc nL ret d Z pc lv ((2, a) :: st) h (ob h a ci res) := ⟨kk.1.ob, fun X ad H locs ls cells slots hS hl hlv hst hf0 => by
  obtain ⟨h1, h2, h3, hf⟩ := ob_some hf0
  have hq := xW_at (cT := yCT Z) (ad := ad) h1 h2
  rw [xcell_o h3 hci] at hq
  have hk2 := kk.2 X ad H locs ls cells slots hS hl hlv (hst.t.c (okt_X (hS.okh.fld h1 h2 h3 hci k))) hf
  show W _ _ _ _ _ _ _ _ _ _ _ _ _ _ _ (F0 _ _ _ (rv ad a :: _))
  unfold rv
  rw [if_neg (by omega)]
  refine va_get X.hx X.hb X.hts hin X.hown X.hK hS.hP (a.toNat - 1) hq hc k hk (X.hts _ hlink) (x_same X hT) (xfs_at ad h a (by omega)) hd ?_
  rw [xval_cX]
  exact hk2⟩
theorem x_getN {C ref host : String} {T : u_T} {N ix : Nat} {a : Int} (ci k : Nat) (hc : gcl[ci]? = some (C, T, N)) (hin : ∀ w ∈ u_ws C T N, w ∈ lw_all) (hci : ci < 100) (hN : xNF ci = N) (hk : k < N) (hT : (T k).1 = ref ∨ Cond.sameField ref (T k).1 (T k).2.1 (T k).2.2.1 ∈ lw_all) (hlink : Cond.fieldLinkNest own ix ref (T k).2.1 (T k).2.2.1 host ∈ lw_tbl) (hd : decode cc pc = .ok (.getfield ix, 3)) (kk : XG fh QQ own mn cc nL ret d Z (pc + 3) lv ((tgk (xft ci k), xv h a k) :: st) h res) : XG fh QQ own mn cc nL ret d Z pc lv ((2, a) :: st) h (ob h a ci res) := ⟨kk.1.ob, fun X ad H locs ls cells slots hS hl hlv hst hf0 => by
  obtain ⟨h1, h2, h3, hf⟩ := ob_some hf0
  have hq := xW_at (cT := yCT Z) (ad := ad) h1 h2
  rw [xcell_o h3 hci] at hq
  have hk2 := kk.2 X ad H locs ls cells slots hS hl hlv (hst.t.c (okt_X (hS.okh.fld h1 h2 h3 hci k))) hf
  show W _ _ _ _ _ _ _ _ _ _ _ _ _ _ _ (F0 _ _ _ (rv ad a :: _))
  unfold rv
  rw [if_neg (by omega)]
  refine va_getN X.hx X.hb X.hts hin X.hown X.hK hS.hP (a.toNat - 1) hq hc k hk (va_Nw.use rfl (X.hN.use hlink rfl)) (x_same X hT) (xfs_at ad h a (by omega)) hd ?_
  rw [xval_cX]
  exact hk2⟩
theorem XS.up {Z : XZ ρ} {h : XH} {ad : Int → Nat} {H H1 : Heap} {locs locs1 : List Loc} {cells slots : Nat} (s : XS Z h ad H locs cells slots) {a j x : Int} (ha : 1 ≤ a) (hx : okt (xn h) (xty h a j) x) (hP : va_P (yD Z) gcl (xW (yCT Z) ad (hset h a j x)) H1) (hD : va_D (yAA Z) (xW (yCT Z) ad (hset h a j x))) (hS : va_S (yAA Z) (yS Z).heap H1 locs1) : XS Z (hset h a j x) ad H1 locs1 cells slots := ⟨hP, hD, hS, s.okh.set hx, ⟨s.2.2.2.2.1.1, fun b i hb => by rw [hset_vn (by omega)]; exact s.2.2.2.2.1.2 b i hb⟩, s.2.2.2.2.2⟩
/-- what a field of a kind takes -/
def fk {β : Type} (t : Nat) (x : Int) (r : Option β) : Option β := if t = 2 then cb x r else r
theorem fk_some {β : Type} {t : Nat} {x : Int} {r : Option β} {b : β} (q : fk t x r = some b) : (t = 2 → x = 0 ∨ x = 1) ∧ r = some b := by
  unfold fk at q; split at q
  · have := cb_some q; exact ⟨fun _ => this.1, this.2⟩
  · rename_i e; exact ⟨fun g => absurd g e, q⟩
theorem XM.fk {t : Nat} {x : Int} (k : XM fh h res) : XM fh h (fk t x res) := fun fin hf => k fin (fk_some hf).2
theorem okt_of {N t : Nat} {x : Int} (ht : t ≠ 5) (h : okX N (tgk t, x)) (hb : t = 2 → x = 0 ∨ x = 1) : okt N t x := by
  unfold tgk at h
  unfold okt
  split
  · rename_i e; rw [if_pos e] at h; exact h
  · rename_i e
    rw [if_neg e] at h
    split
    · rename_i e2; rw [if_pos e2] at h; exact h
    · rename_i e2
      rw [if_neg e2] at h
      split
      · rename_i e3; exact hb e3
      · exact h
/-- the value fits the field -/
def fitk (t : Nat) (ty : FieldType) : Prop := (t = 0 ∧ ty = .int) ∨ (t = 1 ∧ ty = .long) ∨ (t = 2 ∧ ty = .boolean) ∨ (t = 8 ∧ ((∃ c, ty = .object c) ∨ ∃ e, ty = .array e))
theorem fitk_n {ad : Int → Nat} {N t : Nat} {ty : FieldType} (hf : fitk t ty) {x : Int} (hx : okt N t x) : narrow ty (xval ad t x) = xval ad t x ∧ fits ty (xval ad t x) = true := by
  rcases hf with ⟨rfl, rfl⟩ | ⟨rfl, rfl⟩ | ⟨rfl, rfl⟩ | ⟨rfl, ⟨c, rfl⟩ | ⟨e, rfl⟩⟩
  · exact ⟨rfl, rfl⟩
  · exact ⟨rfl, rfl⟩
  · have : x = 0 ∨ x = 1 := hx
    rcases this with rfl | rfl <;> exact ⟨rfl, rfl⟩
  · show narrow _ (rv ad x) = rv ad x ∧ fits _ (rv ad x) = true
    unfold rv; split <;> exact ⟨rfl, rfl⟩
  · show narrow _ (rv ad x) = rv ad x ∧ fits _ (rv ad x) = true
    unfold rv; split <;> exact ⟨rfl, rfl⟩
theorem x_put {C ref : String} {T : u_T} {N ix : Nat} {a x : Int} {f : XH → Option ρ} {ty0 : Nat → FieldType} (ci k : Nat) (hc : gcl[ci]? = some (C, T, N)) (hin : ∀ w ∈ u_ws C T N, w ∈ lw_all) (hty : ∀ k, k < N → parseFieldDescriptor (T k).2.2.1 = some (ty0 k)) (hnm : ∀ a, a < N → ∀ b, b < N → a ≠ b → (T a).2.1 ≠ (T b).2.1) (hci : ci < 100) (hN : xNF ci = N) (hk : k < N) (hT : (T k).1 = ref ∨ Cond.sameField ref (T k).1 (T k).2.1 (T k).2.2.1 ∈ lw_all) (hfin : (T k).2.2.2 = false) (hfk : fitk (xft ci k) (ty0 k)) (t : Nat) (ht : tgk (xft ci k) = t) (hlink : Cond.fieldLink own ix ref (T k).2.1 (T k).2.2.1 ∈ lw_all) (hd : decode cc pc = .ok (.putfield ix, 3)) (kk : ∀ h1, XG fh QQ own mn cc nL ret d Z (pc + 3) lv st h1 (f h1)) : XG fh QQ own mn cc nL ret d Z pc lv ((t, x) :: (2, a) :: st) h (ob h a ci (fk (xft ci k) x (nm (hset h a k x) f))) := ⟨((kk (hset h a k x)).1.set).fk.ob, fun X ad H locs ls cells slots hS hl hlv hst hf0 => by
  obtain ⟨h1, h2, h3, hf1⟩ := ob_some hf0
  obtain ⟨hb, hf⟩ := fk_some hf1
  have hq := xW_at (cT := yCT Z) (ad := ad) h1 h2
  rw [xcell_o h3 hci] at hq
  have ht5 : xft ci k ≠ 5 := by rcases hfk with ⟨e, -⟩ | ⟨e, -⟩ | ⟨e, -⟩ | ⟨e, -⟩ <;> omega
  have hxt : okt (xn h) (xft ci k) x := okt_of ht5 (by rw [ht]; exact hst.hd) hb
  have hxy : xty h a (k : Int) = xft ci k := by unfold xty; rw [h3, if_pos hci]; rfl
  have e0 : cX ad (t, x) = xval ad (xft ci k) x := by rw [xval_cX, ht]
  show W _ _ _ _ _ _ _ _ _ _ _ _ _ _ _ (F0 _ _ _ (cX ad (t, x) :: rv ad a :: _))
  rw [e0]
  unfold rv
  rw [if_neg (by omega)]
  refine va_put X.hx X.hb X.hts hin ty0 hty hnm X.hown X.hK hS.hP hS.hD hS.hS (a.toNat - 1) hq hc k hk (X.hts _ hlink) (x_same X hT) hfin (hty k hk) (fitk_n hfk hxt).1 (fitk_n hfk hxt).2 (by rw [xfs_len]; omega) hd (fun H1 locs1 hP1 hD1 hS1 => ?_)
  have e1 : (ad a, (Sum.inr (ci, (xfs ad h a ci).set k (xval ad (xft ci k) x)) : va_E)) = xcell (yCT Z) ad (hset h a k x) a := by rw [xcell_o (h := hset h a k x) h3 hci, xfs_set (by omega)]
  rw [e1, xW_set h1 h2] at hP1 hD1
  exact (kk _).2 X ad H1 locs1 ls cells slots (hS.up h1 (by rw [hxy]; exact hxt) hP1 hD1 hS1) hl hlv hst.t.t hf⟩
end ROWS
