/-! the system's layer: new cells, casts, returns -/
set_option maxRecDepth 100000
set_option maxHeartbeats 2000000
/-- a new cell: its name and the heap with it -/
def nw {β : Type} (h : XH) (k n : Nat) (f : Int → XH → Option β) : Option β := f (hnx h) (hnew h k n)
def na {β : Type} (h : XH) (t : Nat) (n : Int) (f : Int → XH → Option β) : Option β := if 0 ≤ n ∧ n ≤ 1000000 then f (hnx h) (hnew h (100 + t) n.toNat) else none
theorem na_some {β : Type} {h : XH} {t : Nat} {n : Int} {f : Int → XH → Option β} {b : β} (q : na h t n f = some b) : 0 ≤ n ∧ n ≤ 1000000 ∧ f (hnx h) (hnew h (100 + t) n.toNat) = some b := by
  unfold na at q; split at q
  · rename_i g; exact ⟨g.1, g.2, q⟩
  · cases q
theorem na_ok {β : Type} {h : XH} {t : Nat} {n : Int} {f : Int → XH → Option β} (h1 : 0 ≤ n) (h2 : n ≤ 1000000) : na h t n f = f (hnx h) (hnew h (100 + t) n.toNat) := if_pos ⟨h1, h2⟩
theorem va_RA_uniq {U : State} {c1 c2 : ClassId} {ty : FieldType} (h1 : va_RA U c1 ty) (h2 : va_RA U c2 ty) : c1 = c2 := by
  cases ty with
  | object C =>
    obtain ⟨_, _, _, _, _, e1⟩ := h1
    obtain ⟨_, _, _, _, _, e2⟩ := h2
    exact Option.some.inj (e1.symm.trans e2)
  | _ => exact Option.some.inj ((show _ = some c1 from h1).symm.trans (show _ = some c2 from h2))
def adn (ad : Int → Nat) (h : XH) (q : Nat) : Int → Nat := fun a => if a = hnx h then q else ad a
theorem adn_old {ad : Int → Nat} {h : XH} {q : Nat} {a : Int} (e : a ≤ (xn h : Int)) : adn ad h q a = ad a := if_neg (by unfold hnx; omega)
theorem adn_new {ad : Int → Nat} {h : XH} {q : Nat} : adn ad h q (hnx h) = q := if_pos rfl
section ROWS
variable {ρ : Type} {fh : ρ → XH} {QQ : XZ ρ → State → Prop} {own mn : String} {cc : ByteArray} {nL : Nat} {ret : Option FieldType} {d : Nat} {Z : XZ ρ} {pc : Nat} {lv : List (Nat × AV)} {st : List AV} {h : XH} {res : Option ρ}
theorem XM.nw {k n : Nat} {f : Int → XH → Option ρ} (kk : XM fh (hnew h k n) (f (hnx h) (hnew h k n))) : XM fh h (nw h k n f) := kk.new
theorem XM.na {t : Nat} {n : Int} {f : Int → XH → Option ρ} (kk : XM fh (hnew h (100 + t) n.toNat) (f (hnx h) (hnew h (100 + t) n.toNat))) : XM fh h (na h t n f) := fun fin hf => kk.new fin (na_some hf).2.2
/-- behind an allocation -/
theorem x_newS {Z : XZ ρ} {ad : Int → Nat} {H H1 : Heap} {locs : List Loc} {ls : Array Slot} {cells slots q k n : Nat} (hS : XS Z h ad H locs cells slots) (hl : lv_has ls (yC Z).maxLocals (lv.map (cX1 ad))) (hlv : okXl (xn h) lv) (hst : okXs (xn h) st) (hkn : k < 27 ∨ (100 ≤ k ∧ k < 112)) (hn : n < 2147483648)
    (hP : va_P (yD Z) gcl (xW (yCT Z) ad h ++ [xcell (yCT Z) (adn ad h q) (hnew h k n) (hnx h)]) H1) (hD : va_D (yAA Z) (xW (yCT Z) ad h ++ [xcell (yCT Z) (adn ad h q) (hnew h k n) (hnx h)])) (hS1 : va_S (yAA Z) (yS Z).heap H1 locs) :
    XS Z (hnew h k n) (adn ad h q) H1 locs (cells + 1) (slots + n) ∧ lv_has ls (yC Z).maxLocals (lv.map (cX1 (adn ad h q))) ∧ okXl (xn (hnew h k n)) lv ∧ okXs (xn (hnew h k n)) ((2, hnx h) :: st) ∧ ((2, hnx h) :: st).map (cX (adn ad h q)) = .ref q :: st.map (cX ad) := by
  obtain ⟨p1, p2, p3, p4, p5, p6, p7, p8⟩ := hS
  have hag : ∀ a : Int, a ≤ (xn h : Int) → adn ad h q a = ad a := fun a e => adn_old e
  rw [← xW_new p4 hag] at hP hD
  have e2 : xc (hnew h k n) = xc h + 1 := rfl
  have e3 : xs (hnew h k n) = xs h + n := rfl
  have e4 : xn (hnew h k n) = xn h + 1 := rfl
  refine ⟨⟨hP, hD, hS1, p4.new hkn hn, ⟨fun a e => ?_, fun a j ha => ?_⟩, by omega, by omega, by omega⟩, ?_, hlv.up (by omega), (hst.up (by omega)).c (okX.r (by rw [e4]; unfold hnx; omega)), ?_⟩
  · rw [hag a (by omega)]; exact p5.1 a e
  · have e9 : xv (hnew h k n) a j = xv h a j := if_neg (by omega)
    rw [e9]; exact p5.2 a j ha
  · have : lv.map (cX1 (adn ad h q)) = lv.map (cX1 ad) := List.map_congr_left fun q0 hq0 => by unfold cX1; rw [cX_cong hag (hlv q0 hq0)]
    rw [this]; exact hl
  · have : st.map (cX (adn ad h q)) = st.map (cX ad) := List.map_congr_left fun q0 hq0 => cX_cong hag (hst q0 hq0)
    rw [List.map_cons, this]
    congr 1
    show rv (adn ad h q) (hnx h) = _
    unfold rv
    rw [if_neg (by unfold hnx; omega), adn_new]
theorem dflt_fit {ad : Int → Nat} {t : Nat} {ty : FieldType} (hf : fitk t ty) : defaultValue ty = xval ad t 0 := by
  rcases hf with ⟨rfl, rfl⟩ | ⟨rfl, rfl⟩ | ⟨rfl, rfl⟩ | ⟨rfl, ⟨c, rfl⟩ | ⟨e, rfl⟩⟩ <;> rfl
theorem xfs_new (ad : Int → Nat) (h : XH) (c k n : Nat) {j : Nat} (hj : j < xNF c) : vp_V (xfs ad (hnew h k n) (hnx h) c) j = xval ad (xft c j) 0 := by
  unfold vp_V
  rw [List.getD_eq_getElem?_getD, xfs_at _ _ _ hj]
  show xval ad (xft c j) (xv (hnew h k n) (hnx h) j) = _
  have : xv (hnew h k n) (hnx h) j = 0 := if_pos rfl
  rw [this]
theorem x_new {C : String} {T : u_T} {N ix : Nat} {f : Int → XH → Option ρ} {ty0 : Nat → FieldType} (ci : Nat) (hc : gcl[ci]? = some (C, T, N)) (hin : ∀ w ∈ u_ws C T N, w ∈ lw_all) (hty : ∀ k, k < N → parseFieldDescriptor (T k).2.2.1 = some (ty0 k)) (hci : ci < 27) (hN : xNF ci = N) (hN2 : N < 100) (hfit : ∀ k, k < N → fitk (xft ci k) (ty0 k)) (hcl : Cond.classLink own ix C ∈ lw_all) (hinst : Cond.instantiable C N ∈ lw_all) (hini : Cond.initialized C ∈ lw_all) (hd : decode cc pc = .ok (.new ix, 3)) (kk : ∀ r h1, XG fh QQ own mn cc nL ret d Z (pc + 3) lv ((2, r) :: st) h1 (f r h1)) : XG fh QQ own mn cc nL ret d Z pc lv st h (nw h ci N f) := ⟨(kk _ _).1.nw, fun X ad H locs ls cells slots hS hl hlv hst hf => by
  have hmo := (kk (hnx h) (hnew h ci N)).1 (yF Z) hf
  obtain ⟨p1, p2, p3, p4, p5, p6, p7, p8⟩ := hS
  have e2 : xc (hnew h ci N) = xc h + 1 := rfl
  have e3 : xs (hnew h ci N) = xs h + N := rfl
  refine va_new (c0 := yC Z) (fs := xfs ad (hnew h ci N) (hnx h) ci) X.hx X.hb X.hts hin ty0 hty X.hown (X.hts _ hcl) (X.hts _ hinst) (X.hts _ hini) X.hK p1 p2 p3 X.hA hc (fun j hj => by rw [xfs_new _ _ _ _ _ (by omega)]; exact dflt_fit (hfit j hj)) (by rw [X.hR]; show cells + 1 ≤ xc (fh (yF Z)) - xc (yH Z); omega) (by rw [X.hR]; show slots + N ≤ xs (fh (yF Z)) - xs (yH Z); omega) hd (fun q H1 hP1 hD1 hS1 => ?_)
  have ek : xk (hnew h ci N) (hnx h) = ci := if_pos rfl
  have ec : xcell (yCT Z) (adn ad h q) (hnew h ci N) (hnx h) = (q, .inr (ci, xfs ad (hnew h ci N) (hnx h) ci)) := by
    rw [xcell_o ek (by omega), adn_new]
    congr 3
    unfold xfs
    refine List.map_congr_left fun j _ => ?_
    have : xv (hnew h ci N) (hnx h) j = 0 := if_pos rfl
    rw [this]
    unfold xval; split; rfl; split <;> rfl
  rw [← ec] at hP1 hD1
  obtain ⟨g1, g2, g3, g4, g5⟩ := x_newS (lv := lv) (ls := ls) ⟨p1, p2, p3, p4, p5, p6, p7, p8⟩ hl hlv hst (Or.inl hci) (by omega) hP1 hD1 hS1
  have := (kk (hnx h) (hnew h ci N)).2 X _ H1 locs ls (cells + 1) (slots + N) g1 g2 g3 g4 hf
  rw [g5] at this
  exact this⟩
/-- newarray: t the array's kind -/
theorem x_newarr {atype : ArrayType} {ty : FieldType} {n : Int} {f : Int → XH → Option ρ} (t : Nat) (ht : t < 4) (hat : newarray.typeOf atype = ty) (hxt : xAT t = ty) (hq : Cond.arrayClass ty ∈ lw_all) (hd : decode cc pc = .ok (.newarray atype, 2)) (kk : ∀ r h1, XG fh QQ own mn cc nL ret d Z (pc + 2) lv ((2, r) :: st) h1 (f r h1)) : XG fh QQ own mn cc nL ret d Z pc lv ((0, n) :: st) h (na h t n f) := ⟨(kk _ _).1.na, fun X ad H locs ls cells slots hS hl hlv hst hf0 => by
  obtain ⟨n0, n1, hf⟩ := na_some hf0
  have hmo := (kk (hnx h) (hnew h (100 + t) n.toNat)).1 (yF Z) hf
  obtain ⟨p1, p2, p3, p4, p5, p6, p7, p8⟩ := hS
  have e2 : xc (hnew h (100 + t) n.toNat) = xc h + 1 := rfl
  have e3 : xs (hnew h (100 + t) n.toNat) = xs h + n.toNat := rfl
  have ek : xk (hnew h (100 + t) n.toNat) (hnx h) = 100 + t := if_pos rfl
  have el : xl (hnew h (100 + t) n.toNat) (hnx h) = n.toNat := if_pos rfl
  have ev : ∀ j, xv (hnew h (100 + t) n.toNat) (hnx h) j = 0 := fun j => if_pos rfl
  have h32 : in32 n := hst.hd
  have ecl := I32_clamp h32 n0
  have ha0 : ∀ cA : ClassId, vp_cell cA (xarr ad (hnew h (100 + t) n.toNat) (hnx h) t) = arrV cA n.toNat (fun _ => defaultValue ty) := by
    intro cA
    subst hxt
    unfold xarr
    rw [el]
    simp only [ev]
    match t, ht with
    | 0, _ => rfl
    | 1, _ => rfl
    | 2, _ => rfl
    | 3, _ => rfl
  have hcb : componentBytes ty ≤ 8 := by
    subst hxt
    match t, ht with
    | 0, _ => decide
    | 1, _ => decide
    | 2, _ => decide
    | 3, _ => decide
  have hbytes : n.toNat * componentBytes ty ≤ 536870912 := by
    have : n.toNat ≤ 1000000 := by omega
    calc n.toNat * componentBytes ty ≤ 1000000 * 8 := Nat.mul_le_mul this hcb
      _ ≤ 536870912 := by decide
  refine va_newa (atype := atype) (ty := ty) (n := I32 n) (N' := n.toNat) (a0 := xarr ad (hnew h (100 + t) n.toNat) (hnx h) t) X.hx X.hb (by rw [hat]; exact X.hts _ hq) hat X.hK p1 p2 p3 X.hA ha0 (fun q => absurd ((I32_lt h32 in32_0).mp q) (by omega)) ecl hbytes (by rw [X.hR]; show cells + 1 ≤ xc (fh (yF Z)) - xc (yH Z); omega) (by rw [X.hR]; show slots + n.toNat ≤ xs (fh (yF Z)) - xs (yH Z); omega) hd (fun q cA H1 hK1 hP1 hD1 hS1 => ?_)
  have hcA : cA = yCT Z t := by
    have r1 := (hK1.2 (xTys (yCT Z)).length (cA, ty) (by simp)).2
    have r2 := (X.hK.2 t _ (xTys_at (yCT Z) (by omega))).2
    rw [hxt] at r2
    exact va_RA_uniq r1 r2
  subst hcA
  have ec : xcell (yCT Z) (adn ad h q) (hnew h (100 + t) n.toNat) (hnx h) = (q, .inl (yCT Z t, xarr ad (hnew h (100 + t) n.toNat) (hnx h) t)) := by
    rw [xcell_a ek, adn_new]
    congr 3
    unfold xarr
    rw [el]
    simp only [ev]
    split; rfl; split
    · omega
    · rfl
  rw [← ec] at hP1 hD1
  obtain ⟨g1, g2, g3, g4, g5⟩ := x_newS (lv := lv) (ls := ls) (st := st) ⟨p1, p2, p3, p4, p5, p6, p7, p8⟩ hl hlv hst.t (Or.inr ⟨by omega, by omega⟩) (by omega) hP1 hD1 hS1
  have := (kk (hnx h) (hnew h (100 + t) n.toNat)).2 X _ H1 locs ls (cells + 1) (slots + n.toNat) g1 g2 g3 g4 hf
  rw [g5] at this
  exact this⟩
/-- anewarray -/
theorem x_newq {C : String} {ix : Nat} {n : Int} {f : Int → XH → Option ρ} (t : Nat) (ht4 : 4 ≤ t) (ht : t < 12) (hxt : xAT t = .object C) (hcl : Cond.classLink own ix C ∈ lw_all) (hq : Cond.arrayOver (.object C) ∈ lw_tbl) (hd : decode cc pc = .ok (.anewarray ix, 3)) (kk : ∀ r h1, XG fh QQ own mn cc nL ret d Z (pc + 3) lv ((2, r) :: st) h1 (f r h1)) : XG fh QQ own mn cc nL ret d Z pc lv ((0, n) :: st) h (na h t n f) := ⟨(kk _ _).1.na, fun X ad H locs ls cells slots hS hl hlv hst hf0 => by
  obtain ⟨n0, n1, hf⟩ := na_some hf0
  have hmo := (kk (hnx h) (hnew h (100 + t) n.toNat)).1 (yF Z) hf
  obtain ⟨p1, p2, p3, p4, p5, p6, p7, p8⟩ := hS
  have e2 : xc (hnew h (100 + t) n.toNat) = xc h + 1 := rfl
  have e3 : xs (hnew h (100 + t) n.toNat) = xs h + n.toNat := rfl
  have ek : xk (hnew h (100 + t) n.toNat) (hnx h) = 100 + t := if_pos rfl
  have el : xl (hnew h (100 + t) n.toNat) (hnx h) = n.toNat := if_pos rfl
  have ev : ∀ j, xv (hnew h (100 + t) n.toNat) (hnx h) j = 0 := fun j => if_pos rfl
  have h32 : in32 n := hst.hd
  have ecl := I32_clamp h32 n0
  refine va_newq (C := C) (n := I32 n) (N' := n.toNat) X.hx X.hb X.hown (X.hts _ hcl) (X.hN.use hq rfl) X.hK p1 p2 p3 X.hA (fun q => absurd ((I32_lt h32 in32_0).mp q) (by omega)) ecl (by omega) (by rw [X.hR]; show cells + 1 ≤ xc (fh (yF Z)) - xc (yH Z); omega) (by rw [X.hR]; show slots + n.toNat ≤ xs (fh (yF Z)) - xs (yH Z); omega) hd (fun q cA H1 hK1 hP1 hD1 hS1 => ?_)
  have hcA : cA = yCT Z t := by
    have r1 := (hK1.2 (xTys (yCT Z)).length (cA, .object C) (by simp)).2
    have r2 := (X.hK.2 t _ (xTys_at (yCT Z) (by omega))).2
    rw [hxt] at r2
    exact va_RA_uniq r1 r2
  subst hcA
  have ec : xcell (yCT Z) (adn ad h q) (hnew h (100 + t) n.toNat) (hnx h) = (q, .inl (yCT Z t, n.toNat, .inr (.inr (.inr (.inr (fun _ => none)))))) := by
    rw [xcell_a ek, adn_new]
    congr 3
    unfold xarr
    rw [el, if_neg (by omega), if_pos ht4]
    simp only [ev]
    rfl
  rw [← ec] at hP1 hD1
  obtain ⟨g1, g2, g3, g4, g5⟩ := x_newS (lv := lv) (ls := ls) (st := st) ⟨p1, p2, p3, p4, p5, p6, p7, p8⟩ hl hlv hst.t (Or.inr ⟨by omega, by omega⟩) (by omega) hP1 hD1 hS1
  have := (kk (hnx h) (hnew h (100 + t) n.toNat)).2 X _ H1 locs ls (cells + 1) (slots + n.toNat) g1 g2 g3 g4 hf
  rw [g5] at this
  exact this⟩
/-- a cast to the object's own class -/
theorem x_cast {C : String} {T : u_T} {N ix : Nat} {a : Int} (ci : Nat) (hc : gcl[ci]? = some (C, T, N)) (hci : ci < 100) (hcl : Cond.classLink own ix C ∈ lw_all) (hd : decode cc pc = .ok (.checkcast ix, 3)) (kk : XG fh QQ own mn cc nL ret d Z (pc + 3) lv ((2, a) :: st) h res) : XG fh QQ own mn cc nL ret d Z pc lv ((2, a) :: st) h (ob h a ci res) := ⟨kk.1.ob, fun X ad H locs ls cells slots hS hl hlv hst hf0 => by
  obtain ⟨h1, h2, h3, hf⟩ := ob_some hf0
  have hq := xW_at (cT := yCT Z) (ad := ad) h1 h2
  rw [xcell_o h3 hci] at hq
  have hk2 := kk.2 X ad H locs ls cells slots hS hl hlv hst hf
  have hra : rv ad a = .ref (ad a) := by unfold rv; rw [if_neg (by omega)]
  change W _ _ _ _ _ _ _ _ _ _ _ _ _ _ _ (F0 _ _ _ (rv ad a :: _)) at hk2
  show W _ _ _ _ _ _ _ _ _ _ _ _ _ _ _ (F0 _ _ _ (rv ad a :: _))
  rw [hra] at hk2 ⊢
  exact va_castS X.hx X.hb X.hown (X.hts _ hcl) (X.hK.1 ci _ hc).2 (va_recv X.hK hS.hP hc hq) hd hk2⟩
/-- a store of a reference: null, or an object that can be cast to the component -/
def qst {β : Type} (h : XH) (x : Int) (ci : Nat) (r : Option β) : Option β := if x = 0 then r else ob h x ci r
theorem XM.qi {h0 : XH} {x : Int} {ci : Nat} {r : Option ρ} (k : XM fh h r) : XM fh h (qst h0 x ci r) := fun fin hf => by
  unfold qst at hf
  split at hf
  · exact k fin hf
  · exact k.ob fin hf
theorem x_aast {E C : String} {T : u_T} {N : Nat} {a j x : Int} {f : XH → Option ρ} (t ci : Nat) (ht4 : 4 ≤ t) (ht : t < 12) (hxt : xAT t = .object E) (hc : gcl[ci]? = some (C, T, N)) (hci : ci < 100) (hca : E = C ∨ Cond.castable C E ∈ lw_tbl) (hd : decode cc pc = .ok (.aastore, 1)) (kk : ∀ h1, XG fh QQ own mn cc nL ret d Z (pc + 1) lv st h1 (f h1)) : XG fh QQ own mn cc nL ret d Z pc lv ((2, x) :: (0, j) :: (2, a) :: st) h (ai h a t j (qst h x ci (nm (hset h a j x) f))) := ⟨(((kk (hset h a j x)).1.set).qi).ai, fun X ad H locs ls cells slots hS hl hlv hst hf9 => by
  obtain ⟨h1, h2, h3, h4, h5, hf0⟩ := ai_some hf9
  have hq := xW_at (cT := yCT Z) (ad := ad) h1 h2
  rw [xcell_a h3] at hq
  have e := I32_clamp hst.t.i h4
  have er : xarr ad h a t = (xl h a, .inr (.inr (.inr (.inr fun i : Nat => ro ad (xv h a (i : Int)))))) := by unfold xarr; rw [if_neg (by omega), if_pos ht4]
  rw [er] at hq
  have e8 : xaty t = 8 := by
    match t, ht4 with
    | m + 4, _ => rfl
  have hra : rv ad a = .ref (ad a) := by unfold rv; rw [if_neg (by omega)]
  have fin : ∀ (H1 : Heap) (locs1 : List Loc), f (hset h a j x) = some (yF Z) → va_P (yD Z) gcl ((xW (yCT Z) ad h).set (a.toNat - 1) (ad a, .inl (yCT Z t, xl h a, .inr (.inr (.inr (.inr (va_up (fun i : Nat => ro ad (xv h a (i : Int))) j.toNat (ro ad x)))))))) H1 → va_D (yAA Z) ((xW (yCT Z) ad h).set (a.toNat - 1) (ad a, .inl (yCT Z t, xl h a, .inr (.inr (.inr (.inr (va_up (fun i : Nat => ro ad (xv h a (i : Int))) j.toNat (ro ad x)))))))) → va_S (yAA Z) (yS Z).heap H1 locs1 → W (yP Z) (yL Z) (yE Z) (yR Z) (yS Z) (yM Z) (yA Z) (yB Z) (yT Z) (yC Z) H1 locs1 cells slots (QQ Z) (F0 (yM Z) (pc + 1) ls (st.map (cX ad))) := by
    intro H1 locs1 hf hP1 hD1 hS1
    rw [updXr h4] at hP1 hD1
    have e1 : xcell (yCT Z) ad (hset h a j x) a = (ad a, .inl (yCT Z t, xl h a, .inr (.inr (.inr (.inr (fun i : Nat => ro ad (xv (hset h a j x) a (i : Int)))))))) := by
      rw [xcell_a (h := hset h a j x) h3]
      unfold xarr
      rw [if_neg (by omega), if_pos ht4]
      rfl
    rw [← e1, xW_set h1 h2] at hP1 hD1
    exact (kk _).2 X ad H1 locs1 ls cells slots (hS.up h1 (by rw [xtyA h3, e8]; exact hst.r) hP1 hD1 hS1) hl hlv hst.t.t.t hf
  show W _ _ _ _ _ _ _ _ _ _ _ _ _ _ _ (F0 _ _ _ (rv ad x :: _ :: rv ad a :: _))
  rw [hra]
  unfold qst at hf0
  split at hf0
  · rename_i x0
    have hrx : rv ad x = .null := by unfold rv; rw [if_pos x0]
    rw [hrx]
    refine va_astqN (i := I32 j) (C := E) (f := fun i : Nat => ro ad (xv h a (i : Int))) (n := xl h a) X.hx X.hb X.hK hS.hP hS.hD hS.hS (a.toNat - 1) t hq (by rw [xTys_at _ ht, hxt]) (I32_vp hst.t.i h4 h5) hd (fun H1 locs1 hP1 hD1 hS1 => ?_)
    have : ro ad x = none := by unfold ro; rw [if_pos x0]
    rw [e] at hP1 hD1
    exact fin H1 locs1 hf0 (by rw [this]; exact hP1) (by rw [this]; exact hD1) hS1
  · rename_i x0
    obtain ⟨y1, y2, y3, hf⟩ := ob_some hf0
    have hqx := xW_at (cT := yCT Z) (ad := ad) y1 y2
    rw [xcell_o y3 hci] at hqx
    have hrx : rv ad x = .ref (ad x) := by unfold rv; rw [if_neg x0]
    rw [hrx]
    refine vb_astq (i := I32 j) (E := E) (C := C) (f := fun i : Nat => ro ad (xv h a (i : Int))) (n := xl h a) X.hx X.hb X.hK hS.hP hS.hD hS.hS (a.toNat - 1) t hq (by rw [xTys_at _ ht, hxt]) (va_recv X.hK hS.hP hc hqx) (by
      rcases hca with rfl | hw
      · exact vb_asgS
      · exact vb_asgC (X.hN.use hw rfl)) (I32_vp hst.t.i h4 h5) hd (fun H1 locs1 hP1 hD1 hS1 => ?_)
    have : ro ad x = some (ad x) := by unfold ro; rw [if_neg x0]
    rw [e] at hP1 hD1
    exact fin H1 locs1 hf (by rw [this]; exact hP1) (by rw [this]; exact hD1) hS1⟩
end ROWS
