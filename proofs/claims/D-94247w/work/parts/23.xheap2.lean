/-! the system's layer: further rows of the heap -/

set_option maxRecDepth 100000
set_option maxHeartbeats 2000000
section ROWS
variable {ρ : Type} {fh : ρ → XH} {QQ : XZ ρ → State → Prop} {own mn : String} {cc : ByteArray} {nL : Nat} {ret : Option FieldType} {d : Nat} {Z : XZ ρ} {pc : Nat} {lv : List (Nat × AV)} {st : List AV} {h : XH} {res : Option ρ}
theorem x_putN {C ref host : String} {T : u_T} {N ix : Nat} {a x : Int} {f : XH → Option ρ} {ty0 : Nat → FieldType} (ci k : Nat) (hc : gcl[ci]? = some (C, T, N)) (hin : ∀ w ∈ u_ws C T N, w ∈ lw_all) (hty : ∀ k, k < N → parseFieldDescriptor (T k).2.2.1 = some (ty0 k)) (hnm : ∀ a, a < N → ∀ b, b < N → a ≠ b → (T a).2.1 ≠ (T b).2.1) (hci : ci < 100) (hN : xNF ci = N) (hk : k < N) (hT : (T k).1 = ref ∨ Cond.sameField ref (T k).1 (T k).2.1 (T k).2.2.1 ∈ lw_all) (hfin : (T k).2.2.2 = false) (hfk : fitk (xft ci k) (ty0 k)) (t : Nat) (ht : tgk (xft ci k) = t) (hlink : Cond.fieldLinkNest own ix ref (T k).2.1 (T k).2.2.1 host ∈ lw_tbl) (hd : decode cc pc = .ok (.putfield ix, 3)) (kk : ∀ h1, XG fh QQ own mn cc nL ret d Z (pc + 3) lv st h1 (f h1)) : XG fh QQ own mn cc nL ret d Z pc lv ((t, x) :: (2, a) :: st) h (ob h a ci (fk (xft ci k) x (nm (hset h a k x) f))) := ⟨((kk (hset h a k x)).1.set).fk.ob, fun X ad H locs ls cells slots hS hl hlv hst hf0 => by
  obtain ⟨h1, h2, h3, hf1⟩ := ob_some hf0
  obtain ⟨hb, hf⟩ := fk_some hf1
  have hq := xW_at (cT := yCT Z) (ad := ad) h1 h2
  rw [xcell_o h3 hci] at hq
  have ht5 : xft ci k ≠ 5 := by rcases hfk with ⟨e, -⟩ | ⟨e, -⟩ | ⟨e, -⟩ | ⟨e, -⟩ <;> omega
  have hxt : okt (xn h) (xft ci k) x := okt_of ht5 (by rw [ht]; exact hst.hd) hb
  have hxy : xty h a (k : Int) = xft ci k := by unfold xty; rw [h3, if_pos hci]; rfl
  have e0 : cX ad (t, x) = xval ad (xft ci k) x := by rw [xval_cX, ht]
  show W _ _ _ _ _ _ _ _ _ _ _ _ _ _ _ (F0 _ _ _ (cX ad (t, x) :: rv ad a :: _))
  rw [e0]
  unfold rv
  rw [if_neg (by omega)]
  refine va_putN X.hx X.hb X.hts hin ty0 hty hnm X.hown X.hK hS.hP hS.hD hS.hS (a.toNat - 1) hq hc k hk (va_Nw.use rfl (X.hN.use hlink rfl)) (x_same X hT) hfin (hty k hk) (fitk_n hfk hxt).1 (fitk_n hfk hxt).2 (by rw [xfs_len]; omega) hd (fun H1 locs1 hP1 hD1 hS1 => ?_)
  have e1 : (ad a, (Sum.inr (ci, (xfs ad h a ci).set k (xval ad (xft ci k) x)) : va_E)) = xcell (yCT Z) ad (hset h a k x) a := by rw [xcell_o (h := hset h a k x) h3 hci, xfs_set (by omega)]
  rw [e1, xW_set h1 h2] at hP1 hD1
  exact (kk _).2 X ad H1 locs1 ls cells slots (hS.up h1 (by rw [hxy]; exact hxt) hP1 hD1 hS1) hl hlv hst.t.t hf⟩

theorem x_putF {C ref : String} {T : u_T} {N ix : Nat} {a x : Int} {f : XH → Option ρ} {ty0 : Nat → FieldType} (ci k : Nat) (hc : gcl[ci]? = some (C, T, N)) (hin : ∀ w ∈ u_ws C T N, w ∈ lw_all) (hty : ∀ k, k < N → parseFieldDescriptor (T k).2.2.1 = some (ty0 k)) (hnm : ∀ a, a < N → ∀ b, b < N → a ≠ b → (T a).2.1 ≠ (T b).2.1) (hci : ci < 100) (hN : xNF ci = N) (hk : k < N) (hT : (T k).1 = ref ∨ Cond.sameField ref (T k).1 (T k).2.1 (T k).2.2.1 ∈ lw_all) (hfin : (T k).2.2.2 = true) (hmn : mn = "<init>") (hdecl : (T k).1 = own) (hfk : fitk (xft ci k) (ty0 k)) (t : Nat) (ht : tgk (xft ci k) = t) (hlink : Cond.fieldLink own ix ref (T k).2.1 (T k).2.2.1 ∈ lw_all) (hd : decode cc pc = .ok (.putfield ix, 3)) (kk : ∀ h1, XG fh QQ own mn cc nL ret d Z (pc + 3) lv st h1 (f h1)) : XG fh QQ own mn cc nL ret d Z pc lv ((t, x) :: (2, a) :: st) h (ob h a ci (fk (xft ci k) x (nm (hset h a k x) f))) := ⟨((kk (hset h a k x)).1.set).fk.ob, fun X ad H locs ls cells slots hS hl hlv hst hf0 => by
  obtain ⟨h1, h2, h3, hf1⟩ := ob_some hf0
  obtain ⟨hb, hf⟩ := fk_some hf1
  have hq := xW_at (cT := yCT Z) (ad := ad) h1 h2
  rw [xcell_o h3 hci] at hq
  have ht5 : xft ci k ≠ 5 := by rcases hfk with ⟨e, -⟩ | ⟨e, -⟩ | ⟨e, -⟩ | ⟨e, -⟩ <;> omega
  have hxt : okt (xn h) (xft ci k) x := okt_of ht5 (by rw [ht]; exact hst.hd) hb
  have hxy : xty h a (k : Int) = xft ci k := by unfold xty; rw [h3, if_pos hci]; rfl
  have e0 : cX ad (t, x) = xval ad (xft ci k) x := by rw [xval_cX, ht]
  show W _ _ _ _ _ _ _ _ _ _ _ _ _ _ _ (F0 _ _ _ (cX ad (t, x) :: rv ad a :: _))
  rw [e0]
  unfold rv
  rw [if_neg (by omega)]
  refine va_putF X.hx X.hb X.hts hin ty0 hty hnm X.hown X.hK hS.hP hS.hD hS.hS (a.toNat - 1) hq hc k hk (X.hts _ hlink) (x_same X hT) hfin (X.hnm.trans hmn) hdecl (hty k hk) (fitk_n hfk hxt).1 (fitk_n hfk hxt).2 (by rw [xfs_len]; omega) hd (fun H1 locs1 hP1 hD1 hS1 => ?_)
  have e1 : (ad a, (Sum.inr (ci, (xfs ad h a ci).set k (xval ad (xft ci k) x)) : va_E)) = xcell (yCT Z) ad (hset h a k x) a := by rw [xcell_o (h := hset h a k x) h3 hci, xfs_set (by omega)]
  rw [e1, xW_set h1 h2] at hP1 hD1
  exact (kk _).2 X ad H1 locs1 ls cells slots (hS.up h1 (by rw [hxy]; exact hxt) hP1 hD1 hS1) hl hlv hst.t.t hf⟩

theorem x_iald {a j : Int} (hd : decode cc pc = .ok (.iaload, 1)) (kk : XG fh QQ own mn cc nL ret d Z (pc + 1) lv ((0, xv h a j) :: st) h res) : XG fh QQ own mn cc nL ret d Z pc lv ((0, j) :: (2, a) :: st) h (ai h a 0 j res) := ⟨kk.1.ai, fun X ad H locs ls cells slots hS hl hlv hst hf0 => by
  obtain ⟨h1, h2, h3, h4, h5, hf⟩ := ai_some hf0
  have hq := xW_at (cT := yCT Z) (ad := ad) h1 h2
  rw [xcell_a h3] at hq
  have hx := hS.okh.arr h1 h2 h3 j
  have hk2 := kk.2 X ad H locs ls cells slots hS hl hlv (hst.t.t.c (okt_X (t := 0) hx)) hf
  have e := I32_clamp hst.i h4
  show W _ _ _ _ _ _ _ _ _ _ _ _ _ _ _ (F0 _ _ _ (_ :: rv ad a :: _))
  unfold rv
  rw [if_neg (by omega)]
  refine va_iald (i := I32 j) (f := fun i : Nat => I32 (xv h a (i : Int))) (n := xl h a) X.hx X.hb X.hK hS.hP (a.toNat - 1) 0 hq (xTys_at _ (by decide)) (I32_vp hst.i h4 h5) hd ?_
  rw [e, Int.toNat_of_nonneg h4]
  exact hk2⟩
theorem x_bald {a j : Int} (hd : decode cc pc = .ok (.baload, 1)) (kk : XG fh QQ own mn cc nL ret d Z (pc + 1) lv ((0, xv h a j) :: st) h res) : XG fh QQ own mn cc nL ret d Z pc lv ((0, j) :: (2, a) :: st) h (ai h a 2 j res) := ⟨kk.1.ai, fun X ad H locs ls cells slots hS hl hlv hst hf0 => by
  obtain ⟨h1, h2, h3, h4, h5, hf⟩ := ai_some hf0
  have hq := xW_at (cT := yCT Z) (ad := ad) h1 h2
  rw [xcell_a h3] at hq
  have hx := hS.okh.arr h1 h2 h3 j
  have hk2 := kk.2 X ad H locs ls cells slots hS hl hlv (hst.t.t.c (okt_X (t := 5) hx)) hf
  have e := I32_clamp hst.i h4
  show W _ _ _ _ _ _ _ _ _ _ _ _ _ _ _ (F0 _ _ _ (_ :: rv ad a :: _))
  unfold rv
  rw [if_neg (by omega)]
  refine va_bald (i := I32 j) (f := fun i : Nat => I32 (xv h a (i : Int))) (n := xl h a) X.hx X.hb X.hK hS.hP (a.toNat - 1) 2 hq (xTys_at _ (by decide)) (I32_vp hst.i h4 h5) hd ?_
  rw [e, Int.toNat_of_nonneg h4]
  exact hk2⟩
theorem x_zald {a j : Int} (hd : decode cc pc = .ok (.baload, 1)) (kk : XG fh QQ own mn cc nL ret d Z (pc + 1) lv ((0, xv h a j) :: st) h res) : XG fh QQ own mn cc nL ret d Z pc lv ((0, j) :: (2, a) :: st) h (ai h a 3 j res) := ⟨kk.1.ai, fun X ad H locs ls cells slots hS hl hlv hst hf0 => by
  obtain ⟨h1, h2, h3, h4, h5, hf⟩ := ai_some hf0
  have hq := xW_at (cT := yCT Z) (ad := ad) h1 h2
  rw [xcell_a h3] at hq
  have hx := hS.okh.arr h1 h2 h3 j
  have hk2 := kk.2 X ad H locs ls cells slots hS hl hlv (hst.t.t.c (okt_X (t := 2) hx)) hf
  have e := I32_clamp hst.i h4
  show W _ _ _ _ _ _ _ _ _ _ _ _ _ _ _ (F0 _ _ _ (_ :: rv ad a :: _))
  unfold rv
  rw [if_neg (by omega)]
  refine va_zald (i := I32 j) (f := fun i : Nat => I32 (xv h a (i : Int))) (n := xl h a) X.hx X.hb X.hK hS.hP (a.toNat - 1) 3 hq (xTys_at _ (by decide)) (I32_vp hst.i h4 h5) hd ?_
  rw [e, Int.toNat_of_nonneg h4]
  exact hk2⟩
theorem x_lald {a j : Int} (hd : decode cc pc = .ok (.laload, 1)) (kk : XG fh QQ own mn cc nL ret d Z (pc + 1) lv ((1, xv h a j) :: st) h res) : XG fh QQ own mn cc nL ret d Z pc lv ((0, j) :: (2, a) :: st) h (ai h a 1 j res) := ⟨kk.1.ai, fun X ad H locs ls cells slots hS hl hlv hst hf0 => by
  obtain ⟨h1, h2, h3, h4, h5, hf⟩ := ai_some hf0
  have hq := xW_at (cT := yCT Z) (ad := ad) h1 h2
  rw [xcell_a h3] at hq
  have hx := hS.okh.arr h1 h2 h3 j
  have hk2 := kk.2 X ad H locs ls cells slots hS hl hlv (hst.t.t.c (okt_X (t := 1) hx)) hf
  have e := I32_clamp hst.i h4
  show W _ _ _ _ _ _ _ _ _ _ _ _ _ _ _ (F0 _ _ _ (_ :: rv ad a :: _))
  unfold rv
  rw [if_neg (by omega)]
  refine va_lald (i := I32 j) (f := fun i : Nat => I64 (xv h a (i : Int))) (n := xl h a) X.hx X.hb X.hK hS.hP (a.toNat - 1) 1 hq (xTys_at _ (by decide)) (I32_vp hst.i h4 h5) hd ?_
  rw [e, Int.toNat_of_nonneg h4]
  exact hk2⟩
theorem x_aald {a j : Int} (t : Nat) (C : String) (ht4 : 4 ≤ t) (ht : t < 12) (hC : xAT t = .object C) (hd : decode cc pc = .ok (.aaload, 1)) (kk : XG fh QQ own mn cc nL ret d Z (pc + 1) lv ((2, xv h a j) :: st) h res) : XG fh QQ own mn cc nL ret d Z pc lv ((0, j) :: (2, a) :: st) h (ai h a t j res) := ⟨kk.1.ai, fun X ad H locs ls cells slots hS hl hlv hst hf0 => by
  obtain ⟨h1, h2, h3, h4, h5, hf⟩ := ai_some hf0
  have hq := xW_at (cT := yCT Z) (ad := ad) h1 h2
  rw [xcell_a h3] at hq
  have hx := hS.okh.arr h1 h2 h3 j
  have e8 : xaty t = 8 := by
    match t, ht4 with
    | m + 4, _ => rfl
  rw [e8] at hx
  have hk2 := kk.2 X ad H locs ls cells slots hS hl hlv (hst.t.t.c (okt_X (t := 8) hx)) hf
  have e := I32_clamp hst.i h4
  have er : xarr ad h a t = (xl h a, .inr (.inr (.inr (.inr fun i : Nat => ro ad (xv h a (i : Int)))))) := by unfold xarr; rw [if_neg (by omega), if_pos ht4]
  rw [er] at hq
  show W _ _ _ _ _ _ _ _ _ _ _ _ _ _ _ (F0 _ _ _ (_ :: rv ad a :: _))
  have hra : rv ad a = .ref (ad a) := by unfold rv; rw [if_neg (by omega)]
  rw [hra]
  refine va_aldq (i := I32 j) (C := C) (f := fun i : Nat => ro ad (xv h a (i : Int))) (n := xl h a) X.hx X.hb X.hK hS.hP (a.toNat - 1) t hq (by rw [xTys_at _ ht, hC]) (I32_vp hst.i h4 h5) hd ?_
  rw [e, Int.toNat_of_nonneg h4, rv_ro]
  exact hk2⟩
theorem updX32 {h : XH} {a j x : Int} (h0 : 0 ≤ j) : upd (fun i : Nat => I32 (xv h a (i : Int))) j.toNat (I32 x) = fun i : Nat => I32 (xv (hset h a j x) a (i : Int)) := by
  funext i
  unfold upd
  rw [hset_v]
  by_cases e : i = j.toNat
  · rw [if_pos e, if_pos ⟨rfl, by omega⟩]
  · rw [if_neg e, if_neg (fun q => e (by omega))]
theorem updX64 {h : XH} {a j x : Int} (h0 : 0 ≤ j) : vp_updL (fun i : Nat => I64 (xv h a (i : Int))) j.toNat (I64 x) = fun i : Nat => I64 (xv (hset h a j x) a (i : Int)) := by
  funext i
  unfold vp_updL
  rw [hset_v]
  by_cases e : i = j.toNat
  · rw [if_pos e, if_pos ⟨rfl, by omega⟩]
  · rw [if_neg e, if_neg (fun q => e (by omega))]
theorem updXr {ad : Int → Nat} {h : XH} {a j x : Int} (h0 : 0 ≤ j) : va_up (fun i : Nat => ro ad (xv h a (i : Int))) j.toNat (ro ad x) = fun i : Nat => ro ad (xv (hset h a j x) a (i : Int)) := by
  funext i
  unfold va_up
  rw [hset_v]
  by_cases e : i = j.toNat
  · rw [if_pos e, if_pos ⟨rfl, by omega⟩]
  · rw [if_neg e, if_neg (fun q => e (by omega))]
theorem xtyA {h : XH} {a j : Int} {t : Nat} (h3 : xk h a = 100 + t) : xty h a j = xaty t := by
  unfold xty
  have e : 100 + t - 100 = t := by omega
  rw [h3, if_neg (by omega), e]
theorem x_iast {a j x : Int} {f : XH → Option ρ} (hd : decode cc pc = .ok (.iastore, 1)) (kk : ∀ h1, XG fh QQ own mn cc nL ret d Z (pc + 1) lv st h1 (f h1)) : XG fh QQ own mn cc nL ret d Z pc lv ((0, x) :: (0, j) :: (2, a) :: st) h (ai h a 0 j (nm (hset h a j x) f)) := ⟨((kk (hset h a j x)).1.set).ai, fun X ad H locs ls cells slots hS hl hlv hst hf9 => by
  have hf0 := hf9
  obtain ⟨h1, h2, h3, h4, h5, hf⟩ := ai_some hf0
  have hq := xW_at (cT := yCT Z) (ad := ad) h1 h2
  rw [xcell_a h3] at hq
  have e := I32_clamp hst.t.i h4
  show W _ _ _ _ _ _ _ _ _ _ _ _ _ _ _ (F0 _ _ _ (_ :: _ :: rv ad a :: _))
  have hra : rv ad a = .ref (ad a) := by unfold rv; rw [if_neg (by omega)]
  rw [hra]
  refine va_iast (i := I32 j) (x := I32 x) (f := fun i : Nat => I32 (xv h a (i : Int))) (n := xl h a) X.hx X.hb X.hK hS.hP hS.hD hS.hS (a.toNat - 1) 0 hq (xTys_at _ (by decide)) (I32_vp hst.t.i h4 h5) hd (fun H1 locs1 hP1 hD1 hS1 => ?_)
  skip
  rw [e, updX32 h4] at hP1 hD1
  have e1 : xcell (yCT Z) ad (hset h a j x) a = _ := xcell_a (h := hset h a j x) h3
  have hP2 : va_P (yD Z) gcl ((xW (yCT Z) ad h).set (a.toNat - 1) (xcell (yCT Z) ad (hset h a j x) a)) H1 := by rw [e1]; exact hP1
  have hD2 : va_D (yAA Z) ((xW (yCT Z) ad h).set (a.toNat - 1) (xcell (yCT Z) ad (hset h a j x) a)) := by rw [e1]; exact hD1
  rw [xW_set h1 h2] at hP2 hD2
  exact (kk _).2 X ad H1 locs1 ls cells slots (hS.up h1 (by rw [xtyA h3]; exact hst.i) hP2 hD2 hS1) hl hlv hst.t.t.t hf⟩
theorem x_last {a j x : Int} {f : XH → Option ρ} (hd : decode cc pc = .ok (.lastore, 1)) (kk : ∀ h1, XG fh QQ own mn cc nL ret d Z (pc + 1) lv st h1 (f h1)) : XG fh QQ own mn cc nL ret d Z pc lv ((1, x) :: (0, j) :: (2, a) :: st) h (ai h a 1 j (nm (hset h a j x) f)) := ⟨((kk (hset h a j x)).1.set).ai, fun X ad H locs ls cells slots hS hl hlv hst hf9 => by
  have hf0 := hf9
  obtain ⟨h1, h2, h3, h4, h5, hf⟩ := ai_some hf0
  have hq := xW_at (cT := yCT Z) (ad := ad) h1 h2
  rw [xcell_a h3] at hq
  have e := I32_clamp hst.t.i h4
  show W _ _ _ _ _ _ _ _ _ _ _ _ _ _ _ (F0 _ _ _ (_ :: _ :: rv ad a :: _))
  have hra : rv ad a = .ref (ad a) := by unfold rv; rw [if_neg (by omega)]
  rw [hra]
  refine va_last (i := I32 j) (x := I64 x) (f := fun i : Nat => I64 (xv h a (i : Int))) (n := xl h a) X.hx X.hb X.hK hS.hP hS.hD hS.hS (a.toNat - 1) 1 hq (xTys_at _ (by decide)) (I32_vp hst.t.i h4 h5) hd (fun H1 locs1 hP1 hD1 hS1 => ?_)
  skip
  rw [e, updX64 h4] at hP1 hD1
  have e1 : xcell (yCT Z) ad (hset h a j x) a = _ := xcell_a (h := hset h a j x) h3
  have hP2 : va_P (yD Z) gcl ((xW (yCT Z) ad h).set (a.toNat - 1) (xcell (yCT Z) ad (hset h a j x) a)) H1 := by rw [e1]; exact hP1
  have hD2 : va_D (yAA Z) ((xW (yCT Z) ad h).set (a.toNat - 1) (xcell (yCT Z) ad (hset h a j x) a)) := by rw [e1]; exact hD1
  rw [xW_set h1 h2] at hP2 hD2
  exact (kk _).2 X ad H1 locs1 ls cells slots (hS.up h1 (by rw [xtyA h3]; exact hst.l) hP2 hD2 hS1) hl hlv hst.t.t.t hf⟩
theorem x_bast {a j x : Int} {f : XH → Option ρ} (hd : decode cc pc = .ok (.bastore, 1)) (kk : ∀ h1, XG fh QQ own mn cc nL ret d Z (pc + 1) lv st h1 (f h1)) : XG fh QQ own mn cc nL ret d Z pc lv ((0, x) :: (0, j) :: (2, a) :: st) h (ai h a 2 j (nm (hset h a j (w8 x)) f)) := ⟨((kk (hset h a j (w8 x))).1.set).ai, fun X ad H locs ls cells slots hS hl hlv hst hf9 => by
  have hf0 := hf9
  obtain ⟨h1, h2, h3, h4, h5, hf⟩ := ai_some hf0
  have hq := xW_at (cT := yCT Z) (ad := ad) h1 h2
  rw [xcell_a h3] at hq
  have e := I32_clamp hst.t.i h4
  show W _ _ _ _ _ _ _ _ _ _ _ _ _ _ _ (F0 _ _ _ (_ :: _ :: rv ad a :: _))
  have hra : rv ad a = .ref (ad a) := by unfold rv; rw [if_neg (by omega)]
  rw [hra]
  refine va_bast (i := I32 j) (x := I32 x) (f := fun i : Nat => I32 (xv h a (i : Int))) (n := xl h a) X.hx X.hb X.hK hS.hP hS.hD hS.hS (a.toNat - 1) 2 hq (xTys_at _ (by decide)) (I32_vp hst.t.i h4 h5) hd (fun H1 locs1 hP1 hD1 hS1 => ?_)
  have ev : vp_nar .byte (I32 x) = I32 (w8 x) := by rw [vp_nar_byte]; exact I32_i2b hst.i
  rw [ev] at hP1 hD1
  rw [e, updX32 h4] at hP1 hD1
  have e1 : xcell (yCT Z) ad (hset h a j (w8 x)) a = _ := xcell_a (h := hset h a j (w8 x)) h3
  have hP2 : va_P (yD Z) gcl ((xW (yCT Z) ad h).set (a.toNat - 1) (xcell (yCT Z) ad (hset h a j (w8 x)) a)) H1 := by rw [e1]; exact hP1
  have hD2 : va_D (yAA Z) ((xW (yCT Z) ad h).set (a.toNat - 1) (xcell (yCT Z) ad (hset h a j (w8 x)) a)) := by rw [e1]; exact hD1
  rw [xW_set h1 h2] at hP2 hD2
  exact (kk _).2 X ad H1 locs1 ls cells slots (hS.up h1 (by rw [xtyA h3]; exact w8_in x) hP2 hD2 hS1) hl hlv hst.t.t.t hf⟩
theorem x_zast {a j x : Int} {f : XH → Option ρ} (hd : decode cc pc = .ok (.bastore, 1)) (kk : ∀ h1, XG fh QQ own mn cc nL ret d Z (pc + 1) lv st h1 (f h1)) : XG fh QQ own mn cc nL ret d Z pc lv ((0, x) :: (0, j) :: (2, a) :: st) h (cb x (ai h a 3 j (nm (hset h a j x) f))) := ⟨((((kk (hset h a j x)).1.set).ai)).cb, fun X ad H locs ls cells slots hS hl hlv hst hf9 => by
  obtain ⟨hz, hf0⟩ := cb_some hf9
  obtain ⟨h1, h2, h3, h4, h5, hf⟩ := ai_some hf0
  have hq := xW_at (cT := yCT Z) (ad := ad) h1 h2
  rw [xcell_a h3] at hq
  have e := I32_clamp hst.t.i h4
  show W _ _ _ _ _ _ _ _ _ _ _ _ _ _ _ (F0 _ _ _ (_ :: _ :: rv ad a :: _))
  have hra : rv ad a = .ref (ad a) := by unfold rv; rw [if_neg (by omega)]
  rw [hra]
  refine va_zast (i := I32 j) (x := I32 x) (f := fun i : Nat => I32 (xv h a (i : Int))) (n := xl h a) X.hx X.hb X.hK hS.hP hS.hD hS.hS (a.toNat - 1) 3 hq (xTys_at _ (by decide)) (I32_vp hst.t.i h4 h5) hd (fun H1 locs1 hP1 hD1 hS1 => ?_)
  have ev : vp_nar .boolean (I32 x) = I32 x := by rcases hz with rfl | rfl <;> rfl
  rw [ev] at hP1 hD1
  rw [e, updX32 h4] at hP1 hD1
  have e1 : xcell (yCT Z) ad (hset h a j x) a = _ := xcell_a (h := hset h a j x) h3
  have hP2 : va_P (yD Z) gcl ((xW (yCT Z) ad h).set (a.toNat - 1) (xcell (yCT Z) ad (hset h a j x) a)) H1 := by rw [e1]; exact hP1
  have hD2 : va_D (yAA Z) ((xW (yCT Z) ad h).set (a.toNat - 1) (xcell (yCT Z) ad (hset h a j x) a)) := by rw [e1]; exact hD1
  rw [xW_set h1 h2] at hP2 hD2
  exact (kk _).2 X ad H1 locs1 ls cells slots (hS.up h1 (by rw [xtyA h3]; exact hz) hP2 hD2 hS1) hl hlv hst.t.t.t hf⟩
/-- arraylength -/
def al {β : Type} (h : XH) (a : Int) (t : Nat) (r : Option β) : Option β := if 1 ≤ a ∧ a ≤ (xn h : Int) ∧ xk h a = 100 + t then r else none
theorem al_some {β : Type} {h : XH} {a : Int} {t : Nat} {r : Option β} {b : β} (q : al h a t r = some b) : 1 ≤ a ∧ a ≤ (xn h : Int) ∧ xk h a = 100 + t ∧ r = some b := by
  unfold al at q; split at q
  · rename_i g; exact ⟨g.1, g.2.1, g.2.2, q⟩
  · cases q
theorem al_ok {β : Type} {h : XH} {a : Int} {t : Nat} {r : Option β} (h1 : 1 ≤ a) (h2 : a ≤ (xn h : Int)) (h3 : xk h a = 100 + t) : al h a t r = r := if_pos ⟨h1, h2, h3⟩
theorem XM.al {h0 : XH} {a : Int} {t : Nat} {r : Option ρ} (k : XM fh h r) : XM fh h (al h0 a t r) := fun fin hf => k fin (al_some hf).2.2.2
theorem xarr_1 (ad : Int → Nat) (h : XH) (a : Int) (t : Nat) : (xarr ad h a t).1 = xl h a := by unfold xarr; split; rfl; split <;> rfl
theorem x_alen {a : Int} (t : Nat) (ht : t < 12) (hd : decode cc pc = .ok (.arraylength, 1)) (kk : XG fh QQ own mn cc nL ret d Z (pc + 1) lv ((0, (xl h a : Int)) :: st) h res) : XG fh QQ own mn cc nL ret d Z pc lv ((2, a) :: st) h (al h a t res) := ⟨kk.1.al, fun X ad H locs ls cells slots hS hl hlv hst hf0 => by
  obtain ⟨h1, h2, h3, hf⟩ := al_some hf0
  have hq := xW_at (cT := yCT Z) (ad := ad) h1 h2
  rw [xcell_a h3] at hq
  have hn := (hS.okh a h1 h2).2.1
  show W _ _ _ _ _ _ _ _ _ _ _ _ _ _ _ (F0 _ _ _ (rv ad a :: _))
  have hra : rv ad a = .ref (ad a) := by unfold rv; rw [if_neg (by omega)]
  rw [hra]
  exact va_alen (v := I32 (xl h a : Int)) X.hx X.hb X.hK hS.hP (a.toNat - 1) t hq (xTys_at _ ht) (by rw [xarr_1]; exact (Int32.ofInt_eq_ofNat).symm) hd (kk.2 X ad H locs ls cells slots hS hl hlv (hst.t.c (okX.i ⟨by omega, by omega⟩)) hf)⟩
end ROWS
