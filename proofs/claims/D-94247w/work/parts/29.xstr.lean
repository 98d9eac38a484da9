/-! the system's layer: class objects, statics that are passed along, String constants -/
set_option maxRecDepth 100000
set_option maxHeartbeats 2000000
/-- a String constant's name, and its bytes' -/
def sgs {β : Type} (a : Int) (r : Option β) : Option β := if -35 ≤ a ∧ a ≤ -10 then r else none
def sgb {β : Type} (a : Int) (r : Option β) : Option β := if -85 ≤ a ∧ a ≤ -60 then r else none
theorem sgs_some {β : Type} {a : Int} {r : Option β} {b : β} (q : sgs a r = some b) : (-35 ≤ a ∧ a ≤ -10) ∧ r = some b := by
  unfold sgs at q; split at q
  · rename_i g; exact ⟨g, q⟩
  · cases q
theorem sgb_some {β : Type} {a : Int} {r : Option β} {b : β} (q : sgb a r = some b) : (-85 ≤ a ∧ a ≤ -60) ∧ r = some b := by
  unfold sgb at q; split at q
  · rename_i g; exact ⟨g, q⟩
  · cases q
theorem sgs_ok {β : Type} {a : Int} {r : Option β} (g : -35 ≤ a ∧ a ≤ -10) : sgs a r = r := if_pos g
theorem sgb_ok {β : Type} {a : Int} {r : Option β} (g : -85 ≤ a ∧ a ≤ -60) : sgb a r = r := if_pos g
/-- the text of the bytes' name -/
def sbl (a : Int) : Nat := strL.getD (-60 - a).toNat 0
def sbt (a j : Int) : Int := (strT.getD (-60 - a).toNat []).getD j.toNat 0
def i2c (a : Int) : Int := a % 65536
def cgc {β : Type} (x : Int) (r : Option β) : Option β := if 0 ≤ x ∧ x ≤ 65535 then r else none
def cgb {β : Type} (x : Int) (r : Option β) : Option β := if -128 ≤ x ∧ x ≤ 127 then r else none
theorem cgc_some {β : Type} {a : Int} {r : Option β} {b : β} (q : cgc a r = some b) : (0 ≤ a ∧ a ≤ 65535) ∧ r = some b := by
  unfold cgc at q; split at q
  · rename_i g; exact ⟨g, q⟩
  · cases q
theorem cgb_some {β : Type} {a : Int} {r : Option β} {b : β} (q : cgb a r = some b) : (-128 ≤ a ∧ a ≤ 127) ∧ r = some b := by
  unfold cgb at q; split at q
  · rename_i g; exact ⟨g, q⟩
  · cases q
theorem strB_at (i j : Nat) : (strB.getD i []).getD j 0 = I32 ((strT.getD i []).getD j 0) := by
  unfold strB
  rw [List.getD_eq_getElem?_getD, List.getD_eq_getElem?_getD, List.getD_eq_getElem?_getD (l := strT), List.getD_eq_getElem?_getD, List.getElem?_map]
  cases h : strT[i]? with
  | none => rfl
  | some l =>
    show ((l.map I32)[j]?).getD 0 = I32 ((l[j]?).getD 0)
    rw [List.getElem?_map]
    cases l[j]? <;> rfl
theorem strT_in : ∀ l ∈ strT, ∀ x ∈ l, 0 ≤ x ∧ x ≤ 127 := by decide +kernel
theorem strT_rng (i j : Nat) : 0 ≤ (strT.getD i []).getD j 0 ∧ (strT.getD i []).getD j 0 ≤ 127 := by
  rw [List.getD_eq_getElem?_getD, List.getD_eq_getElem?_getD]
  cases h : strT[i]? with
  | none => show 0 ≤ (([] : List Int)[j]?).getD 0 ∧ _; simp
  | some l =>
    show 0 ≤ (l[j]?).getD 0 ∧ (l[j]?).getD 0 ≤ 127
    cases h2 : l[j]? with
    | none => show (0 : Int) ≤ 0 ∧ (0 : Int) ≤ 127; decide
    | some x => exact strT_in l (List.mem_of_getElem? h) x (List.mem_of_getElem? h2)
section ROWS
variable {ρ : Type} {fh : ρ → XH} {QQ : XZ ρ → State → Prop} {own mn : String} {cc : ByteArray} {nL : Nat} {ret : Option FieldType} {d : Nat} {Z : XZ ρ} {pc : Nat} {lv : List (Nat × AV)} {st : List AV} {h : XH} {res : Option ρ}
theorem XM.sgs {a : Int} {r : Option ρ} (k : XM fh h r) : XM fh h (sgs a r) := fun fin hf => k fin (sgs_some hf).2
theorem XM.sgb {a : Int} {r : Option ρ} (k : XM fh h r) : XM fh h (sgb a r) := fun fin hf => k fin (sgb_some hf).2
theorem XM.cgc {a : Int} {r : Option ρ} (k : XM fh h r) : XM fh h (cgc a r) := fun fin hf => k fin (cgc_some hf).2
theorem XM.cgb {a : Int} {r : Option ρ} (k : XM fh h r) : XM fh h (cgb a r) := fun fin hf => k fin (cgb_some hf).2
theorem rv_neg {ad : Int → Nat} {H : Heap} {locs : List Loc} {cells slots : Nat} (X : XX fh own mn cc nL ret d Z) (hS : XS Z h ad H locs cells slots) {a : Int} (ha : a < 0) : rv ad a = .ref (yAF Z a) := by
  unfold rv; rw [if_neg (by omega), x_negs X hS a ha]
/-- the class object of Object[] -/
theorem x_ldcM {ix : Nat} (hq : Cond.classLink own ix "[Ljava/lang/Object;" ∈ lw_all) (hd : decode cc pc = .ok (.ldc ix, 2)) (kk : XG fh QQ own mn cc nL ret d Z (pc + 2) lv ((2, -2) :: st) h res) : XG fh QQ own mn cc nL ret d Z pc lv st h res := ⟨kk.1, fun X ad H locs ls cells slots hS hl hlv hst hf => by
  have h2 := kk.2 X ad H locs ls cells slots hS hl hlv (hst.c (okX.r (by omega))) hf
  change W _ _ _ _ _ _ _ _ _ _ _ _ _ _ _ (F0 _ _ _ (rv ad (-2) :: _)) at h2
  rw [rv_neg X hS (by omega)] at h2
  exact va_ldcM X.hx X.hb X.hown (X.hts _ hq) X.hZ.2.2.1 hd h2⟩
theorem x_getC {ix : Nat} {a : Int} (hli : Cond.methodLink own ix ⟨"java/lang/Object", "getClass", "()Ljava/lang/Class;"⟩ ∈ lw_all) (hdecl : Cond.declares ⟨"java/lang/Object", "getClass", "()Ljava/lang/Class;"⟩ ∈ lw_tbl) (hsel : Cond.selects "[Ljava/lang/Object;" ⟨"java/lang/Object", "getClass", "()Ljava/lang/Class;"⟩ ⟨"java/lang/Object", "getClass", "()Ljava/lang/Class;"⟩ ∈ lw_all) (hin : Cond.instanceMethod ⟨"java/lang/Object", "getClass", "()Ljava/lang/Class;"⟩ ∈ lw_all) (hna : Cond.native ⟨"java/lang/Object", "getClass", "()Ljava/lang/Class;"⟩ ∈ lw_all) (hdd : 1 ≤ d) (hcat : (st.map fun v => if v.1 = 1 then 2 else 1).sum ≤ 8) (hd : decode cc pc = .ok (.invokevirtual ix, 3)) (kk : XG fh QQ own mn cc nL ret d Z (pc + 3) lv ((2, -2) :: st) h res) : XG fh QQ own mn cc nL ret d Z pc lv ((2, a) :: st) h (al h a 9 res) := ⟨kk.1.al, fun X ad H locs ls cells slots hS hl hlv hst hf0 => by
  obtain ⟨h1, h2, h3, hf⟩ := al_some hf0
  have hk2 := kk.2 X ad H locs ls cells slots hS hl hlv (hst.t.c (okX.r (by omega))) hf
  change W _ _ _ _ _ _ _ _ _ _ _ _ _ _ _ (F0 _ _ _ (rv ad (-2) :: _)) at hk2
  rw [rv_neg X hS (by omega)] at hk2
  have hq := xW_at (cT := yCT Z) (ad := ad) h1 h2
  rw [xcell_a h3] at hq
  have hcell : H[ad a]? = some (vp_cell (yCT Z 9) (xarr ad h a 9)) := hS.hP _ _ hq
  have hc8 := cat_sumX (ad := ad) hcat
  have hra : rv ad a = .ref (ad a) := by unfold rv; rw [if_neg (by omega)]
  show W _ _ _ _ _ _ _ _ _ _ _ _ _ _ _ (F0 _ _ _ (rv ad a :: _))
  rw [hra]
  have hnm := va_nmO (s := yS Z) (cA := yCT Z 9) (C := "java/lang/Object") (X.hK.2 9 _ (xTys_at (yCT Z) (by decide))).2 (nm := "[Ljava/lang/Object;") (by decide)
  refine va_getC X.hx X.hb (by rw [hl.1]) X.hown (X.hts _ hli) (va_Nw.use rfl (X.hN.use hdecl rfl)) (X.hts _ hsel) (X.hts _ hin) (X.hts _ hna) X.hZ.2.2.1 ⟨_, hcell, ?_, ?_⟩ (by rw [X.hR]; exact hdd) (by rw [X.hR]; show _ ≤ 64 * d; omega) hd hk2
  · unfold vp_cell xarr; rfl
  · rw [hnm]; unfold vp_cell xarr; rfl⟩
/-- is a class object that of Object[]? -/
def gq {β : Type} (a : Int) (r : Option β) : Option β := if a = -2 then r else none
theorem gq_some {β : Type} {a : Int} {r : Option β} {b : β} (q : gq a r = some b) : a = -2 ∧ r = some b := by
  unfold gq at q; split at q
  · rename_i g; exact ⟨g, q⟩
  · cases q
theorem XM.gq {a : Int} {r : Option ρ} (k : XM fh h r) : XM fh h (gq a r) := fun fin hf => k fin (gq_some hf).2
theorem x_acmpM {a off : Int} (tgt : Nat) (hd : decode cc pc = .ok (.if_acmp .ne off, 3)) (ht : (pc : Int) + off = (tgt : Int)) (kk : XG fh QQ own mn cc nL ret d Z (pc + 3) lv st h res) : XG fh QQ own mn cc nL ret d Z pc lv ((2, -2) :: (2, a) :: st) h (gq a res) := ⟨kk.1.gq, fun X ad H locs ls cells slots hS hl hlv hst hf0 => by
  obtain ⟨ha, hf⟩ := gq_some hf0
  subst ha
  show W _ _ _ _ _ _ _ _ _ _ _ _ _ _ _ (F0 _ _ _ (rv ad (-2) :: rv ad (-2) :: _))
  rw [← rv_ro]
  exact lv_acmp_ne X.hx X.hb hd ht (fun c => absurd rfl c) (fun _ => kk.2 X ad H locs ls cells slots hS hl hlv hst.t.t hf)⟩
/-- statics that are passed along -/
theorem x_gstat {ix : Nat} {C n ds ref : String} (k : Int) (hk : (k, C, n, ds) ∈ xStat) (hT : C = ref) (hq : Cond.fieldLink own ix ref n ds ∈ lw_all) (hd : decode cc pc = .ok (.getstatic ix, 3)) (kk : XG fh QQ own mn cc nL ret d Z (pc + 3) lv ((2, xv h k 0) :: st) h res) : XG fh QQ own mn cc nL ret d Z pc lv st h res := ⟨kk.1, fun X ad H locs ls cells slots hS hl hlv hst hf => by
  have hn : k < 0 := (by decide : ∀ q ∈ xStat, q.1 < 0) _ hk
  have z := (X.hZ.heap hS.2.2.2.2.1.2).2.2.2.2.1 _ hk
  have h2 := kk.2 X ad H locs ls cells slots hS hl hlv (hst.c (okX.r (by have := z.1; dsimp only at this; omega))) hf
  have e : rv ad (xv h k 0) = rv (yAF Z) (xv h k 0) := by
    have := z.1
    dsimp only at this
    unfold rv
    split
    · rfl
    · rw [x_negs X hS _ (by omega)]
  change W _ _ _ _ _ _ _ _ _ _ _ _ _ _ _ (F0 _ _ _ (rv ad (xv h k 0) :: _)) at h2
  rw [e] at h2
  exact va_gets X.hx X.hb z.2.1 hS.hS X.hown (X.hts _ hq) (fun x e => by subst hT; exact e) hd h2⟩
theorem x_gcomp {ix : Nat} {ref : String} (hT : "java/lang/String" = ref) (hq : Cond.fieldLink own ix ref "COMPACT_STRINGS" "Z" ∈ lw_all) (hd : decode cc pc = .ok (.getstatic ix, 3)) (kk : XG fh QQ own mn cc nL ret d Z (pc + 3) lv ((0, 1) :: st) h res) : XG fh QQ own mn cc nL ret d Z pc lv st h res := ⟨kk.1, fun X ad H locs ls cells slots hS hl hlv hst hf =>
  va_gets (v := .int 1) X.hx X.hb X.hZ.2.2.2.1 hS.hS X.hown (X.hts _ hq) (fun x e => by subst hT; exact e) hd (kk.2 X ad H locs ls cells slots hS hl hlv (hst.c (okX.i ⟨by decide, by decide⟩)) hf)⟩
/-- a String constant -/
theorem x_ldcS {ix : Nat} {tx : String} (k : Int) (hk : (ix, tx, k) ∈ xStrs) (hown : own = "ExamSlips$Reader") (hd : decode cc pc = .ok (.ldc ix, 2)) (kk : XG fh QQ own mn cc nL ret d Z (pc + 2) lv ((2, k) :: st) h res) : XG fh QQ own mn cc nL ret d Z pc lv st h res := ⟨kk.1, fun X ad H locs ls cells slots hS hl hlv hst hf => by
  have hn : k < 0 := (by decide : ∀ q ∈ xStrs, q.2.2 < 0) _ hk
  have h2 := kk.2 X ad H locs ls cells slots hS hl hlv (hst.c (okX.r (by omega))) hf
  change W _ _ _ _ _ _ _ _ _ _ _ _ _ _ _ (F0 _ _ _ (rv ad k :: _)) at h2
  rw [rv_neg X hS hn] at h2
  have z := X.hZ.2.2.2.2.2.2 _ hk
  subst hown
  exact va_ldcS X.hx X.hb X.hown z hd h2⟩
theorem sK_at (adF : Int → Nat) {a : Int} (ha : -35 ≤ a ∧ a ≤ -10) : sK adF (-10 - a).toNat = adF a := by unfold sK; congr 1; omega
theorem sV_at (adF : Int → Nat) {a : Int} (ha : -85 ≤ a ∧ a ≤ -60) : sV adF (-60 - a).toNat = adF a := by unfold sV; congr 1; omega
theorem x_gsval {ix : Nat} {a : Int} {ref : String} (hT : "java/lang/String" = ref) (hq : Cond.fieldLink own ix ref "value" "[B" ∈ lw_all) (hd : decode cc pc = .ok (.getfield ix, 3)) (kk : XG fh QQ own mn cc nL ret d Z (pc + 3) lv ((2, a - 50) :: st) h res) : XG fh QQ own mn cc nL ret d Z pc lv ((2, a) :: st) h (sgs a res) := ⟨kk.1.sgs, fun X ad H locs ls cells slots hS hl hlv hst hf0 => by
  obtain ⟨ha, hf⟩ := sgs_some hf0
  have h2 := kk.2 X ad H locs ls cells slots hS hl hlv (hst.t.c (okX.r (by omega))) hf
  change W _ _ _ _ _ _ _ _ _ _ _ _ _ _ _ (F0 _ _ _ (rv ad (a - 50) :: _)) at h2
  show W _ _ _ _ _ _ _ _ _ _ _ _ _ _ _ (F0 _ _ _ (rv ad a :: _))
  rw [rv_neg X hS (by omega)] at h2 ⊢
  have z := (X.hZ.2.2.2.2.2.1.1 (-10 - a).toNat (by omega)).2.2.1
  rw [sK_at _ ha] at z
  have e : sV (yAF Z) (-10 - a).toNat = yAF Z (a - 50) := by unfold sV; congr 1; omega
  rw [e] at z
  exact vk_getf X.hx X.hb z hS.hS X.hown (X.hts _ hq) (fun x e => by subst hT; exact e) hd h2⟩
theorem x_gscod {ix : Nat} {a : Int} {ref : String} (hT : "java/lang/String" = ref) (hq : Cond.fieldLink own ix ref "coder" "B" ∈ lw_all) (hd : decode cc pc = .ok (.getfield ix, 3)) (kk : XG fh QQ own mn cc nL ret d Z (pc + 3) lv ((0, 0) :: st) h res) : XG fh QQ own mn cc nL ret d Z pc lv ((2, a) :: st) h (sgs a res) := ⟨kk.1.sgs, fun X ad H locs ls cells slots hS hl hlv hst hf0 => by
  obtain ⟨ha, hf⟩ := sgs_some hf0
  have h2 := kk.2 X ad H locs ls cells slots hS hl hlv (hst.t.c (okX.i in32_0)) hf
  show W _ _ _ _ _ _ _ _ _ _ _ _ _ _ _ (F0 _ _ _ (rv ad a :: _))
  rw [rv_neg X hS (by omega)]
  have z := (X.hZ.2.2.2.2.2.1.1 (-10 - a).toNat (by omega)).2.1
  rw [sK_at _ ha] at z
  exact vk_getf X.hx X.hb z hS.hS X.hown (X.hts _ hq) (fun x e => by subst hT; exact e) hd h2⟩
theorem strL_lt : ∀ i, i < 26 → strL.getD i 0 < 1000 := by decide +kernel
theorem x_sblen {a : Int} (hd : decode cc pc = .ok (.arraylength, 1)) (kk : XG fh QQ own mn cc nL ret d Z (pc + 1) lv ((0, (sbl a : Int)) :: st) h res) : XG fh QQ own mn cc nL ret d Z pc lv ((2, a) :: st) h (sgb a res) := ⟨kk.1.sgb, fun X ad H locs ls cells slots hS hl hlv hst hf0 => by
  obtain ⟨ha, hf⟩ := sgb_some hf0
  have hlt : sbl a < 1000 := strL_lt _ (by omega)
  have h2 := kk.2 X ad H locs ls cells slots hS hl hlv (hst.t.c (okX.i ⟨by omega, by omega⟩)) hf
  show W _ _ _ _ _ _ _ _ _ _ _ _ _ _ _ (F0 _ _ _ (rv ad a :: _))
  rw [rv_neg X hS (by omega)]
  have z := (X.hZ.2.2.2.2.2.1.1 (-60 - a).toNat (by omega)).2.2.2
  rw [sV_at _ ha] at z
  exact va_tlen X.hx X.hb z hS.hS (v := I32 (sbl a : Int)) (Int32.ofInt_eq_ofNat).symm hd h2⟩
theorem x_sbld {a j : Int} (hd : decode cc pc = .ok (.baload, 1)) (kk : XG fh QQ own mn cc nL ret d Z (pc + 1) lv ((0, sbt a j) :: st) h res) : XG fh QQ own mn cc nL ret d Z pc lv ((0, j) :: (2, a) :: st) h (sgb a (ck j (sbl a) res)) := ⟨(kk.1.ck).sgb, fun X ad H locs ls cells slots hS hl hlv hst hf0 => by
  obtain ⟨ha, hf1⟩ := sgb_some hf0
  obtain ⟨j0, j1, hf⟩ := ck_some hf1
  have hr := strT_rng (-60 - a).toNat j.toNat
  have h2 := kk.2 X ad H locs ls cells slots hS hl hlv (hst.t.t.c (okX.i ⟨by unfold sbt; omega, by unfold sbt; omega⟩)) hf
  show W _ _ _ _ _ _ _ _ _ _ _ _ _ _ _ (F0 _ _ _ (_ :: rv ad a :: _))
  rw [rv_neg X hS (by omega)]
  have z := (X.hZ.2.2.2.2.2.1.1 (-60 - a).toNat (by omega)).2.2.2
  rw [sV_at _ ha] at z
  refine va_tb X.hx X.hb z hS.hS (i := I32 j) (I32_vp hst.i j0 j1) (v := .int (I32 (sbt a j))) ?_ hd h2
  show Value.int _ = Value.int _
  rw [I32_clamp hst.i j0, strB_at]
  rfl⟩
/-- a String constant stored in an array of Strings -/
theorem x_aastS {a j x : Int} {f : XH → Option ρ} (hd : decode cc pc = .ok (.aastore, 1)) (kk : ∀ h1, XG fh QQ own mn cc nL ret d Z (pc + 1) lv st h1 (f h1)) : XG fh QQ own mn cc nL ret d Z pc lv ((2, x) :: (0, j) :: (2, a) :: st) h (ai h a 10 j (sgs x (nm (hset h a j x) f))) := ⟨(((kk (hset h a j x)).1.set).sgs).ai, fun X ad H locs ls cells slots hS hl hlv hst hf9 => by
  obtain ⟨h1, h2, h3, h4, h5, hf0⟩ := ai_some hf9
  obtain ⟨hx, hf⟩ := sgs_some hf0
  have hq := xW_at (cT := yCT Z) (ad := ad) h1 h2
  rw [xcell_a h3] at hq
  have e := I32_clamp hst.t.i h4
  have er : xarr ad h a 10 = (xl h a, .inr (.inr (.inr (.inr fun i : Nat => ro ad (xv h a (i : Int)))))) := rfl
  rw [er] at hq
  have hra : rv ad a = .ref (ad a) := by unfold rv; rw [if_neg (by omega)]
  have z := vk_recv (X.hZ.2.2.2.2.2.1) (i := (-10 - x).toNat) (by omega) hS.hS
  rw [sK_at _ hx] at z
  show W _ _ _ _ _ _ _ _ _ _ _ _ _ _ _ (F0 _ _ _ (rv ad x :: _ :: rv ad a :: _))
  rw [hra, rv_neg X hS (by omega)]
  refine vb_astq (i := I32 j) (E := "java/lang/String") (C := "java/lang/String") (f := fun i : Nat => ro ad (xv h a (i : Int))) (n := xl h a) X.hx X.hb X.hK hS.hP hS.hD hS.hS (a.toNat - 1) 10 hq (xTys_at _ (by decide)) z vb_asgS (I32_vp hst.t.i h4 h5) hd (fun H1 locs1 hP1 hD1 hS1 => ?_)
  have er2 : ro ad x = some (yAF Z x) := by unfold ro; rw [if_neg (by omega), x_negs X hS x (by omega)]
  rw [e, ← er2, updXr h4] at hP1 hD1
  have e1 : xcell (yCT Z) ad (hset h a j x) a = (ad a, .inl (yCT Z 10, xl h a, .inr (.inr (.inr (.inr (fun i : Nat => ro ad (xv (hset h a j x) a (i : Int)))))))) := by
    rw [xcell_a (h := hset h a j x) h3]
    rfl
  rw [← e1, xW_set h1 h2] at hP1 hD1
  exact (kk _).2 X ad H1 locs1 ls cells slots (hS.up h1 (by rw [xtyA h3]; exact hst.r) hP1 hD1 hS1) hl hlv hst.t.t.t hf⟩
theorem x_i2c {a : Int} (hd : decode cc pc = .ok (.i2c, 1)) (kk : XG fh QQ own mn cc nL ret d Z (pc + 1) lv ((0, i2c a) :: st) h res) : XG fh QQ own mn cc nL ret d Z pc lv ((0, a) :: st) h res := ⟨kk.1, fun X ad H locs ls cells slots hS hl hlv hst hf => by
  have hi : in32 (i2c a) := by unfold i2c in32; omega
  have h2 := kk.2 X ad H locs ls cells slots hS hl hlv (hst.t.c (okX.i hi)) hf
  refine lv_i2c X.hx X.hb hd ?_ h2
  apply Int32.toInt_inj.mp
  rw [toI32 hi, lg_i2c_nf, lg_i2c_toInt, toI32 hst.i]
  rfl⟩
end ROWS
section RET
variable {own mn : String} {cc : ByteArray} {nL : Nat} {ret : Option FieldType} {d : Nat} {Z : XZ XR} {pc : Nat} {lv : List (Nat × AV)} {h : XH}
theorem x_cret {x : Int} (hret : ret = some .char) (hd : decode cc pc = .ok (.ireturn, 1)) : XG xfh (xQ 0) own mn cc nL ret d Z pc lv [(0, x)] h (cgc x (some (x, h))) := ⟨(XM.rf rfl).cgc, fun X ad H locs ls cells slots hS hl hlv hst hf0 => by
  obtain ⟨hz, hf⟩ := cgc_some hf0
  have hfin : (x, h) = yF Z := Option.some.inj hf
  obtain ⟨p1, p2, p3, p4, p5, p6, p7, p8⟩ := hS
  have hq : xQ 0 Z = MQ (yB Z) (xQc 0 (yD Z) (yCT Z) (yA0 Z) (yAA Z) (yH Z) (x, h)) (yA Z) (yS Z) cells slots (yAA Z) := by unfold xQ; rw [← hfin]; congr 1 <;> (first | (show xc h - xc (yH Z) = cells; omega) | (show xs h - xs (yH Z) = slots; omega))
  rw [hq]
  refine W.zret (ty := .char) X.hx X.hb (by rw [X.hr, hret]) ?_ (fun t ht hW => ?_) p3.2.2 hd X.hlk
  · have e := (pk_charN (q := x.toNat) (by omega)).1
    have e2 : nI x.toNat = I32 x := by show Int32.ofNat x.toNat = _; rw [← Int32.ofInt_eq_ofNat, Int.toNat_of_nonneg hz.1]
    rw [e2] at e
    exact e
  · exact ⟨⟨I32 x, ad, rfl, ⟨rfl, hst.hd, p4, p6, p5.1, p5.2⟩, by show va_P _ _ _ t.heap; rw [ht]; exact p1, p2⟩, p3.F ht⟩⟩
theorem x_bret {x : Int} (hret : ret = some .byte) (hd : decode cc pc = .ok (.ireturn, 1)) : XG xfh (xQ 0) own mn cc nL ret d Z pc lv [(0, x)] h (cgb x (some (x, h))) := ⟨(XM.rf rfl).cgb, fun X ad H locs ls cells slots hS hl hlv hst hf0 => by
  obtain ⟨hz, hf⟩ := cgb_some hf0
  have hfin : (x, h) = yF Z := Option.some.inj hf
  obtain ⟨p1, p2, p3, p4, p5, p6, p7, p8⟩ := hS
  have hq : xQ 0 Z = MQ (yB Z) (xQc 0 (yD Z) (yCT Z) (yA0 Z) (yAA Z) (yH Z) (x, h)) (yA Z) (yS Z) cells slots (yAA Z) := by unfold xQ; rw [← hfin]; congr 1 <;> (first | (show xc h - xc (yH Z) = cells; omega) | (show xs h - xs (yH Z) = slots; omega))
  rw [hq]
  refine W.zret (ty := .byte) X.hx X.hb (by rw [X.hr, hret]) ?_ (fun t ht hW => ?_) p3.2.2 hd X.hlk
  · have e := pk_nb (I32 x)
    rw [I32_i2b hst.hd, w8_id hz.1 hz.2] at e
    exact e
  · exact ⟨⟨I32 x, ad, rfl, ⟨rfl, hst.hd, p4, p6, p5.1, p5.2⟩, by show va_P _ _ _ t.heap; rw [ht]; exact p1, p2⟩, p3.F ht⟩⟩
end RET
section CALLS
variable {ρ : Type} {fh : ρ → XH} {QQ : XZ ρ → State → Prop} {own mn : String} {cc : ByteArray} {nL : Nat} {ret : Option FieldType} {d : Nat} {Z : XZ ρ} {pc : Nat} {lv : List (Nat × AV)} {st st0 : List AV} {h : XH} {f : Option XR} {g : Int → XH → Option ρ}
theorem x_callFi {y : MethodName} {cy : ByteArray} {ny dy ix : Nat} {ry : Option FieldType} {b : Int} (args : List AV) (n : Nat) (hm : XM xfh h f) (hM : okH h → okXs (xn h) ((2, b) :: args) → ∀ fin, f = some fin → xSpec (yL Z) y cy ny ry dy 0 ((2, b) :: args) h fin) (hw : GoodIn lw_all (wsV own ix "java/lang/String" y (ws_ y cy ny ry))) (hd : y.cls = "java/lang/String" ∧ y.cls ≠ "java/lang/invoke/MethodHandle" ∧ y.cls ≠ "java/lang/invoke/VarHandle" ∧ (parseMethodDescriptor y.desc).map (fun d => d.parameters.length) = some n) (hn : args.length = n) (hdd : dy + 1 ≤ d) (hny : ny ≤ 40) (hs0 : st0 = args.reverse ++ (2, b) :: st) (hcat : (st.map fun v => if v.1 = 1 then 2 else 1).sum ≤ 8) (hdg : decode cc pc = .ok (.invokevirtual ix, 3)) (kk : ∀ r h1, XG fh QQ own mn cc nL ret d Z (pc + 3) lv ((0, r) :: st) h1 (g r h1)) : XG fh QQ own mn cc nL ret d Z pc lv st0 h (sgs b (mb f g)) := ⟨(XM.mb hm (fun r h1 => (kk r h1).1)).sgs, fun X ad H locs ls cells slots hS hl hlv hst hf9 => by
  obtain ⟨o1, hf0⟩ := sgs_some hf9
  obtain ⟨r, h1, hf1, hf⟩ := mb_eq hf0
  subst hs0
  have ho := hst.app
  have hst2 : okXs (xn h) st := ho.2.t
  have hoa : okXs (xn h) ((2, b) :: args) := ho.1.rev.c ho.2.hd
  have hmc := hm (r, h1) hf1
  have hmf := (kk r h1).1 (yF Z) hf
  dsimp only [xfh] at hmc
  have hMM := hM hS.okh hoa (r, h1) hf1 (yD Z) (yCT Z) (yAF Z) ad H.size (x_negs X hS)
  have hroom : (xRm dy (xc h1 - xc h) (xs h1 - xs h)).frames + 1 ≤ (yR Z).frames ∧ 8 + (ny + 11) + (xRm dy (xc h1 - xc h) (xs h1 - xs h)).locals ≤ (yR Z).locals := by rw [X.hR]; exact ⟨hdd, by show 8 + (ny + 11) + 64 * dy ≤ 64 * d; omega⟩
  have hcw : CallW (yR Z) (yS Z) (yA Z) own "java/lang/String" ix y cy ny ry (ws_ y cy ny ry) (xRm dy (xc h1 - xc h) (xs h1 - xs h)) (xc h1 - xc h) (xs h1 - xs h) n := cwV n X.hts hw rfl rfl rfl hd hroom
  have hcnt : cells + (xc h1 - xc h) ≤ (yR Z).cells ∧ slots + (xs h1 - xs h) ≤ (yR Z).slots := by
    have p7 := hS.2.2.2.2.2.2.1
    have p8 := hS.2.2.2.2.2.2.2
    rw [X.hR]
    exact ⟨by show _ ≤ xc (fh (yF Z)) - xc (yH Z); omega, by show _ ≤ xs (fh (yF Z)) - xs (yH Z); omega⟩
  have hrb : cX ad (2, b) = .ref (ad b) := by show rv ad b = _; unfold rv; rw [if_neg (by omega)]
  have hstk : ((args.reverse ++ (2, b) :: st).map (cX ad)) = (args.map (cX ad)).reverse ++ .ref (ad b) :: st.map (cX ad) := by rw [List.map_append, List.map_reverse, List.map_cons, hrb]
  have hq := vk_recv (X.hZ.2.2.2.2.2.1) (i := (-10 - b).toNat) (by omega) hS.hS
  rw [sK_at _ o1, ← x_negs X hS b (by omega)] at hq
  refine va_calli (A1 := va_A (xW (yCT Z) ad h) H.size) (va_runV (As := args.map (cX ad)) (rest := st.map (cX ad)) (b := ad b) ⟨X.hx, X.hb, X.hml, X.hown, X.hts⟩ hMM hcw ⟨xPre_blind, hq, fun U hU hW => ⟨by rw [List.map_cons, hrb], x_pre X hS hU hW⟩⟩ rfl (by rw [List.length_map]; exact hn) (hl.1.trans X.hml) hstk (lv_room (cat_sumX hcat)) hdg hcnt) hS.hS (fun q _ hq => x_subA X hS q hq) (fun q hq => x_subA X hS q hq) ?_
  intro r' u t H1 locs1 ht hvm hpost hB hsz hkeep hS1
  obtain ⟨hr, hres⟩ := hpost
  obtain ⟨g1, g2, g3, g4, g5⟩ := x_back (fin := (r, h1)) X hS hl hlv hst2 hmc hres hB ht hS1
  have h9 := (kk r h1).2 X u H1 locs1 ls _ _ g1 g2 g3 (g4.c hres.1) hf
  rw [List.map_cons, g5] at h9
  rw [show r' = _ from hr]
  exact h9⟩
end CALLS
