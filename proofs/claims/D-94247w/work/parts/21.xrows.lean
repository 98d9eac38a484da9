/-! the system's layer: the judgement XG and a row an instruction -/
set_option maxRecDepth 100000
set_option maxHeartbeats 2000000
theorem xAOA_spec {s : State} (h : va_Nw (.arrayOver (.array .int)) s) :
    ∃ comp c k, s.vm.findClass (FieldType.array .int).toString = some comp ∧ (s.vm.classes.findIdx? fun (x : Class) => match x.kind with | .array component _ => component == comp | _ => false) = some c ∧ s.vm.classes[c]? = some k ∧ k.kind = .array comp (.array .int) ∧ s.vm.findClass ("[" ++ (FieldType.array .int).toString) = some c := by
  have h : (Cond.arrayOver (.array .int)).holds #[] s none s [] = true := h
  simp only [Cond.holds, Cond.value, beq_iff_eq] at h
  cases hc : s.vm.findClass (FieldType.array .int).toString with
  | none => simp [hc] at h
  | some comp =>
    simp only [hc, Option.bind_some, Option.bind_eq_some_iff, Option.map_eq_some_iff] at h
    obtain ⟨c, hi, k, hk, hb⟩ := h
    obtain ⟨hlt, hp, -⟩ := Array.findIdx?_eq_some_iff_getElem.mp hi
    have hkk : s.vm.classes[c] = k := (Array.getElem?_eq_some_iff.mp hk).2
    rw [hkk] at hp
    cases hkind : k.kind with
    | array component ty =>
      rw [hkind] at hb hp
      simp at hb hp
      exact ⟨comp, c, k, rfl, hi, hk, by rw [hkind, hp, hb.1], hb.2⟩
    | _ => rw [hkind] at hb; simp at hb
theorem xAOA_moved {u U : State} (hvm : u.vm.Alike U.vm) (h : va_Nw (.arrayOver (.array .int)) u) : va_Nw (.arrayOver (.array .int)) U := by
  obtain ⟨comp, c, k, h1, h2, h3, h4, h5⟩ := xAOA_spec h
  obtain ⟨k', hk', he⟩ := hvm.2.2 _ _ h3
  have hi : (U.vm.classes.findIdx? fun (x : Class) => match x.kind with | .array component _ => component == comp | _ => false) = some c := by
    refine Eq.trans (Eq.symm (va_idx_bare U.vm comp)) ?_
    first | rw [hvm.bare_eq] | rw [← hvm.bare_eq]
    exact (va_idx_bare u.vm comp).trans h2
  have hkind : k'.kind = .array comp (.array .int) := by rw [he]; exact h4
  have f1 : U.vm.findClass (FieldType.array .int).toString = some comp := by rw [hvm.findClass]; exact h1
  have f2 : U.vm.findClass ("[" ++ (FieldType.array .int).toString) = some c := by rw [hvm.findClass]; exact h5
  unfold va_Nw Cond.before Cond.holds
  simp only [Cond.value]
  rw [f1, Option.bind_some]
  refine (congrArg (fun o : Option Nat => (o.bind (fun c => (U.vm.classes[c]?).map fun (k : Class) => match k.kind with | .array _ ty => decide (ty = FieldType.array .int) && decide (U.vm.findClass ("[" ++ (FieldType.array .int).toString) = some c) | _ => false) == some true)) hi).trans ?_
  simp [hk', hkind, f2]
def xIsN (w : Cond) : Bool := match w with
  | .fieldLinkNest _ _ _ _ _ _ => true
  | .methodLinkNest _ _ _ _ => true
  | .castable _ _ => true
  | .declares _ => true
  | .arrayOver (.object _) => true
  | .arrayOver (.array .int) => true
  | _ => false
/-- the tables' words that don't ride in the lists -/
def xFN (U : State) : Prop := ∀ w ∈ lw_tbl, xIsN w = true → va_Nw w U
theorem xFN.use {U : State} (h : xFN U) {w : Cond} (hw : w ∈ lw_tbl) (hn : xIsN w = true) : va_Nw w U := h w hw hn
theorem xFN.warm {s U : State} (hW : s.WarmedH U.vm) (h : xFN s) : xFN U := by
  intro w hw hn
  have := h w hw hn
  match w, hn, this with
  | .fieldLinkNest _ _ _ _ _ _, _, h1 => exact va_Nw.warmF hW h1
  | .methodLinkNest _ _ _ _, _, h1 => exact va_Nw.warmM hW h1
  | .castable _ _, _, h1 => exact va_Nw.warmC hW h1
  | .declares _, _, h1 => exact va_Nw.warmD hW h1
  | .arrayOver (.object C), _, h1 => exact va_AO.moved (C := C) hW.alike h1
  | .arrayOver (.array .int), _, h1 => exact xAOA_moved hW.alike h1
theorem xFN.same {u U : State} (h : u.vm = U.vm) (hz : xFN u) : xFN U := by
  intro w hw hn
  have := hz w hw hn
  match w, hn, this with
  | .fieldLinkNest _ _ _ _ _ _, _, h1 => exact va_Nw.same rfl h h1
  | .methodLinkNest _ _ _ _, _, h1 => exact va_Nw.same rfl h h1
  | .castable _ _, _, h1 => exact va_Nw.same rfl h h1
  | .declares _, _, h1 => exact va_Nw.same rfl h h1
  | .arrayOver (.object C), _, h1 => exact va_AO.moved (C := C) (h ▸ Vm.Alike.refl u.vm) h1
  | .arrayOver (.array .int), _, h1 => exact xAOA_moved (h ▸ Vm.Alike.refl u.vm) h1
/-- String constants: their texts as bytes, their entries; the i-th has the name -(10 + i), its bytes -(60 + i) -/
def strT : List (List Int) := [[107, 105, 110, 103], [112, 97, 103, 101, 115], [108, 101, 118, 101, 108], [104, 101, 108, 112, 101, 100], [108, 105, 107, 101, 100], [100, 97, 121], [113, 117, 101, 115, 116, 105, 111, 110], [104, 111, 117, 114, 115], [107, 101, 101, 112, 115], [99, 104, 97, 110, 99, 101], [91], [93], [42], [47], [43], [45], [105, 102], [110, 111, 116], [40], [41], [60], [62], [61], [97, 110, 100], [111, 114], [59]]
def strL : List Nat := strT.map List.length
def strB : List (List Int32) := strT.map fun l => l.map I32
def xStrs : List (Nat × String × Int) := [(23, "king", -10), (25, "pages", -11), (27, "level", -12), (29, "helped", -13), (31, "liked", -14), (33, "day", -15), (35, "question", -16), (41, "hours", -17), (43, "keeps", -18), (45, "chance", -19), (211, "[", -20), (213, "]", -21), (207, "*", -22), (209, "/", -23), (197, "+", -24), (199, "-", -25), (134, "if", -26), (166, "not", -27), (168, "(", -28), (173, ")", -29), (179, "<", -30), (181, ">", -31), (183, "=", -32), (159, "and", -33), (150, "or", -34), (76, ";", -35)]
/-- statics of which only 'a reference or null' is known: the value's name lies at place 0 of the static's name -/
def xStat : List (Int × String × String × String) := [(-3, "jdk/internal/util/Preconditions", "SIOOBE_FORMATTER", "Ljava/util/function/BiFunction;"), (-4, "java/lang/Throwable", "UNASSIGNED_STACK", "[Ljava/lang/StackTraceElement;"), (-5, "java/lang/Throwable", "SUPPRESSED_SENTINEL", "Ljava/util/List;")]
def sK (adF : Int → Nat) (i : Nat) : Nat := adF (-(10 + (i : Int)))
def sV (adF : Int → Nat) (i : Nat) : Nat := adF (-(60 + (i : Int)))
/-- where a static field lies (as the law of exceptions asks it) -/
def xLay (C n d : String) (A : Nat → Prop) (U : State) (H : Heap) : Prop := ∃ (c : ClassId) (k : Class) (i : Nat) (f : Field) (a : Nat) (cell : Cell), U.vm.findClass C = some c ∧ U.fieldFound? C n d = some (c, k, i, f) ∧ f.isStatic = true ∧ k.statics = some a ∧ H[a]? = some cell ∧ cell.vm.isStatics = true ∧ cell.cls = c ∧ f.slot < cell.slots.size ∧ k.staticTypes[f.slot]? = some f.type ∧ ¬ A a
theorem xLay.moved {C n d : String} {A : Nat → Prop} {u U : State} {H : Heap} (hvm : u.vm.Alike U.vm) (h : xLay C n d A u H) : xLay C n d A U H := by
  obtain ⟨c, k, i, f, a, cell, h1, h2, h3, h4, h5, h6, h7, h8, h9, h10⟩ := h
  obtain ⟨k', hi', he⟩ := State.fieldFound?_setVm hvm h2
  exact ⟨c, k', i, f, a, cell, by rw [hvm.findClass]; exact h1, hi', h3, by rw [he]; exact h4, h5, h6, h7, h8, by rw [he]; exact h9, h10⟩
theorem xLay.kept {C n d : String} {A : Nat → Prop} {U : State} {H H1 : Heap} (h : xLay C n d A U H) (hq : ∀ a : Nat, a < H.size → ¬ A a → H1[a]? = H[a]?) : xLay C n d A U H1 := by
  obtain ⟨c, k, i, f, a, cell, h1, h2, h3, h4, h5, h6, h7, h8, h9, h10⟩ := h
  exact ⟨c, k, i, f, a, cell, h1, h2, h3, h4, by rw [hq a (Array.getElem?_eq_some_iff.mp h5).1 h10]; exact h5, h6, h7, h8, h9, h10⟩
theorem xLay.narrow {C n d : String} {A B : Nat → Prop} {U : State} {H : Heap} (h : xLay C n d A U H) (hAB : ∀ q, B q → A q) : xLay C n d B U H := by
  obtain ⟨c, k, i, f, a, cell, h1, h2, h3, h4, h5, h6, h7, h8, h9, h10⟩ := h
  exact ⟨c, k, i, f, a, cell, h1, h2, h3, h4, h5, h6, h7, h8, h9, fun z => h10 (hAB _ z)⟩
/-- what stands outside the named cells: ArrayList's static and the empty array that it holds, the class object of Object[], String's static, statics that are passed along, the String constants -/
def xFZ (adF : Int → Nat) (h : XH) (A : Nat → Prop) (U : State) (H : Heap) : Prop :=
  va_Z "java/util/ArrayList" "DEFAULTCAPACITY_EMPTY_ELEMENTDATA" "[Ljava/lang/Object;" (.ref (adF (-1))) A U H ∧ va_T (.object "java/lang/Object") (adF (-1)) 0 (fun _ => .null) A U H ∧ va_Mi "[Ljava/lang/Object;" (adF (-2)) U ∧ va_Z "java/lang/String" "COMPACT_STRINGS" "Z" (.int 1) A U H ∧ (∀ q ∈ xStat, xv h q.1 0 ≤ 0 ∧ va_Z q.2.1 q.2.2.1 q.2.2.2 (rv adF (xv h q.1 0)) A U H ∧ xLay q.2.1 q.2.2.1 q.2.2.2 A U H) ∧ vk_S 26 strL strB (sK adF) (sV adF) A U H ∧ ∀ q ∈ xStrs, vk_R "ExamSlips$Reader" q.1 q.2.1 (adF q.2.2) U
theorem xFZ.moved {adF : Int → Nat} {h : XH} {A : Nat → Prop} {u U : State} {H : Heap} (hW : u.WarmedH U.vm) (z : xFZ adF h A u H) : xFZ adF h A U H := by
  obtain ⟨z1, z2, z3, z4, z5, z6, z7⟩ := z
  exact ⟨z1.moved hW.alike, z2.moved hW.alike, z3.moved hW.alike, z4.moved hW.alike, fun q hq => ⟨(z5 q hq).1, (z5 q hq).2.1.moved hW.alike, (z5 q hq).2.2.moved hW.alike⟩, z6.moved hW.alike, fun q hq => (z7 q hq).warm hW⟩
theorem xFZ.same {adF : Int → Nat} {h : XH} {A : Nat → Prop} {u U : State} {H : Heap} (hv : U.vm = u.vm) (z : xFZ adF h A u H) : xFZ adF h A U H := by
  have ha : u.vm.Alike U.vm := hv ▸ Vm.Alike.refl u.vm
  obtain ⟨z1, z2, z3, z4, z5, z6, z7⟩ := z
  exact ⟨z1.moved ha, z2.moved ha, z3.moved ha, z4.moved ha, fun q hq => ⟨(z5 q hq).1, (z5 q hq).2.1.moved ha, (z5 q hq).2.2.moved ha⟩, z6.moved ha, fun q hq => (z7 q hq).same hv⟩
theorem xFZ.kept {adF : Int → Nat} {h : XH} {A : Nat → Prop} {U : State} {H H1 : Heap} (z : xFZ adF h A U H) (hq : ∀ a : Nat, a < H.size → ¬ A a → H1[a]? = H[a]?) : xFZ adF h A U H1 := by
  obtain ⟨z1, z2, z3, z4, z5, z6, z7⟩ := z
  exact ⟨z1.kept hq, z2.kept hq, z3, z4.kept hq, fun q h => ⟨(z5 q h).1, (z5 q h).2.1.kept hq, (z5 q h).2.2.kept hq⟩, z6.kept hq, z7⟩
theorem xFZ.narrow {adF : Int → Nat} {h : XH} {A B : Nat → Prop} {U : State} {H : Heap} (z : xFZ adF h A U H) (hAB : ∀ q, B q → A q) : xFZ adF h B U H := by
  obtain ⟨z1, z2, z3, z4, z5, z6, z7⟩ := z
  exact ⟨z1.narrow hAB, z2.narrow hAB, z3, z4.narrow hAB, fun q h => ⟨(z5 q h).1, (z5 q h).2.1.narrow hAB, (z5 q h).2.2.narrow hAB⟩, z6.narrow hAB, z7⟩
theorem xFZ.heap {adF : Int → Nat} {h h' : XH} {A : Nat → Prop} {U : State} {H : Heap} (z : xFZ adF h A U H) (e : ∀ a j : Int, a < 0 → xv h' a j = xv h a j) : xFZ adF h' A U H := by
  obtain ⟨z1, z2, z3, z4, z5, z6, z7⟩ := z
  refine ⟨z1, z2, z3, z4, fun q hq => ?_, z6, z7⟩
  have hn : q.1 < 0 := (by decide : ∀ q ∈ xStat, q.1 < 0) q hq
  rw [e _ _ hn]
  exact z5 q hq
abbrev XZ (ρ : Type) : Type := (Program × Launch × Env × Room × State × MethodId × Array Value × List Frame × Method × Code) × (va_G × (Nat → ClassId) × (Int → Nat) × (Int → Nat) × (Nat → Prop)) × (ρ × XH)
section ACC
variable {ρ : Type}
abbrev yP (Z : XZ ρ) : Program := Z.1.1
abbrev yL (Z : XZ ρ) : Launch := Z.1.2.1
abbrev yE (Z : XZ ρ) : Env := Z.1.2.2.1
abbrev yR (Z : XZ ρ) : Room := Z.1.2.2.2.1
abbrev yS (Z : XZ ρ) : State := Z.1.2.2.2.2.1
abbrev yM (Z : XZ ρ) : MethodId := Z.1.2.2.2.2.2.1
abbrev yA (Z : XZ ρ) : Array Value := Z.1.2.2.2.2.2.2.1
abbrev yB (Z : XZ ρ) : List Frame := Z.1.2.2.2.2.2.2.2.1
abbrev yT (Z : XZ ρ) : Method := Z.1.2.2.2.2.2.2.2.2.1
abbrev yC (Z : XZ ρ) : Code := Z.1.2.2.2.2.2.2.2.2.2
abbrev yD (Z : XZ ρ) : va_G := Z.2.1.1
abbrev yCT (Z : XZ ρ) : Nat → ClassId := Z.2.1.2.1
abbrev yAF (Z : XZ ρ) : Int → Nat := Z.2.1.2.2.1
abbrev yA0 (Z : XZ ρ) : Int → Nat := Z.2.1.2.2.2.1
abbrev yAA (Z : XZ ρ) : Nat → Prop := Z.2.1.2.2.2.2
abbrev yF (Z : XZ ρ) : ρ := Z.2.2.1
abbrev yH (Z : XZ ρ) : XH := Z.2.2.2
end ACC
/-- how much more there may come -/
def XM {ρ : Type} (fh : ρ → XH) (h : XH) (res : Option ρ) : Prop := ∀ fin, res = some fin → xc h ≤ xc (fh fin) ∧ xs h ≤ xs (fh fin) ∧ xn h ≤ xn (fh fin)
/-- what holds all through a method's run -/
def XX {ρ : Type} (fh : ρ → XH) (own mn : String) (cc : ByteArray) (nL : Nat) (ret : Option FieldType) (d : Nat) (Z : XZ ρ) : Prop :=
  yR Z = { frames := d, cells := xc (fh (yF Z)) - xc (yH Z), slots := xs (fh (yF Z)) - xs (yH Z), locals := 64 * d } ∧ (yP Z).tables.exec = Jvm.exec ∧ (yC Z).code = cc ∧ (yC Z).maxLocals = nL ∧ (yS Z).vm.findClass own = some (yM Z).cls ∧ (∀ w ∈ lw_all, w.before (yA Z) (yS Z) = true) ∧ va_K (yD Z) gcl (xTys (yCT Z)) (yS Z) ∧ (yT Z).locks = false ∧ (yT Z).sig.returnType = ret ∧ xFN (yS Z) ∧ xFZ (yAF Z) (yH Z) (yAA Z) (yS Z) (yS Z).heap ∧ (∀ q, (yS Z).heap.size ≤ q → yAA Z q) ∧ (∀ a : Int, a < 0 → yA0 Z a = yAF Z a) ∧ (yT Z).name = mn
section
variable {ρ : Type} {fh : ρ → XH} {own mn : String} {cc : ByteArray} {nL : Nat} {ret : Option FieldType} {d : Nat} {Z : XZ ρ}
theorem XX.hR (h : XX fh own mn cc nL ret d Z) : yR Z = { frames := d, cells := xc (fh (yF Z)) - xc (yH Z), slots := xs (fh (yF Z)) - xs (yH Z), locals := 64 * d } := h.1
theorem XX.hx (h : XX fh own mn cc nL ret d Z) : (yP Z).tables.exec = Jvm.exec := h.2.1
theorem XX.hb (h : XX fh own mn cc nL ret d Z) : (yC Z).code = cc := h.2.2.1
theorem XX.hml (h : XX fh own mn cc nL ret d Z) : (yC Z).maxLocals = nL := h.2.2.2.1
theorem XX.hown (h : XX fh own mn cc nL ret d Z) : (yS Z).vm.findClass own = some (yM Z).cls := h.2.2.2.2.1
theorem XX.hts (h : XX fh own mn cc nL ret d Z) : ∀ w ∈ lw_all, w.before (yA Z) (yS Z) = true := h.2.2.2.2.2.1
theorem XX.hK (h : XX fh own mn cc nL ret d Z) : va_K (yD Z) gcl (xTys (yCT Z)) (yS Z) := h.2.2.2.2.2.2.1
theorem XX.hlk (h : XX fh own mn cc nL ret d Z) : (yT Z).locks = false := h.2.2.2.2.2.2.2.1
theorem XX.hr (h : XX fh own mn cc nL ret d Z) : (yT Z).sig.returnType = ret := h.2.2.2.2.2.2.2.2.1
theorem XX.hN (h : XX fh own mn cc nL ret d Z) : xFN (yS Z) := h.2.2.2.2.2.2.2.2.2.1
theorem XX.hZ (h : XX fh own mn cc nL ret d Z) : xFZ (yAF Z) (yH Z) (yAA Z) (yS Z) (yS Z).heap := h.2.2.2.2.2.2.2.2.2.2.1
theorem XX.hA (h : XX fh own mn cc nL ret d Z) : ∀ q, (yS Z).heap.size ≤ q → yAA Z q := h.2.2.2.2.2.2.2.2.2.2.2.1
theorem XX.hF (h : XX fh own mn cc nL ret d Z) : ∀ a : Int, a < 0 → yA0 Z a = yAF Z a := h.2.2.2.2.2.2.2.2.2.2.2.2.1
theorem XX.hnm (h : XX fh own mn cc nL ret d Z) : (yT Z).name = mn := h.2.2.2.2.2.2.2.2.2.2.2.2.2
end
/-- the machine's state is that of the layer's heap -/
def XS {ρ : Type} (Z : XZ ρ) (h : XH) (ad : Int → Nat) (H : Heap) (locs : List Loc) (cells slots : Nat) : Prop :=
  va_P (yD Z) gcl (xW (yCT Z) ad h) H ∧ va_D (yAA Z) (xW (yCT Z) ad h) ∧ va_S (yAA Z) (yS Z).heap H locs ∧ okH h ∧ ((∀ a : Int, a ≤ (xn (yH Z) : Int) → ad a = yA0 Z a) ∧ ∀ a j : Int, a < 0 → xv h a j = xv (yH Z) a j) ∧ xn (yH Z) ≤ xn h ∧ xc h = xc (yH Z) + cells ∧ xs h = xs (yH Z) + slots
def XG {ρ : Type} (fh : ρ → XH) (QQ : XZ ρ → State → Prop) (own mn : String) (cc : ByteArray) (nL : Nat) (ret : Option FieldType) (d : Nat) (Z : XZ ρ) (pc : Nat) (lv : List (Nat × AV)) (st : List AV) (h : XH) (res : Option ρ) : Prop :=
  XM fh h res ∧ (XX fh own mn cc nL ret d Z → ∀ (ad : Int → Nat) (H : Heap) (locs : List Loc) (ls : Array Slot) (cells slots : Nat), XS Z h ad H locs cells slots → lv_has ls (yC Z).maxLocals (lv.map (cX1 ad)) → okXl (xn h) lv → okXs (xn h) st → res = some (yF Z) → W (yP Z) (yL Z) (yE Z) (yR Z) (yS Z) (yM Z) (yA Z) (yB Z) (yT Z) (yC Z) H locs cells slots (QQ Z) (F0 (yM Z) pc ls (st.map (cX ad))))
theorem okXl.at {N : Nat} {lv : List (Nat × AV)} (h : okXl N lv) {j i : Nat} {v : AV} (hj : lv[j]? = some (i, v)) : okX N v := h (i, v) (List.mem_of_getElem? hj)
theorem rv_cat (ad : Int → Nat) (r : Int) : (rv ad r).category = 1 := by unfold rv; split <;> rfl
theorem cat_cX (ad : Int → Nat) (v : AV) : ((cX ad v).category == 2) = (v.1 == 1) := by
  match v with
  | (0, x) => rfl
  | (1, x) => rfl
  | (n + 2, x) =>
    show ((rv ad x).category == 2) = _
    rw [rv_cat]; rfl
theorem cat1_cX (ad : Int → Nat) (v : AV) (h : (v.1 == 1) = false) : (cX ad v).category = 1 := by
  match v with
  | (0, x) => rfl
  | (1, x) => cases h
  | (n + 2, x) => exact rv_cat ad x
theorem lvs1_mapX (ad : Int → Nat) (i : Nat) (v : AV) (lv : List (Nat × AV)) : (lvs1 i v lv).map (cX1 ad) = (i, cX ad v) :: (lv.map (cX1 ad)).filter (fun q => !(q.1 == i) && !(q.1 + 1 == i && q.2.category == 2)) := by
  unfold lvs1
  rw [List.map_cons, List.filter_map]
  congr 2
  apply List.filter_congr
  intro q _
  show _ = (!(q.1 == i) && !(q.1 + 1 == i && (cX ad q.2).category == 2))
  rw [cat_cX]
theorem lvs2_mapX (ad : Int → Nat) (i : Nat) (v : AV) (lv : List (Nat × AV)) : (lvs2 i v lv).map (cX1 ad) = (i, cX ad v) :: (lv.map (cX1 ad)).filter (fun q => !(q.1 == i) && (!(q.1 == i + 1) && !(q.1 + 1 == i && q.2.category == 2))) := by
  unfold lvs2
  rw [List.map_cons, List.filter_map]
  congr 2
  apply List.filter_congr
  intro q _
  show _ = (!(q.1 == i) && (!(q.1 == i + 1) && !(q.1 + 1 == i && (cX ad q.2).category == 2)))
  rw [cat_cX]
theorem okXl.s1 {N : Nat} {lv : List (Nat × AV)} (h : okXl N lv) {i : Nat} {v : AV} (hv : okX N v) : okXl N (lvs1 i v lv) := fun q hq => by
  rcases List.mem_cons.mp hq with rfl | hq
  · exact hv
  · exact h q (List.mem_filter.mp hq).1
theorem okXl.s2 {N : Nat} {lv : List (Nat × AV)} (h : okXl N lv) {i : Nat} {v : AV} (hv : okX N v) : okXl N (lvs2 i v lv) := fun q hq => by
  rcases List.mem_cons.mp hq with rfl | hq
  · exact hv
  · exact h q (List.mem_filter.mp hq).1
section ROWS
variable {ρ : Type} {fh : ρ → XH} {QQ : XZ ρ → State → Prop} {own mn : String} {cc : ByteArray} {nL : Nat} {ret : Option FieldType} {d : Nat} {Z : XZ ρ} {pc : Nat} {lv : List (Nat × AV)} {st : List AV} {h : XH} {res : Option ρ}
theorem x_none : XG fh QQ own mn cc nL ret d Z pc lv st h none := ⟨(fun fin hf => by cases hf), fun X ad H locs ls cells slots hS hl hlv hst hf => by cases hf⟩
theorem x_lv {lv' : List (Nat × AV)} (e : lv = lv') (kk : XG fh QQ own mn cc nL ret d Z pc lv' st h res) : XG fh QQ own mn cc nL ret d Z pc lv st h res := e ▸ kk
theorem x_sub {lv' : List (Nat × AV)} (is : List Nat) (e : is.filterMap (fun i => lv[i]?) = lv') (kk : XG fh QQ own mn cc nL ret d Z pc lv' st h res) : XG fh QQ own mn cc nL ret d Z pc lv st h res := by
  refine ⟨kk.1, fun X ad H locs ls cells slots hS hl hlv hst hf => kk.2 X ad H locs ls cells slots hS ⟨hl.1, hl.2.1, fun q hq => ?_⟩ (fun q hq => ?_) hst hf⟩
  · obtain ⟨q0, h0, rfl⟩ := List.mem_map.mp hq
    rw [← e] at h0
    obtain ⟨i, -, hi⟩ := List.mem_filterMap.mp h0
    exact hl.2.2 _ (List.mem_map.mpr ⟨q0, List.mem_of_getElem? hi, rfl⟩)
  · rw [← e] at hq
    obtain ⟨i, -, hi⟩ := List.mem_filterMap.mp hq
    exact hlv q (List.mem_of_getElem? hi)
theorem x_nmT {t : Nat} {e : Int} {f : Int → Option ρ} (kk : ∀ x, XG fh QQ own mn cc nL ret d Z pc lv ((t, x) :: st) h (f x)) : XG fh QQ own mn cc nL ret d Z pc lv ((t, e) :: st) h (nm e f) := kk e
theorem x_join {α : Type} {e : α} {F : α → Option ρ} (pcJ : Nat) (stJ : α → List AV) (hJ : ∀ v, XG fh QQ own mn cc nL ret d Z pcJ lv (stJ v) h (F v)) (hK : (∀ v, XG fh QQ own mn cc nL ret d Z pcJ lv (stJ v) h (F v)) → XG fh QQ own mn cc nL ret d Z pc lv st h (nm e F)) : XG fh QQ own mn cc nL ret d Z pc lv st h (nm e F) := hK hJ
theorem XM.ck {j n : Int} (k : XM fh h res) : XM fh h (ck j n res) := fun fin hf => k fin (ck_some hf).2.2
theorem XM.cz {j : Int} (k : XM fh h res) : XM fh h (cz j res) := fun fin hf => k fin (cz_some hf).2
theorem XM.cb {j : Int} (k : XM fh h res) : XM fh h (cb j res) := fun fin hf => k fin (cb_some hf).2
theorem XM.ite {p : Prop} [Decidable p] {a b : Option ρ} (ka : p → XM fh h a) (kb : ¬ p → XM fh h b) : XM fh h (if p then a else b) := fun fin hf => by
  split at hf
  · rename_i e; exact ka e fin hf
  · rename_i e; exact kb e fin hf
/-- a place in range drops its check -/
theorem x_in {j n : Int} (h0 : 0 ≤ j) (h1 : j < n) (kk : XG fh QQ own mn cc nL ret d Z pc lv st h (ck j n res)) : XG fh QQ own mn cc nL ret d Z pc lv st h res := by rw [ck_ok h0 h1] at kk; exact kk
theorem x_nz {b : Int} (h0 : b ≠ 0) (kk : XG fh QQ own mn cc nL ret d Z pc lv st h (cz b res)) : XG fh QQ own mn cc nL ret d Z pc lv st h res := by rw [cz_ok h0] at kk; exact kk
theorem x_cb {b : Int} (h0 : b = 0 ∨ b = 1) (kk : XG fh QQ own mn cc nL ret d Z pc lv st h (cb b res)) : XG fh QQ own mn cc nL ret d Z pc lv st h res := by rw [cb_ok h0] at kk; exact kk
theorem x_iload_n {k : Fin 4} {i : Nat} {x : Int} (j : Nat) (hd : decode cc pc = .ok (.iload_n k, 1)) (hk : (k : Nat) = i) (hj : lv[j]? = some (i, (0, x))) (kk : XG fh QQ own mn cc nL ret d Z (pc + 1) lv ((0, x) :: st) h res) : XG fh QQ own mn cc nL ret d Z pc lv st h res := ⟨kk.1, fun X ad H locs ls cells slots hS hl hlv hst hf => lv_iload_n X.hx X.hb hd hk (lv_at hl j (map_at (cX1 _) hj)) (kk.2 X ad H locs ls cells slots hS hl hlv (hst.c (hlv.at hj)) hf)⟩
theorem x_iload {i : Nat} {x : Int} (j : Nat) (hd : decode cc pc = .ok (.iload i, 2)) (hj : lv[j]? = some (i, (0, x))) (kk : XG fh QQ own mn cc nL ret d Z (pc + 2) lv ((0, x) :: st) h res) : XG fh QQ own mn cc nL ret d Z pc lv st h res := ⟨kk.1, fun X ad H locs ls cells slots hS hl hlv hst hf => lv_iload X.hx X.hb hd (lv_at hl j (map_at (cX1 _) hj)) (kk.2 X ad H locs ls cells slots hS hl hlv (hst.c (hlv.at hj)) hf)⟩
theorem x_lload_n {k : Fin 4} {i : Nat} {x : Int} (j : Nat) (hd : decode cc pc = .ok (.lload_n k, 1)) (hk : (k : Nat) = i) (hj : lv[j]? = some (i, (1, x))) (kk : XG fh QQ own mn cc nL ret d Z (pc + 1) lv ((1, x) :: st) h res) : XG fh QQ own mn cc nL ret d Z pc lv st h res := ⟨kk.1, fun X ad H locs ls cells slots hS hl hlv hst hf => lv_lload_n X.hx X.hb hd hk (lv_at hl j (map_at (cX1 _) hj)) (kk.2 X ad H locs ls cells slots hS hl hlv (hst.c (hlv.at hj)) hf)⟩
theorem x_lload {i : Nat} {x : Int} (j : Nat) (hd : decode cc pc = .ok (.lload i, 2)) (hj : lv[j]? = some (i, (1, x))) (kk : XG fh QQ own mn cc nL ret d Z (pc + 2) lv ((1, x) :: st) h res) : XG fh QQ own mn cc nL ret d Z pc lv st h res := ⟨kk.1, fun X ad H locs ls cells slots hS hl hlv hst hf => lv_lload X.hx X.hb hd (lv_at hl j (map_at (cX1 _) hj)) (kk.2 X ad H locs ls cells slots hS hl hlv (hst.c (hlv.at hj)) hf)⟩
theorem x_aload_n {k : Fin 4} {i : Nat} {x : Int} (j : Nat) (hd : decode cc pc = .ok (.aload_n k, 1)) (hk : (k : Nat) = i) (hj : lv[j]? = some (i, (2, x))) (kk : XG fh QQ own mn cc nL ret d Z (pc + 1) lv ((2, x) :: st) h res) : XG fh QQ own mn cc nL ret d Z pc lv st h res := ⟨kk.1, fun X ad H locs ls cells slots hS hl hlv hst hf => by
  have h1 := lv_at hl j (map_at (cX1 ad) hj)
  have h2 := kk.2 X ad H locs ls cells slots hS hl hlv (hst.c (hlv.at hj)) hf
  change ls[i]? = some (.val (rv ad x)) at h1
  change W _ _ _ _ _ _ _ _ _ _ _ _ _ _ _ (F0 _ _ _ (rv ad x :: _)) at h2
  unfold rv at h1 h2
  split at h1
  · rename_i e; rw [if_pos e] at h2; exact lv_aload_nN X.hx X.hb hd hk h1 h2
  · rename_i e; rw [if_neg e] at h2; exact lv_aload_n X.hx X.hb hd hk h1 h2⟩
theorem x_astore_n {k : Fin 4} {i : Nat} {x : Int} {lv' : List (Nat × AV)} (hd : decode cc pc = .ok (.astore_n k, 1)) (hk : (k : Nat) = i) (hn : i < nL) (hl' : lvs1 i (2, x) lv = lv') (kk : XG fh QQ own mn cc nL ret d Z (pc + 1) lv' st h res) : XG fh QQ own mn cc nL ret d Z pc lv ((2, x) :: st) h res := ⟨kk.1, fun X ad H locs ls cells slots hS hl hlv hst hf => by
  have h2 := fun ls' hl2 => kk.2 X ad H locs ls' cells slots hS hl2 (by rw [← hl']; exact hlv.s1 hst.hd) hst.t hf
  rw [← hl', lvs1_mapX] at h2
  change ∀ ls', lv_has ls' _ ((i, rv ad x) :: _) → _ at h2
  show W _ _ _ _ _ _ _ _ _ _ _ _ _ _ _ (F0 _ _ _ (rv ad x :: _))
  unfold rv at h2 ⊢
  split
  · rename_i e; simp only [if_pos e] at h2; exact lv_astore_nN X.hx X.hb hd hk hl (by rw [X.hml]; exact hn) rfl h2
  · rename_i e; simp only [if_neg e] at h2; exact lv_astore_n X.hx X.hb hd hk hl (by rw [X.hml]; exact hn) rfl h2⟩
theorem x_aload {i : Nat} {x : Int} (j : Nat) (hd : decode cc pc = .ok (.aload i, 2)) (hj : lv[j]? = some (i, (2, x))) (kk : XG fh QQ own mn cc nL ret d Z (pc + 2) lv ((2, x) :: st) h res) : XG fh QQ own mn cc nL ret d Z pc lv st h res := ⟨kk.1, fun X ad H locs ls cells slots hS hl hlv hst hf => by
  have h1 := lv_at hl j (map_at (cX1 ad) hj)
  have h2 := kk.2 X ad H locs ls cells slots hS hl hlv (hst.c (hlv.at hj)) hf
  change ls[i]? = some (.val (rv ad x)) at h1
  change W _ _ _ _ _ _ _ _ _ _ _ _ _ _ _ (F0 _ _ _ (rv ad x :: _)) at h2
  unfold rv at h1 h2
  split at h1
  · rename_i e; rw [if_pos e] at h2; exact lv_aloadN X.hx X.hb hd h1 h2
  · rename_i e; rw [if_neg e] at h2; exact lv_aload X.hx X.hb hd h1 h2⟩
theorem x_astore {i : Nat} {x : Int} {lv' : List (Nat × AV)} (hd : decode cc pc = .ok (.astore i, 2)) (hn : i < nL) (hl' : lvs1 i (2, x) lv = lv') (kk : XG fh QQ own mn cc nL ret d Z (pc + 2) lv' st h res) : XG fh QQ own mn cc nL ret d Z pc lv ((2, x) :: st) h res := ⟨kk.1, fun X ad H locs ls cells slots hS hl hlv hst hf => by
  have h2 := fun ls' hl2 => kk.2 X ad H locs ls' cells slots hS hl2 (by rw [← hl']; exact hlv.s1 hst.hd) hst.t hf
  rw [← hl', lvs1_mapX] at h2
  change ∀ ls', lv_has ls' _ ((i, rv ad x) :: _) → _ at h2
  show W _ _ _ _ _ _ _ _ _ _ _ _ _ _ _ (F0 _ _ _ (rv ad x :: _))
  unfold rv at h2 ⊢
  split
  · rename_i e; simp only [if_pos e] at h2; exact lv_astoreN X.hx X.hb hd hl (by rw [X.hml]; exact hn) rfl h2
  · rename_i e; simp only [if_neg e] at h2; exact lv_astore X.hx X.hb hd hl (by rw [X.hml]; exact hn) rfl h2⟩
theorem x_istore_n {k : Fin 4} {i : Nat} {x : Int} {lv' : List (Nat × AV)} (hd : decode cc pc = .ok (.istore_n k, 1)) (hk : (k : Nat) = i) (hn : i < nL) (hl' : lvs1 i (0, x) lv = lv') (kk : XG fh QQ own mn cc nL ret d Z (pc + 1) lv' st h res) : XG fh QQ own mn cc nL ret d Z pc lv ((0, x) :: st) h res := ⟨kk.1, fun X ad H locs ls cells slots hS hl hlv hst hf => lv_istore_n X.hx X.hb hd hk hl (by rw [X.hml]; exact hn) rfl fun ls' hl2 => kk.2 X ad H locs ls' cells slots hS (by rw [← hl', lvs1_mapX]; exact hl2) (by rw [← hl']; exact hlv.s1 hst.hd) hst.t hf⟩
theorem x_istore {i : Nat} {x : Int} {lv' : List (Nat × AV)} (hd : decode cc pc = .ok (.istore i, 2)) (hn : i < nL) (hl' : lvs1 i (0, x) lv = lv') (kk : XG fh QQ own mn cc nL ret d Z (pc + 2) lv' st h res) : XG fh QQ own mn cc nL ret d Z pc lv ((0, x) :: st) h res := ⟨kk.1, fun X ad H locs ls cells slots hS hl hlv hst hf => lv_istore X.hx X.hb hd hl (by rw [X.hml]; exact hn) rfl fun ls' hl2 => kk.2 X ad H locs ls' cells slots hS (by rw [← hl', lvs1_mapX]; exact hl2) (by rw [← hl']; exact hlv.s1 hst.hd) hst.t hf⟩
theorem x_lstore_n {k : Fin 4} {i : Nat} {x : Int} {lv' : List (Nat × AV)} (hd : decode cc pc = .ok (.lstore_n k, 1)) (hk : (k : Nat) = i) (hn : i + 1 < nL) (hl' : lvs2 i (1, x) lv = lv') (kk : XG fh QQ own mn cc nL ret d Z (pc + 1) lv' st h res) : XG fh QQ own mn cc nL ret d Z pc lv ((1, x) :: st) h res := ⟨kk.1, fun X ad H locs ls cells slots hS hl hlv hst hf => lv_lstore_n X.hx X.hb hd hk hl (by rw [X.hml]; exact hn) rfl fun ls' hl2 => kk.2 X ad H locs ls' cells slots hS (by rw [← hl', lvs2_mapX]; exact hl2) (by rw [← hl']; exact hlv.s2 hst.hd) hst.t hf⟩
theorem x_lstore {i : Nat} {x : Int} {lv' : List (Nat × AV)} (hd : decode cc pc = .ok (.lstore i, 2)) (hn : i + 1 < nL) (hl' : lvs2 i (1, x) lv = lv') (kk : XG fh QQ own mn cc nL ret d Z (pc + 2) lv' st h res) : XG fh QQ own mn cc nL ret d Z pc lv ((1, x) :: st) h res := ⟨kk.1, fun X ad H locs ls cells slots hS hl hlv hst hf => lv_lstore X.hx X.hb hd hl (by rw [X.hml]; exact hn) rfl fun ls' hl2 => kk.2 X ad H locs ls' cells slots hS (by rw [← hl', lvs2_mapX]; exact hl2) (by rw [← hl']; exact hlv.s2 hst.hd) hst.t hf⟩
theorem x_iinc {i : Nat} {n x : Int} (j : Nat) (hd : decode cc pc = .ok (.iinc i n, 3)) (hj : lv[j]? = some (i, (0, x))) (hn : i < nL) {f : Int → Option ρ} (kk : ∀ y, XG fh QQ own mn cc nL ret d Z (pc + 3) (lvs1 i (0, y) lv) st h (f y)) : XG fh QQ own mn cc nL ret d Z pc lv st h (nm (w32 (x + n)) f) := ⟨(kk _).1, fun X ad H locs ls cells slots hS hl hlv hst hf => lv_iinc (v := I32 (w32 (x + n))) X.hx X.hb hd hl (map_at (cX1 _) hj) (by rw [← I32_add]) (by rw [X.hml]; exact hn) rfl fun ls' hl2 => (kk (w32 (x + n))).2 X ad H locs ls' cells slots hS (by rw [lvs1_mapX]; exact hl2) (hlv.s1 (okX.i (w32_in _))) hst hf⟩
theorem x_ic {n : Int} (hd : decode cc pc = .ok (.iconst n, 1)) (h1 : -1 ≤ n) (h2 : n ≤ 5) (kk : XG fh QQ own mn cc nL ret d Z (pc + 1) lv ((0, n) :: st) h res) : XG fh QQ own mn cc nL ret d Z pc lv st h res := ⟨kk.1, fun X ad H locs ls cells slots hS hl hlv hst hf => lv_iconst X.hx X.hb hd rfl (kk.2 X ad H locs ls cells slots hS hl hlv (hst.c (okX.i ⟨by omega, by omega⟩)) hf)⟩
theorem x_bp {n : Int} (hd : decode cc pc = .ok (.bipush n, 2)) (h1 : -128 ≤ n) (h2 : n ≤ 127) (kk : XG fh QQ own mn cc nL ret d Z (pc + 2) lv ((0, n) :: st) h res) : XG fh QQ own mn cc nL ret d Z pc lv st h res := ⟨kk.1, fun X ad H locs ls cells slots hS hl hlv hst hf => lv_bipush X.hx X.hb hd (bp_ok h1 h2) (kk.2 X ad H locs ls cells slots hS hl hlv (hst.c (okX.i ⟨by omega, by omega⟩)) hf)⟩
theorem x_sp {n : Int} (hd : decode cc pc = .ok (.sipush n, 3)) (h1 : -32768 ≤ n) (h2 : n ≤ 32767) (kk : XG fh QQ own mn cc nL ret d Z (pc + 3) lv ((0, n) :: st) h res) : XG fh QQ own mn cc nL ret d Z pc lv st h res := ⟨kk.1, fun X ad H locs ls cells slots hS hl hlv hst hf => lv_sipush X.hx X.hb hd (sp_ok h1 h2) (kk.2 X ad H locs ls cells slots hS hl hlv (hst.c (okX.i ⟨by omega, by omega⟩)) hf)⟩
theorem x_l0  (hd : decode cc pc = .ok (.lconst 0, 1)) (kk : XG fh QQ own mn cc nL ret d Z (pc + 1) lv ((1, 0) :: st) h res) : XG fh QQ own mn cc nL ret d Z pc lv st h res := ⟨kk.1, fun X ad H locs ls cells slots hS hl hlv hst hf => lv_lconst (v := I64 0) X.hx X.hb hd rfl (kk.2 X ad H locs ls cells slots hS hl hlv (hst.c (okX.l ⟨by decide, by decide⟩)) hf)⟩
theorem x_l1  (hd : decode cc pc = .ok (.lconst 1, 1)) (kk : XG fh QQ own mn cc nL ret d Z (pc + 1) lv ((1, 1) :: st) h res) : XG fh QQ own mn cc nL ret d Z pc lv st h res := ⟨kk.1, fun X ad H locs ls cells slots hS hl hlv hst hf => lv_lconst (v := I64 1) X.hx X.hb hd rfl (kk.2 X ad H locs ls cells slots hS hl hlv (hst.c (okX.l ⟨by decide, by decide⟩)) hf)⟩
theorem x_null  (hd : decode cc pc = .ok (.aconst_null, 1)) (kk : XG fh QQ own mn cc nL ret d Z (pc + 1) lv ((2, 0) :: st) h res) : XG fh QQ own mn cc nL ret d Z pc lv st h res := ⟨kk.1, fun X ad H locs ls cells slots hS hl hlv hst hf => lv_null X.hx X.hb hd (kk.2 X ad H locs ls cells slots hS hl hlv (hst.c (okX.r (Int.natCast_nonneg _))) hf)⟩
theorem x_ldc {ix : Nat} {v : Int32} {n : Int} (hq : Cond.constant own ix v ∈ lw_all) (hd : decode cc pc = .ok (.ldc ix, 2)) (hv : v = I32 n) (hn : in32 n) (kk : XG fh QQ own mn cc nL ret d Z (pc + 2) lv ((0, n) :: st) h res) : XG fh QQ own mn cc nL ret d Z pc lv st h res := ⟨kk.1, fun X ad H locs ls cells slots hS hl hlv hst hf => by
  subst hv
  exact lv_ldc X.hx X.hb X.hown (X.hts _ hq) hd (kk.2 X ad H locs ls cells slots hS hl hlv (hst.c (okX.i hn)) hf)⟩
theorem x_ldcw {ix : Nat} {v : Int32} {n : Int} (hq : Cond.constant own ix v ∈ lw_all) (hd : decode cc pc = .ok (.ldc_w ix, 3)) (hv : v = I32 n) (hn : in32 n) (kk : XG fh QQ own mn cc nL ret d Z (pc + 3) lv ((0, n) :: st) h res) : XG fh QQ own mn cc nL ret d Z pc lv st h res := ⟨kk.1, fun X ad H locs ls cells slots hS hl hlv hst hf => by
  subst hv
  exact lv_ldcw X.hx X.hb X.hown (X.hts _ hq) hd (kk.2 X ad H locs ls cells slots hS hl hlv (hst.c (okX.i hn)) hf)⟩
theorem x_ldc2 {ix : Nat} {v : Int64} {n : Int} (hq : Cond.constantLong own ix v ∈ lw_all) (hd : decode cc pc = .ok (.ldc2_w ix, 3)) (hv : v = I64 n) (hn : in64 n) (kk : XG fh QQ own mn cc nL ret d Z (pc + 3) lv ((1, n) :: st) h res) : XG fh QQ own mn cc nL ret d Z pc lv st h res := ⟨kk.1, fun X ad H locs ls cells slots hS hl hlv hst hf => by
  subst hv
  exact lv_ldc2 X.hx X.hb X.hown (X.hts _ hq) hd (kk.2 X ad H locs ls cells slots hS hl hlv (hst.c (okX.l hn)) hf)⟩
theorem x_iadd {a b : Int} (hd : decode cc pc = .ok (.iadd, 1)) (kk : XG fh QQ own mn cc nL ret d Z (pc + 1) lv ((0, w32 (a + b)) :: st) h res) : XG fh QQ own mn cc nL ret d Z pc lv ((0, b) :: (0, a) :: st) h res := ⟨kk.1, fun X ad H locs ls cells slots hS hl hlv hst hf => lv_iadd X.hx X.hb hd (by rw [I32_add]; exact (kk.2 X ad H locs ls cells slots hS hl hlv (hst.t.t.c (okX.i (w32_in _))) hf))⟩
theorem x_isub {a b : Int} (hd : decode cc pc = .ok (.isub, 1)) (kk : XG fh QQ own mn cc nL ret d Z (pc + 1) lv ((0, w32 (a - b)) :: st) h res) : XG fh QQ own mn cc nL ret d Z pc lv ((0, b) :: (0, a) :: st) h res := ⟨kk.1, fun X ad H locs ls cells slots hS hl hlv hst hf => lv_isub X.hx X.hb hd (by rw [I32_sub]; exact (kk.2 X ad H locs ls cells slots hS hl hlv (hst.t.t.c (okX.i (w32_in _))) hf))⟩
theorem x_imul {a b : Int} (hd : decode cc pc = .ok (.imul, 1)) (kk : XG fh QQ own mn cc nL ret d Z (pc + 1) lv ((0, w32 (a * b)) :: st) h res) : XG fh QQ own mn cc nL ret d Z pc lv ((0, b) :: (0, a) :: st) h res := ⟨kk.1, fun X ad H locs ls cells slots hS hl hlv hst hf => lv_imul X.hx X.hb hd (by rw [I32_mul]; exact (kk.2 X ad H locs ls cells slots hS hl hlv (hst.t.t.c (okX.i (w32_in _))) hf))⟩
theorem x_ladd {a b : Int} (hd : decode cc pc = .ok (.ladd, 1)) (kk : XG fh QQ own mn cc nL ret d Z (pc + 1) lv ((1, w64 (a + b)) :: st) h res) : XG fh QQ own mn cc nL ret d Z pc lv ((1, b) :: (1, a) :: st) h res := ⟨kk.1, fun X ad H locs ls cells slots hS hl hlv hst hf => lv_ladd X.hx X.hb hd (by rw [I64_add]; exact (kk.2 X ad H locs ls cells slots hS hl hlv (hst.t.t.c (okX.l (w64_in _))) hf))⟩
theorem x_lsub {a b : Int} (hd : decode cc pc = .ok (.lsub, 1)) (kk : XG fh QQ own mn cc nL ret d Z (pc + 1) lv ((1, w64 (a - b)) :: st) h res) : XG fh QQ own mn cc nL ret d Z pc lv ((1, b) :: (1, a) :: st) h res := ⟨kk.1, fun X ad H locs ls cells slots hS hl hlv hst hf => lv_lsub X.hx X.hb hd (by rw [I64_sub]; exact (kk.2 X ad H locs ls cells slots hS hl hlv (hst.t.t.c (okX.l (w64_in _))) hf))⟩
theorem x_lmul {a b : Int} (hd : decode cc pc = .ok (.lmul, 1)) (kk : XG fh QQ own mn cc nL ret d Z (pc + 1) lv ((1, w64 (a * b)) :: st) h res) : XG fh QQ own mn cc nL ret d Z pc lv ((1, b) :: (1, a) :: st) h res := ⟨kk.1, fun X ad H locs ls cells slots hS hl hlv hst hf => lv_lmul X.hx X.hb hd (by rw [I64_mul]; exact (kk.2 X ad H locs ls cells slots hS hl hlv (hst.t.t.c (okX.l (w64_in _))) hf))⟩
theorem x_ineg {a : Int} (hd : decode cc pc = .ok (.ineg, 1)) (kk : XG fh QQ own mn cc nL ret d Z (pc + 1) lv ((0, w32 (-a)) :: st) h res) : XG fh QQ own mn cc nL ret d Z pc lv ((0, a) :: st) h res := ⟨kk.1, fun X ad H locs ls cells slots hS hl hlv hst hf => lv_ineg X.hx X.hb hd (by rw [I32_neg]; exact (kk.2 X ad H locs ls cells slots hS hl hlv (hst.t.c (okX.i (w32_in _))) hf))⟩
theorem x_idiv {a b : Int} (hd : decode cc pc = .ok (.idiv, 1)) (kk : XG fh QQ own mn cc nL ret d Z (pc + 1) lv ((0, w32 (a.tdiv b)) :: st) h res) : XG fh QQ own mn cc nL ret d Z pc lv ((0, b) :: (0, a) :: st) h (cz b res) := ⟨kk.1.cz, fun X ad H locs ls cells slots hS hl hlv hst hf0 => have hz := cz_some hf0; have hf := hz.2; lv_idiv X.hx X.hb hd (fun q => hz.1 (I32_inj hst.i in32_0 q)) (by rw [I32_div hst.t.i hst.i]; exact (kk.2 X ad H locs ls cells slots hS hl hlv (hst.t.t.c (okX.i (w32_in _))) hf))⟩
theorem x_irem {a b : Int} (hd : decode cc pc = .ok (.irem, 1)) (kk : XG fh QQ own mn cc nL ret d Z (pc + 1) lv ((0, a.tmod b) :: st) h res) : XG fh QQ own mn cc nL ret d Z pc lv ((0, b) :: (0, a) :: st) h (cz b res) := ⟨kk.1.cz, fun X ad H locs ls cells slots hS hl hlv hst hf0 => have hz := cz_some hf0; have hf := hz.2; lv_irem X.hx X.hb hd (fun q => hz.1 (I32_inj hst.i in32_0 q)) (by rw [I32_rem hst.t.i hst.i]; exact (kk.2 X ad H locs ls cells slots hS hl hlv (hst.t.t.c (okX.i (tmod_in32 hst.t.i))) hf))⟩
theorem x_ldiv {a b : Int} (hd : decode cc pc = .ok (.ldiv, 1)) (kk : XG fh QQ own mn cc nL ret d Z (pc + 1) lv ((1, w64 (a.tdiv b)) :: st) h res) : XG fh QQ own mn cc nL ret d Z pc lv ((1, b) :: (1, a) :: st) h (cz b res) := ⟨kk.1.cz, fun X ad H locs ls cells slots hS hl hlv hst hf0 => have hz := cz_some hf0; have hf := hz.2; lv_ldiv X.hx X.hb hd (fun q => hz.1 (I64_inj hst.l (in32_64 in32_0) q)) (by rw [I64_div hst.t.l hst.l]; exact (kk.2 X ad H locs ls cells slots hS hl hlv (hst.t.t.c (okX.l (w64_in _))) hf))⟩
theorem x_lrem {a b : Int} (hd : decode cc pc = .ok (.lrem, 1)) (kk : XG fh QQ own mn cc nL ret d Z (pc + 1) lv ((1, a.tmod b) :: st) h res) : XG fh QQ own mn cc nL ret d Z pc lv ((1, b) :: (1, a) :: st) h (cz b res) := ⟨kk.1.cz, fun X ad H locs ls cells slots hS hl hlv hst hf0 => have hz := cz_some hf0; have hf := hz.2; lv_lrem X.hx X.hb hd (fun q => hz.1 (I64_inj hst.l (in32_64 in32_0) q)) (by rw [I64_rem hst.t.l hst.l]; exact (kk.2 X ad H locs ls cells slots hS hl hlv (hst.t.t.c (okX.l (tmod_in64 hst.t.l))) hf))⟩
theorem x_iand {a b : Int} (hd : decode cc pc = .ok (.iand, 1)) (kk : XG fh QQ own mn cc nL ret d Z (pc + 1) lv ((0, iand a b) :: st) h res) : XG fh QQ own mn cc nL ret d Z pc lv ((0, b) :: (0, a) :: st) h res := ⟨kk.1, fun X ad H locs ls cells slots hS hl hlv hst hf => lv_iand X.hx X.hb hd (by rw [← I32_of (I32 a &&& I32 b)]; exact (kk.2 X ad H locs ls cells slots hS hl hlv (hst.t.t.c (okX.i (i32_in _))) hf))⟩
theorem x_ior {a b : Int} (hd : decode cc pc = .ok (.ior, 1)) (kk : XG fh QQ own mn cc nL ret d Z (pc + 1) lv ((0, ior a b) :: st) h res) : XG fh QQ own mn cc nL ret d Z pc lv ((0, b) :: (0, a) :: st) h res := ⟨kk.1, fun X ad H locs ls cells slots hS hl hlv hst hf => lv_ior X.hx X.hb hd (by rw [← I32_of (I32 a ||| I32 b)]; exact (kk.2 X ad H locs ls cells slots hS hl hlv (hst.t.t.c (okX.i (i32_in _))) hf))⟩
theorem x_ixor {a b : Int} (hd : decode cc pc = .ok (.ixor, 1)) (kk : XG fh QQ own mn cc nL ret d Z (pc + 1) lv ((0, ixor a b) :: st) h res) : XG fh QQ own mn cc nL ret d Z pc lv ((0, b) :: (0, a) :: st) h res := ⟨kk.1, fun X ad H locs ls cells slots hS hl hlv hst hf => lv_ixor X.hx X.hb hd (by rw [← I32_of (I32 a ^^^ I32 b)]; exact (kk.2 X ad H locs ls cells slots hS hl hlv (hst.t.t.c (okX.i (i32_in _))) hf))⟩
theorem x_ishl {a b : Int} (hd : decode cc pc = .ok (.ishl, 1)) (kk : XG fh QQ own mn cc nL ret d Z (pc + 1) lv ((0, ishl a b) :: st) h res) : XG fh QQ own mn cc nL ret d Z pc lv ((0, b) :: (0, a) :: st) h res := ⟨kk.1, fun X ad H locs ls cells slots hS hl hlv hst hf => lv_ishl X.hx X.hb hd (by rw [← I32_of (I32 a <<< (I32 b &&& 31))]; exact (kk.2 X ad H locs ls cells slots hS hl hlv (hst.t.t.c (okX.i (i32_in _))) hf))⟩
theorem x_ishr {a b : Int} (hd : decode cc pc = .ok (.ishr, 1)) (kk : XG fh QQ own mn cc nL ret d Z (pc + 1) lv ((0, ishr a b) :: st) h res) : XG fh QQ own mn cc nL ret d Z pc lv ((0, b) :: (0, a) :: st) h res := ⟨kk.1, fun X ad H locs ls cells slots hS hl hlv hst hf => lv_ishr X.hx X.hb hd (by rw [← I32_of (I32 a >>> (I32 b &&& 31))]; exact (kk.2 X ad H locs ls cells slots hS hl hlv (hst.t.t.c (okX.i (i32_in _))) hf))⟩
theorem x_iushr {a b : Int} (hd : decode cc pc = .ok (.iushr, 1)) (kk : XG fh QQ own mn cc nL ret d Z (pc + 1) lv ((0, iushr a b) :: st) h res) : XG fh QQ own mn cc nL ret d Z pc lv ((0, b) :: (0, a) :: st) h res := ⟨kk.1, fun X ad H locs ls cells slots hS hl hlv hst hf => lv_iushr X.hx X.hb hd (I32_of _).symm (kk.2 X ad H locs ls cells slots hS hl hlv (hst.t.t.c (okX.i (i32_in _))) hf)⟩
theorem x_i2l {a : Int} (hd : decode cc pc = .ok (.i2l, 1)) (kk : XG fh QQ own mn cc nL ret d Z (pc + 1) lv ((1, a) :: st) h res) : XG fh QQ own mn cc nL ret d Z pc lv ((0, a) :: st) h res := ⟨kk.1, fun X ad H locs ls cells slots hS hl hlv hst hf => lv_i2l X.hx X.hb hd (I32_i2l hst.i) (kk.2 X ad H locs ls cells slots hS hl hlv (hst.t.c (okX.l (in32_64 hst.i))) hf)⟩
theorem x_l2i {a : Int} (hd : decode cc pc = .ok (.l2i, 1)) (kk : XG fh QQ own mn cc nL ret d Z (pc + 1) lv ((0, w32 a) :: st) h res) : XG fh QQ own mn cc nL ret d Z pc lv ((1, a) :: st) h res := ⟨kk.1, fun X ad H locs ls cells slots hS hl hlv hst hf => lv_l2i X.hx X.hb hd (I64_l2i hst.l) (kk.2 X ad H locs ls cells slots hS hl hlv (hst.t.c (okX.i (w32_in _))) hf)⟩
theorem x_i2b {a : Int} (hd : decode cc pc = .ok (.i2b, 1)) (kk : XG fh QQ own mn cc nL ret d Z (pc + 1) lv ((0, w8 a) :: st) h res) : XG fh QQ own mn cc nL ret d Z pc lv ((0, a) :: st) h res := ⟨kk.1, fun X ad H locs ls cells slots hS hl hlv hst hf => lv_i2b X.hx X.hb hd (I32_i2b hst.i) (kk.2 X ad H locs ls cells slots hS hl hlv (hst.t.c (okX.i (in8_32 (w8_in _)))) hf)⟩
theorem x_dup {v : AV} (hd : decode cc pc = .ok (.dup, 1)) (hv : (v.1 == 1) = false) (kk : XG fh QQ own mn cc nL ret d Z (pc + 1) lv (v :: v :: st) h res) : XG fh QQ own mn cc nL ret d Z pc lv (v :: st) h res := ⟨kk.1, fun X ad H locs ls cells slots hS hl hlv hst hf => lv_dup X.hx X.hb hd (cat1_cX _ v hv) (kk.2 X ad H locs ls cells slots hS hl hlv (hst.c hst.hd) hf)⟩
theorem x_pop {v : AV} (hd : decode cc pc = .ok (.pop, 1)) (hv : (v.1 == 1) = false) (kk : XG fh QQ own mn cc nL ret d Z (pc + 1) lv st h res) : XG fh QQ own mn cc nL ret d Z pc lv (v :: st) h res := ⟨kk.1, fun X ad H locs ls cells slots hS hl hlv hst hf => lv_pop X.hx X.hb hd (cat1_cX _ v hv) (kk.2 X ad H locs ls cells slots hS hl hlv hst.t hf)⟩
theorem x_dup2 {v w : AV} (hd : decode cc pc = .ok (.dup2, 1)) (hv : (v.1 == 1) = false) (hw : (w.1 == 1) = false) (kk : XG fh QQ own mn cc nL ret d Z (pc + 1) lv (v :: w :: v :: w :: st) h res) : XG fh QQ own mn cc nL ret d Z pc lv (v :: w :: st) h res := ⟨kk.1, fun X ad H locs ls cells slots hS hl hlv hst hf => lv_dup2_11 X.hx X.hb hd (cat1_cX _ v hv) (cat1_cX _ w hw) (kk.2 X ad H locs ls cells slots hS hl hlv ((hst.c hst.t.hd).c hst.hd) hf)⟩
theorem x_dup_x1 {v w : AV} (hd : decode cc pc = .ok (.dup_x1, 1)) (hv : (v.1 == 1) = false) (hw : (w.1 == 1) = false) (kk : XG fh QQ own mn cc nL ret d Z (pc + 1) lv (v :: w :: v :: st) h res) : XG fh QQ own mn cc nL ret d Z pc lv (v :: w :: st) h res := ⟨kk.1, fun X ad H locs ls cells slots hS hl hlv hst hf => lv_dup_x1 X.hx X.hb hd (cat1_cX _ v hv) (cat1_cX _ w hw) (kk.2 X ad H locs ls cells slots hS hl hlv (((hst.t.t.c hst.hd).c hst.t.hd).c hst.hd) hf)⟩
theorem x_goto {off : Int} (tgt : Nat) (hd : decode cc pc = .ok (.goto off, 3)) (ht : (pc : Int) + off = (tgt : Int)) (kk : XG fh QQ own mn cc nL ret d Z tgt lv st h res) : XG fh QQ own mn cc nL ret d Z pc lv st h res := ⟨kk.1, fun X ad H locs ls cells slots hS hl hlv hst hf => lv_goto X.hx X.hb hd ht (kk.2 X ad H locs ls cells slots hS hl hlv hst hf)⟩
theorem x_icmp_eq {a b : Int} {off : Int} {A B : Option ρ} (tgt : Nat) (hd : decode cc pc = .ok (.if_icmp .eq off, 3)) (ht : (pc : Int) + off = (tgt : Int)) (kt : a = b → XG fh QQ own mn cc nL ret d Z tgt lv st h A) (kf : ¬ a = b → XG fh QQ own mn cc nL ret d Z (pc + 3) lv st h B) : XG fh QQ own mn cc nL ret d Z pc lv ((0, b) :: (0, a) :: st) h (if a = b then A else B) := ⟨XM.ite (fun c => (kt c).1) (fun c => (kf c).1), fun X ad H locs ls cells slots hS hl hlv hst hf => lv_icmp_eq X.hx X.hb hd ht (fun c => (kt ((I32_eq hst.t.i hst.i).mp c)).2 X ad H locs ls cells slots hS hl hlv hst.t.t (by rw [if_pos ((I32_eq hst.t.i hst.i).mp c)] at hf; exact hf)) (fun c => (kf (fun q => c ((I32_eq hst.t.i hst.i).mpr q))).2 X ad H locs ls cells slots hS hl hlv hst.t.t (by rw [if_neg (fun q => c ((I32_eq hst.t.i hst.i).mpr q))] at hf; exact hf))⟩
theorem x_icmp_eqF {a b : Int} {off : Int} {α : Type} {u w : α} {F : α → Option ρ} (tgt : Nat) (hd : decode cc pc = .ok (.if_icmp .eq off, 3)) (ht : (pc : Int) + off = (tgt : Int)) (kt : a = b → XG fh QQ own mn cc nL ret d Z tgt lv st h (nm u F)) (kf : ¬ a = b → XG fh QQ own mn cc nL ret d Z (pc + 3) lv st h (nm w F)) : XG fh QQ own mn cc nL ret d Z pc lv ((0, b) :: (0, a) :: st) h (nm (if a = b then u else w) F) := by
  have h1 := x_icmp_eq (lv := lv) (st := st) (h := h) (a := a) (b := b) tgt hd ht kt kf
  have e : (if a = b then nm u F else nm w F) = nm (if a = b then u else w) F := by split <;> rfl
  rw [← e]; exact h1
theorem x_if_eq {a : Int} {off : Int} {A B : Option ρ} (tgt : Nat) (hd : decode cc pc = .ok (.ifCond .eq off, 3)) (ht : (pc : Int) + off = (tgt : Int)) (kt : a = 0 → XG fh QQ own mn cc nL ret d Z tgt lv st h A) (kf : ¬ a = 0 → XG fh QQ own mn cc nL ret d Z (pc + 3) lv st h B) : XG fh QQ own mn cc nL ret d Z pc lv ((0, a) :: st) h (if a = 0 then A else B) := ⟨XM.ite (fun c => (kt c).1) (fun c => (kf c).1), fun X ad H locs ls cells slots hS hl hlv hst hf => lv_if_eq X.hx X.hb hd ht (fun c => (kt ((I32_eq hst.i in32_0).mp c)).2 X ad H locs ls cells slots hS hl hlv hst.t (by rw [if_pos ((I32_eq hst.i in32_0).mp c)] at hf; exact hf)) (fun c => (kf (fun q => c ((I32_eq hst.i in32_0).mpr q))).2 X ad H locs ls cells slots hS hl hlv hst.t (by rw [if_neg (fun q => c ((I32_eq hst.i in32_0).mpr q))] at hf; exact hf))⟩
theorem x_if_eqF {a : Int} {off : Int} {α : Type} {u w : α} {F : α → Option ρ} (tgt : Nat) (hd : decode cc pc = .ok (.ifCond .eq off, 3)) (ht : (pc : Int) + off = (tgt : Int)) (kt : a = 0 → XG fh QQ own mn cc nL ret d Z tgt lv st h (nm u F)) (kf : ¬ a = 0 → XG fh QQ own mn cc nL ret d Z (pc + 3) lv st h (nm w F)) : XG fh QQ own mn cc nL ret d Z pc lv ((0, a) :: st) h (nm (if a = 0 then u else w) F) := by
  have h1 := x_if_eq (lv := lv) (st := st) (h := h) (a := a) tgt hd ht kt kf
  have e : (if a = 0 then nm u F else nm w F) = nm (if a = 0 then u else w) F := by split <;> rfl
  rw [← e]; exact h1
theorem x_lcmp_eq {a b : Int} {off : Int} {A B : Option ρ} (tgt : Nat) (hd0 : decode cc pc = .ok (.lcmp, 1)) (hd : decode cc (pc + 1) = .ok (.ifCond .eq off, 3)) (ht : ((pc + 1 : Nat) : Int) + off = (tgt : Int)) (kt : a = b → XG fh QQ own mn cc nL ret d Z tgt lv st h A) (kf : ¬ a = b → XG fh QQ own mn cc nL ret d Z (pc + 1 + 3) lv st h B) : XG fh QQ own mn cc nL ret d Z pc lv ((1, b) :: (1, a) :: st) h (if a = b then A else B) := ⟨XM.ite (fun c => (kt c).1) (fun c => (kf c).1), fun X ad H locs ls cells slots hS hl hlv hst hf => W.lcmp X.hx X.hb hd0 (lv_if_eq X.hx X.hb hd ht (fun c0 => have c := (lg_cmp_eq (I64 a) (I64 b)).mp c0; ((kt ((I64_eq hst.t.l hst.l).mp c)).2 X ad H locs ls cells slots hS hl hlv hst.t.t (by rw [if_pos ((I64_eq hst.t.l hst.l).mp c)] at hf; exact hf))) (fun c0 => have c := (fun q => c0 ((lg_cmp_eq (I64 a) (I64 b)).mpr q)); ((kf (fun q => c ((I64_eq hst.t.l hst.l).mpr q))).2 X ad H locs ls cells slots hS hl hlv hst.t.t (by rw [if_neg (fun q => c ((I64_eq hst.t.l hst.l).mpr q))] at hf; exact hf))))⟩
theorem x_lcmp_eqF {a b : Int} {off : Int} {α : Type} {u w : α} {F : α → Option ρ} (tgt : Nat) (hd0 : decode cc pc = .ok (.lcmp, 1)) (hd : decode cc (pc + 1) = .ok (.ifCond .eq off, 3)) (ht : ((pc + 1 : Nat) : Int) + off = (tgt : Int)) (kt : a = b → XG fh QQ own mn cc nL ret d Z tgt lv st h (nm u F)) (kf : ¬ a = b → XG fh QQ own mn cc nL ret d Z (pc + 1 + 3) lv st h (nm w F)) : XG fh QQ own mn cc nL ret d Z pc lv ((1, b) :: (1, a) :: st) h (nm (if a = b then u else w) F) := by
  have h1 := x_lcmp_eq (lv := lv) (st := st) (h := h) (a := a) (b := b) tgt hd0 hd ht kt kf
  have e : (if a = b then nm u F else nm w F) = nm (if a = b then u else w) F := by split <;> rfl
  rw [← e]; exact h1
theorem x_icmp_ne {a b : Int} {off : Int} {A B : Option ρ} (tgt : Nat) (hd : decode cc pc = .ok (.if_icmp .ne off, 3)) (ht : (pc : Int) + off = (tgt : Int)) (kt : ¬ a = b → XG fh QQ own mn cc nL ret d Z tgt lv st h A) (kf : a = b → XG fh QQ own mn cc nL ret d Z (pc + 3) lv st h B) : XG fh QQ own mn cc nL ret d Z pc lv ((0, b) :: (0, a) :: st) h (if a = b then B else A) := ⟨XM.ite (fun c => (kf c).1) (fun c => (kt c).1), fun X ad H locs ls cells slots hS hl hlv hst hf => lv_icmp_ne X.hx X.hb hd ht (fun c => (kt (fun q => c ((I32_eq hst.t.i hst.i).mpr q))).2 X ad H locs ls cells slots hS hl hlv hst.t.t (by rw [if_neg (fun q => c ((I32_eq hst.t.i hst.i).mpr q))] at hf; exact hf)) (fun c => (kf ((I32_eq hst.t.i hst.i).mp c)).2 X ad H locs ls cells slots hS hl hlv hst.t.t (by rw [if_pos ((I32_eq hst.t.i hst.i).mp c)] at hf; exact hf))⟩
theorem x_icmp_neF {a b : Int} {off : Int} {α : Type} {u w : α} {F : α → Option ρ} (tgt : Nat) (hd : decode cc pc = .ok (.if_icmp .ne off, 3)) (ht : (pc : Int) + off = (tgt : Int)) (kt : ¬ a = b → XG fh QQ own mn cc nL ret d Z tgt lv st h (nm w F)) (kf : a = b → XG fh QQ own mn cc nL ret d Z (pc + 3) lv st h (nm u F)) : XG fh QQ own mn cc nL ret d Z pc lv ((0, b) :: (0, a) :: st) h (nm (if a = b then u else w) F) := by
  have h1 := x_icmp_ne (lv := lv) (st := st) (h := h) (a := a) (b := b) tgt hd ht kt kf
  have e : (if a = b then nm u F else nm w F) = nm (if a = b then u else w) F := by split <;> rfl
  rw [← e]; exact h1
theorem x_if_ne {a : Int} {off : Int} {A B : Option ρ} (tgt : Nat) (hd : decode cc pc = .ok (.ifCond .ne off, 3)) (ht : (pc : Int) + off = (tgt : Int)) (kt : ¬ a = 0 → XG fh QQ own mn cc nL ret d Z tgt lv st h A) (kf : a = 0 → XG fh QQ own mn cc nL ret d Z (pc + 3) lv st h B) : XG fh QQ own mn cc nL ret d Z pc lv ((0, a) :: st) h (if a = 0 then B else A) := ⟨XM.ite (fun c => (kf c).1) (fun c => (kt c).1), fun X ad H locs ls cells slots hS hl hlv hst hf => lv_if_ne X.hx X.hb hd ht (fun c => (kt (fun q => c ((I32_eq hst.i in32_0).mpr q))).2 X ad H locs ls cells slots hS hl hlv hst.t (by rw [if_neg (fun q => c ((I32_eq hst.i in32_0).mpr q))] at hf; exact hf)) (fun c => (kf ((I32_eq hst.i in32_0).mp c)).2 X ad H locs ls cells slots hS hl hlv hst.t (by rw [if_pos ((I32_eq hst.i in32_0).mp c)] at hf; exact hf))⟩
theorem x_if_neF {a : Int} {off : Int} {α : Type} {u w : α} {F : α → Option ρ} (tgt : Nat) (hd : decode cc pc = .ok (.ifCond .ne off, 3)) (ht : (pc : Int) + off = (tgt : Int)) (kt : ¬ a = 0 → XG fh QQ own mn cc nL ret d Z tgt lv st h (nm w F)) (kf : a = 0 → XG fh QQ own mn cc nL ret d Z (pc + 3) lv st h (nm u F)) : XG fh QQ own mn cc nL ret d Z pc lv ((0, a) :: st) h (nm (if a = 0 then u else w) F) := by
  have h1 := x_if_ne (lv := lv) (st := st) (h := h) (a := a) tgt hd ht kt kf
  have e : (if a = 0 then nm u F else nm w F) = nm (if a = 0 then u else w) F := by split <;> rfl
  rw [← e]; exact h1
theorem x_lcmp_ne {a b : Int} {off : Int} {A B : Option ρ} (tgt : Nat) (hd0 : decode cc pc = .ok (.lcmp, 1)) (hd : decode cc (pc + 1) = .ok (.ifCond .ne off, 3)) (ht : ((pc + 1 : Nat) : Int) + off = (tgt : Int)) (kt : ¬ a = b → XG fh QQ own mn cc nL ret d Z tgt lv st h A) (kf : a = b → XG fh QQ own mn cc nL ret d Z (pc + 1 + 3) lv st h B) : XG fh QQ own mn cc nL ret d Z pc lv ((1, b) :: (1, a) :: st) h (if a = b then B else A) := ⟨XM.ite (fun c => (kf c).1) (fun c => (kt c).1), fun X ad H locs ls cells slots hS hl hlv hst hf => W.lcmp X.hx X.hb hd0 (lv_if_ne X.hx X.hb hd ht (fun c0 => have c := (fun q => c0 ((lg_cmp_eq (I64 a) (I64 b)).mpr q)); ((kt (fun q => c ((I64_eq hst.t.l hst.l).mpr q))).2 X ad H locs ls cells slots hS hl hlv hst.t.t (by rw [if_neg (fun q => c ((I64_eq hst.t.l hst.l).mpr q))] at hf; exact hf))) (fun c0 => have c := (lg_cmp_eq (I64 a) (I64 b)).mp c0; ((kf ((I64_eq hst.t.l hst.l).mp c)).2 X ad H locs ls cells slots hS hl hlv hst.t.t (by rw [if_pos ((I64_eq hst.t.l hst.l).mp c)] at hf; exact hf))))⟩
theorem x_lcmp_neF {a b : Int} {off : Int} {α : Type} {u w : α} {F : α → Option ρ} (tgt : Nat) (hd0 : decode cc pc = .ok (.lcmp, 1)) (hd : decode cc (pc + 1) = .ok (.ifCond .ne off, 3)) (ht : ((pc + 1 : Nat) : Int) + off = (tgt : Int)) (kt : ¬ a = b → XG fh QQ own mn cc nL ret d Z tgt lv st h (nm w F)) (kf : a = b → XG fh QQ own mn cc nL ret d Z (pc + 1 + 3) lv st h (nm u F)) : XG fh QQ own mn cc nL ret d Z pc lv ((1, b) :: (1, a) :: st) h (nm (if a = b then u else w) F) := by
  have h1 := x_lcmp_ne (lv := lv) (st := st) (h := h) (a := a) (b := b) tgt hd0 hd ht kt kf
  have e : (if a = b then nm u F else nm w F) = nm (if a = b then u else w) F := by split <;> rfl
  rw [← e]; exact h1
theorem x_icmp_lt {a b : Int} {off : Int} {A B : Option ρ} (tgt : Nat) (hd : decode cc pc = .ok (.if_icmp .lt off, 3)) (ht : (pc : Int) + off = (tgt : Int)) (kt : a < b → XG fh QQ own mn cc nL ret d Z tgt lv st h A) (kf : ¬ a < b → XG fh QQ own mn cc nL ret d Z (pc + 3) lv st h B) : XG fh QQ own mn cc nL ret d Z pc lv ((0, b) :: (0, a) :: st) h (if a < b then A else B) := ⟨XM.ite (fun c => (kt c).1) (fun c => (kf c).1), fun X ad H locs ls cells slots hS hl hlv hst hf => lv_icmp_lt X.hx X.hb hd ht (fun c => (kt ((I32_lt hst.t.i hst.i).mp c)).2 X ad H locs ls cells slots hS hl hlv hst.t.t (by rw [if_pos ((I32_lt hst.t.i hst.i).mp c)] at hf; exact hf)) (fun c => (kf (fun q => c ((I32_lt hst.t.i hst.i).mpr q))).2 X ad H locs ls cells slots hS hl hlv hst.t.t (by rw [if_neg (fun q => c ((I32_lt hst.t.i hst.i).mpr q))] at hf; exact hf))⟩
theorem x_icmp_ltF {a b : Int} {off : Int} {α : Type} {u w : α} {F : α → Option ρ} (tgt : Nat) (hd : decode cc pc = .ok (.if_icmp .lt off, 3)) (ht : (pc : Int) + off = (tgt : Int)) (kt : a < b → XG fh QQ own mn cc nL ret d Z tgt lv st h (nm u F)) (kf : ¬ a < b → XG fh QQ own mn cc nL ret d Z (pc + 3) lv st h (nm w F)) : XG fh QQ own mn cc nL ret d Z pc lv ((0, b) :: (0, a) :: st) h (nm (if a < b then u else w) F) := by
  have h1 := x_icmp_lt (lv := lv) (st := st) (h := h) (a := a) (b := b) tgt hd ht kt kf
  have e : (if a < b then nm u F else nm w F) = nm (if a < b then u else w) F := by split <;> rfl
  rw [← e]; exact h1
theorem x_if_lt {a : Int} {off : Int} {A B : Option ρ} (tgt : Nat) (hd : decode cc pc = .ok (.ifCond .lt off, 3)) (ht : (pc : Int) + off = (tgt : Int)) (kt : a < 0 → XG fh QQ own mn cc nL ret d Z tgt lv st h A) (kf : ¬ a < 0 → XG fh QQ own mn cc nL ret d Z (pc + 3) lv st h B) : XG fh QQ own mn cc nL ret d Z pc lv ((0, a) :: st) h (if a < 0 then A else B) := ⟨XM.ite (fun c => (kt c).1) (fun c => (kf c).1), fun X ad H locs ls cells slots hS hl hlv hst hf => lv_if_lt X.hx X.hb hd ht (fun c => (kt ((I32_lt hst.i in32_0).mp c)).2 X ad H locs ls cells slots hS hl hlv hst.t (by rw [if_pos ((I32_lt hst.i in32_0).mp c)] at hf; exact hf)) (fun c => (kf (fun q => c ((I32_lt hst.i in32_0).mpr q))).2 X ad H locs ls cells slots hS hl hlv hst.t (by rw [if_neg (fun q => c ((I32_lt hst.i in32_0).mpr q))] at hf; exact hf))⟩
theorem x_if_ltF {a : Int} {off : Int} {α : Type} {u w : α} {F : α → Option ρ} (tgt : Nat) (hd : decode cc pc = .ok (.ifCond .lt off, 3)) (ht : (pc : Int) + off = (tgt : Int)) (kt : a < 0 → XG fh QQ own mn cc nL ret d Z tgt lv st h (nm u F)) (kf : ¬ a < 0 → XG fh QQ own mn cc nL ret d Z (pc + 3) lv st h (nm w F)) : XG fh QQ own mn cc nL ret d Z pc lv ((0, a) :: st) h (nm (if a < 0 then u else w) F) := by
  have h1 := x_if_lt (lv := lv) (st := st) (h := h) (a := a) tgt hd ht kt kf
  have e : (if a < 0 then nm u F else nm w F) = nm (if a < 0 then u else w) F := by split <;> rfl
  rw [← e]; exact h1
theorem x_lcmp_lt {a b : Int} {off : Int} {A B : Option ρ} (tgt : Nat) (hd0 : decode cc pc = .ok (.lcmp, 1)) (hd : decode cc (pc + 1) = .ok (.ifCond .lt off, 3)) (ht : ((pc + 1 : Nat) : Int) + off = (tgt : Int)) (kt : a < b → XG fh QQ own mn cc nL ret d Z tgt lv st h A) (kf : ¬ a < b → XG fh QQ own mn cc nL ret d Z (pc + 1 + 3) lv st h B) : XG fh QQ own mn cc nL ret d Z pc lv ((1, b) :: (1, a) :: st) h (if a < b then A else B) := ⟨XM.ite (fun c => (kt c).1) (fun c => (kf c).1), fun X ad H locs ls cells slots hS hl hlv hst hf => W.lcmp X.hx X.hb hd0 (lv_if_lt X.hx X.hb hd ht (fun c0 => have c := (lg_cmp_lt (I64 a) (I64 b)).mp c0; ((kt ((I64_lt hst.t.l hst.l).mp c)).2 X ad H locs ls cells slots hS hl hlv hst.t.t (by rw [if_pos ((I64_lt hst.t.l hst.l).mp c)] at hf; exact hf))) (fun c0 => have c := (fun q => c0 ((lg_cmp_lt (I64 a) (I64 b)).mpr q)); ((kf (fun q => c ((I64_lt hst.t.l hst.l).mpr q))).2 X ad H locs ls cells slots hS hl hlv hst.t.t (by rw [if_neg (fun q => c ((I64_lt hst.t.l hst.l).mpr q))] at hf; exact hf))))⟩
theorem x_lcmp_ltF {a b : Int} {off : Int} {α : Type} {u w : α} {F : α → Option ρ} (tgt : Nat) (hd0 : decode cc pc = .ok (.lcmp, 1)) (hd : decode cc (pc + 1) = .ok (.ifCond .lt off, 3)) (ht : ((pc + 1 : Nat) : Int) + off = (tgt : Int)) (kt : a < b → XG fh QQ own mn cc nL ret d Z tgt lv st h (nm u F)) (kf : ¬ a < b → XG fh QQ own mn cc nL ret d Z (pc + 1 + 3) lv st h (nm w F)) : XG fh QQ own mn cc nL ret d Z pc lv ((1, b) :: (1, a) :: st) h (nm (if a < b then u else w) F) := by
  have h1 := x_lcmp_lt (lv := lv) (st := st) (h := h) (a := a) (b := b) tgt hd0 hd ht kt kf
  have e : (if a < b then nm u F else nm w F) = nm (if a < b then u else w) F := by split <;> rfl
  rw [← e]; exact h1
theorem x_icmp_ge {a b : Int} {off : Int} {A B : Option ρ} (tgt : Nat) (hd : decode cc pc = .ok (.if_icmp .ge off, 3)) (ht : (pc : Int) + off = (tgt : Int)) (kt : b ≤ a → XG fh QQ own mn cc nL ret d Z tgt lv st h A) (kf : ¬ b ≤ a → XG fh QQ own mn cc nL ret d Z (pc + 3) lv st h B) : XG fh QQ own mn cc nL ret d Z pc lv ((0, b) :: (0, a) :: st) h (if b ≤ a then A else B) := ⟨XM.ite (fun c => (kt c).1) (fun c => (kf c).1), fun X ad H locs ls cells slots hS hl hlv hst hf => lv_icmp_ge X.hx X.hb hd ht (fun c => (kt ((I32_le hst.i hst.t.i).mp c)).2 X ad H locs ls cells slots hS hl hlv hst.t.t (by rw [if_pos ((I32_le hst.i hst.t.i).mp c)] at hf; exact hf)) (fun c => (kf (fun q => c ((I32_le hst.i hst.t.i).mpr q))).2 X ad H locs ls cells slots hS hl hlv hst.t.t (by rw [if_neg (fun q => c ((I32_le hst.i hst.t.i).mpr q))] at hf; exact hf))⟩
theorem x_icmp_geF {a b : Int} {off : Int} {α : Type} {u w : α} {F : α → Option ρ} (tgt : Nat) (hd : decode cc pc = .ok (.if_icmp .ge off, 3)) (ht : (pc : Int) + off = (tgt : Int)) (kt : b ≤ a → XG fh QQ own mn cc nL ret d Z tgt lv st h (nm u F)) (kf : ¬ b ≤ a → XG fh QQ own mn cc nL ret d Z (pc + 3) lv st h (nm w F)) : XG fh QQ own mn cc nL ret d Z pc lv ((0, b) :: (0, a) :: st) h (nm (if b ≤ a then u else w) F) := by
  have h1 := x_icmp_ge (lv := lv) (st := st) (h := h) (a := a) (b := b) tgt hd ht kt kf
  have e : (if b ≤ a then nm u F else nm w F) = nm (if b ≤ a then u else w) F := by split <;> rfl
  rw [← e]; exact h1
theorem x_if_ge {a : Int} {off : Int} {A B : Option ρ} (tgt : Nat) (hd : decode cc pc = .ok (.ifCond .ge off, 3)) (ht : (pc : Int) + off = (tgt : Int)) (kt : 0 ≤ a → XG fh QQ own mn cc nL ret d Z tgt lv st h A) (kf : ¬ 0 ≤ a → XG fh QQ own mn cc nL ret d Z (pc + 3) lv st h B) : XG fh QQ own mn cc nL ret d Z pc lv ((0, a) :: st) h (if 0 ≤ a then A else B) := ⟨XM.ite (fun c => (kt c).1) (fun c => (kf c).1), fun X ad H locs ls cells slots hS hl hlv hst hf => lv_if_ge X.hx X.hb hd ht (fun c => (kt ((I32_le in32_0 hst.i).mp c)).2 X ad H locs ls cells slots hS hl hlv hst.t (by rw [if_pos ((I32_le in32_0 hst.i).mp c)] at hf; exact hf)) (fun c => (kf (fun q => c ((I32_le in32_0 hst.i).mpr q))).2 X ad H locs ls cells slots hS hl hlv hst.t (by rw [if_neg (fun q => c ((I32_le in32_0 hst.i).mpr q))] at hf; exact hf))⟩
theorem x_if_geF {a : Int} {off : Int} {α : Type} {u w : α} {F : α → Option ρ} (tgt : Nat) (hd : decode cc pc = .ok (.ifCond .ge off, 3)) (ht : (pc : Int) + off = (tgt : Int)) (kt : 0 ≤ a → XG fh QQ own mn cc nL ret d Z tgt lv st h (nm u F)) (kf : ¬ 0 ≤ a → XG fh QQ own mn cc nL ret d Z (pc + 3) lv st h (nm w F)) : XG fh QQ own mn cc nL ret d Z pc lv ((0, a) :: st) h (nm (if 0 ≤ a then u else w) F) := by
  have h1 := x_if_ge (lv := lv) (st := st) (h := h) (a := a) tgt hd ht kt kf
  have e : (if 0 ≤ a then nm u F else nm w F) = nm (if 0 ≤ a then u else w) F := by split <;> rfl
  rw [← e]; exact h1
theorem x_lcmp_ge {a b : Int} {off : Int} {A B : Option ρ} (tgt : Nat) (hd0 : decode cc pc = .ok (.lcmp, 1)) (hd : decode cc (pc + 1) = .ok (.ifCond .ge off, 3)) (ht : ((pc + 1 : Nat) : Int) + off = (tgt : Int)) (kt : b ≤ a → XG fh QQ own mn cc nL ret d Z tgt lv st h A) (kf : ¬ b ≤ a → XG fh QQ own mn cc nL ret d Z (pc + 1 + 3) lv st h B) : XG fh QQ own mn cc nL ret d Z pc lv ((1, b) :: (1, a) :: st) h (if b ≤ a then A else B) := ⟨XM.ite (fun c => (kt c).1) (fun c => (kf c).1), fun X ad H locs ls cells slots hS hl hlv hst hf => W.lcmp X.hx X.hb hd0 (lv_if_ge X.hx X.hb hd ht (fun c0 => have c := (lg_cmp_ge (I64 a) (I64 b)).mp c0; ((kt ((I64_le hst.l hst.t.l).mp c)).2 X ad H locs ls cells slots hS hl hlv hst.t.t (by rw [if_pos ((I64_le hst.l hst.t.l).mp c)] at hf; exact hf))) (fun c0 => have c := (fun q => c0 ((lg_cmp_ge (I64 a) (I64 b)).mpr q)); ((kf (fun q => c ((I64_le hst.l hst.t.l).mpr q))).2 X ad H locs ls cells slots hS hl hlv hst.t.t (by rw [if_neg (fun q => c ((I64_le hst.l hst.t.l).mpr q))] at hf; exact hf))))⟩
theorem x_lcmp_geF {a b : Int} {off : Int} {α : Type} {u w : α} {F : α → Option ρ} (tgt : Nat) (hd0 : decode cc pc = .ok (.lcmp, 1)) (hd : decode cc (pc + 1) = .ok (.ifCond .ge off, 3)) (ht : ((pc + 1 : Nat) : Int) + off = (tgt : Int)) (kt : b ≤ a → XG fh QQ own mn cc nL ret d Z tgt lv st h (nm u F)) (kf : ¬ b ≤ a → XG fh QQ own mn cc nL ret d Z (pc + 1 + 3) lv st h (nm w F)) : XG fh QQ own mn cc nL ret d Z pc lv ((1, b) :: (1, a) :: st) h (nm (if b ≤ a then u else w) F) := by
  have h1 := x_lcmp_ge (lv := lv) (st := st) (h := h) (a := a) (b := b) tgt hd0 hd ht kt kf
  have e : (if b ≤ a then nm u F else nm w F) = nm (if b ≤ a then u else w) F := by split <;> rfl
  rw [← e]; exact h1
theorem x_icmp_le {a b : Int} {off : Int} {A B : Option ρ} (tgt : Nat) (hd : decode cc pc = .ok (.if_icmp .le off, 3)) (ht : (pc : Int) + off = (tgt : Int)) (kt : a ≤ b → XG fh QQ own mn cc nL ret d Z tgt lv st h A) (kf : ¬ a ≤ b → XG fh QQ own mn cc nL ret d Z (pc + 3) lv st h B) : XG fh QQ own mn cc nL ret d Z pc lv ((0, b) :: (0, a) :: st) h (if a ≤ b then A else B) := ⟨XM.ite (fun c => (kt c).1) (fun c => (kf c).1), fun X ad H locs ls cells slots hS hl hlv hst hf => lv_icmp_le X.hx X.hb hd ht (fun c => (kt ((I32_le hst.t.i hst.i).mp c)).2 X ad H locs ls cells slots hS hl hlv hst.t.t (by rw [if_pos ((I32_le hst.t.i hst.i).mp c)] at hf; exact hf)) (fun c => (kf (fun q => c ((I32_le hst.t.i hst.i).mpr q))).2 X ad H locs ls cells slots hS hl hlv hst.t.t (by rw [if_neg (fun q => c ((I32_le hst.t.i hst.i).mpr q))] at hf; exact hf))⟩
theorem x_icmp_leF {a b : Int} {off : Int} {α : Type} {u w : α} {F : α → Option ρ} (tgt : Nat) (hd : decode cc pc = .ok (.if_icmp .le off, 3)) (ht : (pc : Int) + off = (tgt : Int)) (kt : a ≤ b → XG fh QQ own mn cc nL ret d Z tgt lv st h (nm u F)) (kf : ¬ a ≤ b → XG fh QQ own mn cc nL ret d Z (pc + 3) lv st h (nm w F)) : XG fh QQ own mn cc nL ret d Z pc lv ((0, b) :: (0, a) :: st) h (nm (if a ≤ b then u else w) F) := by
  have h1 := x_icmp_le (lv := lv) (st := st) (h := h) (a := a) (b := b) tgt hd ht kt kf
  have e : (if a ≤ b then nm u F else nm w F) = nm (if a ≤ b then u else w) F := by split <;> rfl
  rw [← e]; exact h1
theorem x_if_le {a : Int} {off : Int} {A B : Option ρ} (tgt : Nat) (hd : decode cc pc = .ok (.ifCond .le off, 3)) (ht : (pc : Int) + off = (tgt : Int)) (kt : a ≤ 0 → XG fh QQ own mn cc nL ret d Z tgt lv st h A) (kf : ¬ a ≤ 0 → XG fh QQ own mn cc nL ret d Z (pc + 3) lv st h B) : XG fh QQ own mn cc nL ret d Z pc lv ((0, a) :: st) h (if a ≤ 0 then A else B) := ⟨XM.ite (fun c => (kt c).1) (fun c => (kf c).1), fun X ad H locs ls cells slots hS hl hlv hst hf => lv_if_le X.hx X.hb hd ht (fun c => (kt ((I32_le hst.i in32_0).mp c)).2 X ad H locs ls cells slots hS hl hlv hst.t (by rw [if_pos ((I32_le hst.i in32_0).mp c)] at hf; exact hf)) (fun c => (kf (fun q => c ((I32_le hst.i in32_0).mpr q))).2 X ad H locs ls cells slots hS hl hlv hst.t (by rw [if_neg (fun q => c ((I32_le hst.i in32_0).mpr q))] at hf; exact hf))⟩
theorem x_if_leF {a : Int} {off : Int} {α : Type} {u w : α} {F : α → Option ρ} (tgt : Nat) (hd : decode cc pc = .ok (.ifCond .le off, 3)) (ht : (pc : Int) + off = (tgt : Int)) (kt : a ≤ 0 → XG fh QQ own mn cc nL ret d Z tgt lv st h (nm u F)) (kf : ¬ a ≤ 0 → XG fh QQ own mn cc nL ret d Z (pc + 3) lv st h (nm w F)) : XG fh QQ own mn cc nL ret d Z pc lv ((0, a) :: st) h (nm (if a ≤ 0 then u else w) F) := by
  have h1 := x_if_le (lv := lv) (st := st) (h := h) (a := a) tgt hd ht kt kf
  have e : (if a ≤ 0 then nm u F else nm w F) = nm (if a ≤ 0 then u else w) F := by split <;> rfl
  rw [← e]; exact h1
theorem x_lcmp_le {a b : Int} {off : Int} {A B : Option ρ} (tgt : Nat) (hd0 : decode cc pc = .ok (.lcmp, 1)) (hd : decode cc (pc + 1) = .ok (.ifCond .le off, 3)) (ht : ((pc + 1 : Nat) : Int) + off = (tgt : Int)) (kt : a ≤ b → XG fh QQ own mn cc nL ret d Z tgt lv st h A) (kf : ¬ a ≤ b → XG fh QQ own mn cc nL ret d Z (pc + 1 + 3) lv st h B) : XG fh QQ own mn cc nL ret d Z pc lv ((1, b) :: (1, a) :: st) h (if a ≤ b then A else B) := ⟨XM.ite (fun c => (kt c).1) (fun c => (kf c).1), fun X ad H locs ls cells slots hS hl hlv hst hf => W.lcmp X.hx X.hb hd0 (lv_if_le X.hx X.hb hd ht (fun c0 => have c := (lg_cmp_le (I64 a) (I64 b)).mp c0; ((kt ((I64_le hst.t.l hst.l).mp c)).2 X ad H locs ls cells slots hS hl hlv hst.t.t (by rw [if_pos ((I64_le hst.t.l hst.l).mp c)] at hf; exact hf))) (fun c0 => have c := (fun q => c0 ((lg_cmp_le (I64 a) (I64 b)).mpr q)); ((kf (fun q => c ((I64_le hst.t.l hst.l).mpr q))).2 X ad H locs ls cells slots hS hl hlv hst.t.t (by rw [if_neg (fun q => c ((I64_le hst.t.l hst.l).mpr q))] at hf; exact hf))))⟩
theorem x_lcmp_leF {a b : Int} {off : Int} {α : Type} {u w : α} {F : α → Option ρ} (tgt : Nat) (hd0 : decode cc pc = .ok (.lcmp, 1)) (hd : decode cc (pc + 1) = .ok (.ifCond .le off, 3)) (ht : ((pc + 1 : Nat) : Int) + off = (tgt : Int)) (kt : a ≤ b → XG fh QQ own mn cc nL ret d Z tgt lv st h (nm u F)) (kf : ¬ a ≤ b → XG fh QQ own mn cc nL ret d Z (pc + 1 + 3) lv st h (nm w F)) : XG fh QQ own mn cc nL ret d Z pc lv ((1, b) :: (1, a) :: st) h (nm (if a ≤ b then u else w) F) := by
  have h1 := x_lcmp_le (lv := lv) (st := st) (h := h) (a := a) (b := b) tgt hd0 hd ht kt kf
  have e : (if a ≤ b then nm u F else nm w F) = nm (if a ≤ b then u else w) F := by split <;> rfl
  rw [← e]; exact h1
theorem x_icmp_gt {a b : Int} {off : Int} {A B : Option ρ} (tgt : Nat) (hd : decode cc pc = .ok (.if_icmp .gt off, 3)) (ht : (pc : Int) + off = (tgt : Int)) (kt : b < a → XG fh QQ own mn cc nL ret d Z tgt lv st h A) (kf : ¬ b < a → XG fh QQ own mn cc nL ret d Z (pc + 3) lv st h B) : XG fh QQ own mn cc nL ret d Z pc lv ((0, b) :: (0, a) :: st) h (if b < a then A else B) := ⟨XM.ite (fun c => (kt c).1) (fun c => (kf c).1), fun X ad H locs ls cells slots hS hl hlv hst hf => lv_icmp_gt X.hx X.hb hd ht (fun c => (kt ((I32_lt hst.i hst.t.i).mp c)).2 X ad H locs ls cells slots hS hl hlv hst.t.t (by rw [if_pos ((I32_lt hst.i hst.t.i).mp c)] at hf; exact hf)) (fun c => (kf (fun q => c ((I32_lt hst.i hst.t.i).mpr q))).2 X ad H locs ls cells slots hS hl hlv hst.t.t (by rw [if_neg (fun q => c ((I32_lt hst.i hst.t.i).mpr q))] at hf; exact hf))⟩
theorem x_icmp_gtF {a b : Int} {off : Int} {α : Type} {u w : α} {F : α → Option ρ} (tgt : Nat) (hd : decode cc pc = .ok (.if_icmp .gt off, 3)) (ht : (pc : Int) + off = (tgt : Int)) (kt : b < a → XG fh QQ own mn cc nL ret d Z tgt lv st h (nm u F)) (kf : ¬ b < a → XG fh QQ own mn cc nL ret d Z (pc + 3) lv st h (nm w F)) : XG fh QQ own mn cc nL ret d Z pc lv ((0, b) :: (0, a) :: st) h (nm (if b < a then u else w) F) := by
  have h1 := x_icmp_gt (lv := lv) (st := st) (h := h) (a := a) (b := b) tgt hd ht kt kf
  have e : (if b < a then nm u F else nm w F) = nm (if b < a then u else w) F := by split <;> rfl
  rw [← e]; exact h1
theorem x_if_gt {a : Int} {off : Int} {A B : Option ρ} (tgt : Nat) (hd : decode cc pc = .ok (.ifCond .gt off, 3)) (ht : (pc : Int) + off = (tgt : Int)) (kt : 0 < a → XG fh QQ own mn cc nL ret d Z tgt lv st h A) (kf : ¬ 0 < a → XG fh QQ own mn cc nL ret d Z (pc + 3) lv st h B) : XG fh QQ own mn cc nL ret d Z pc lv ((0, a) :: st) h (if 0 < a then A else B) := ⟨XM.ite (fun c => (kt c).1) (fun c => (kf c).1), fun X ad H locs ls cells slots hS hl hlv hst hf => lv_if_gt X.hx X.hb hd ht (fun c => (kt ((I32_lt in32_0 hst.i).mp c)).2 X ad H locs ls cells slots hS hl hlv hst.t (by rw [if_pos ((I32_lt in32_0 hst.i).mp c)] at hf; exact hf)) (fun c => (kf (fun q => c ((I32_lt in32_0 hst.i).mpr q))).2 X ad H locs ls cells slots hS hl hlv hst.t (by rw [if_neg (fun q => c ((I32_lt in32_0 hst.i).mpr q))] at hf; exact hf))⟩
theorem x_if_gtF {a : Int} {off : Int} {α : Type} {u w : α} {F : α → Option ρ} (tgt : Nat) (hd : decode cc pc = .ok (.ifCond .gt off, 3)) (ht : (pc : Int) + off = (tgt : Int)) (kt : 0 < a → XG fh QQ own mn cc nL ret d Z tgt lv st h (nm u F)) (kf : ¬ 0 < a → XG fh QQ own mn cc nL ret d Z (pc + 3) lv st h (nm w F)) : XG fh QQ own mn cc nL ret d Z pc lv ((0, a) :: st) h (nm (if 0 < a then u else w) F) := by
  have h1 := x_if_gt (lv := lv) (st := st) (h := h) (a := a) tgt hd ht kt kf
  have e : (if 0 < a then nm u F else nm w F) = nm (if 0 < a then u else w) F := by split <;> rfl
  rw [← e]; exact h1
theorem x_lcmp_gt {a b : Int} {off : Int} {A B : Option ρ} (tgt : Nat) (hd0 : decode cc pc = .ok (.lcmp, 1)) (hd : decode cc (pc + 1) = .ok (.ifCond .gt off, 3)) (ht : ((pc + 1 : Nat) : Int) + off = (tgt : Int)) (kt : b < a → XG fh QQ own mn cc nL ret d Z tgt lv st h A) (kf : ¬ b < a → XG fh QQ own mn cc nL ret d Z (pc + 1 + 3) lv st h B) : XG fh QQ own mn cc nL ret d Z pc lv ((1, b) :: (1, a) :: st) h (if b < a then A else B) := ⟨XM.ite (fun c => (kt c).1) (fun c => (kf c).1), fun X ad H locs ls cells slots hS hl hlv hst hf => W.lcmp X.hx X.hb hd0 (lv_if_gt X.hx X.hb hd ht (fun c0 => have c := (lg_cmp_gt (I64 a) (I64 b)).mp c0; ((kt ((I64_lt hst.l hst.t.l).mp c)).2 X ad H locs ls cells slots hS hl hlv hst.t.t (by rw [if_pos ((I64_lt hst.l hst.t.l).mp c)] at hf; exact hf))) (fun c0 => have c := (fun q => c0 ((lg_cmp_gt (I64 a) (I64 b)).mpr q)); ((kf (fun q => c ((I64_lt hst.l hst.t.l).mpr q))).2 X ad H locs ls cells slots hS hl hlv hst.t.t (by rw [if_neg (fun q => c ((I64_lt hst.l hst.t.l).mpr q))] at hf; exact hf))))⟩
theorem x_lcmp_gtF {a b : Int} {off : Int} {α : Type} {u w : α} {F : α → Option ρ} (tgt : Nat) (hd0 : decode cc pc = .ok (.lcmp, 1)) (hd : decode cc (pc + 1) = .ok (.ifCond .gt off, 3)) (ht : ((pc + 1 : Nat) : Int) + off = (tgt : Int)) (kt : b < a → XG fh QQ own mn cc nL ret d Z tgt lv st h (nm u F)) (kf : ¬ b < a → XG fh QQ own mn cc nL ret d Z (pc + 1 + 3) lv st h (nm w F)) : XG fh QQ own mn cc nL ret d Z pc lv ((1, b) :: (1, a) :: st) h (nm (if b < a then u else w) F) := by
  have h1 := x_lcmp_gt (lv := lv) (st := st) (h := h) (a := a) (b := b) tgt hd0 hd ht kt kf
  have e : (if b < a then nm u F else nm w F) = nm (if b < a then u else w) F := by split <;> rfl
  rw [← e]; exact h1
theorem x_ifnull {a off : Int} {A B : Option ρ} (tgt : Nat) (hd : decode cc pc = .ok (.ifnull off, 3)) (ht : (pc : Int) + off = (tgt : Int)) (kz : a = 0 → XG fh QQ own mn cc nL ret d Z tgt lv st h A) (kn : ¬ a = 0 → XG fh QQ own mn cc nL ret d Z (pc + 3) lv st h B) : XG fh QQ own mn cc nL ret d Z pc lv ((2, a) :: st) h (if a = 0 then A else B) := ⟨XM.ite (fun c => (kz c).1) (fun c => (kn c).1), fun X ad H locs ls cells slots hS hl hlv hst hf => by
  show W _ _ _ _ _ _ _ _ _ _ _ _ _ _ _ (F0 _ _ _ (rv ad a :: _))
  unfold rv
  split at hf
  · rename_i e; rw [if_pos e]; exact lv_ifnullN X.hx X.hb hd ht ((kz e).2 X ad H locs ls cells slots hS hl hlv hst.t hf)
  · rename_i e; rw [if_neg e]; exact lv_ifnull X.hx X.hb hd ((kn e).2 X ad H locs ls cells slots hS hl hlv hst.t hf)⟩
theorem x_ifnonnull {a off : Int} {A B : Option ρ} (tgt : Nat) (hd : decode cc pc = .ok (.ifnonnull off, 3)) (ht : (pc : Int) + off = (tgt : Int)) (kz : a = 0 → XG fh QQ own mn cc nL ret d Z (pc + 3) lv st h A) (kn : ¬ a = 0 → XG fh QQ own mn cc nL ret d Z tgt lv st h B) : XG fh QQ own mn cc nL ret d Z pc lv ((2, a) :: st) h (if a = 0 then A else B) := ⟨XM.ite (fun c => (kz c).1) (fun c => (kn c).1), fun X ad H locs ls cells slots hS hl hlv hst hf => by
  show W _ _ _ _ _ _ _ _ _ _ _ _ _ _ _ (F0 _ _ _ (rv ad a :: _))
  unfold rv
  split at hf
  · rename_i e; rw [if_pos e]; exact lv_ifnonnullN X.hx X.hb hd ((kz e).2 X ad H locs ls cells slots hS hl hlv hst.t hf)
  · rename_i e; rw [if_neg e]; exact lv_ifnonnull X.hx X.hb hd ht ((kn e).2 X ad H locs ls cells slots hS hl hlv hst.t hf)⟩
theorem x_kite {p : Prop} [Decidable p] {A B : Option ρ} (ka : p → XG fh QQ own mn cc nL ret d Z pc lv st h A) (kb : ¬ p → XG fh QQ own mn cc nL ret d Z pc lv st h B) : XG fh QQ own mn cc nL ret d Z pc lv st h (if p then A else B) := by
  split
  · rename_i e; exact ka e
  · rename_i e; exact kb e
end ROWS
