/-! the model's layer: the judgement MG and a row an instruction -/
set_option maxRecDepth 100000
abbrev MZ : Type := (Program × Launch × Env × Room × State × MethodId × Array Value × List Frame × Method × Code) × (va_G × (Nat → ClassId) × (Nat → Nat) × Nat) × ((Array Value → State → Outcome → State → Prop) × (Int × VV))
abbrev zP (Z : MZ) : Program := Z.1.1
abbrev zL (Z : MZ) : Launch := Z.1.2.1
abbrev zE (Z : MZ) : Env := Z.1.2.2.1
abbrev zR (Z : MZ) : Room := Z.1.2.2.2.1
abbrev zS (Z : MZ) : State := Z.1.2.2.2.2.1
abbrev zM (Z : MZ) : MethodId := Z.1.2.2.2.2.2.1
abbrev zA (Z : MZ) : Array Value := Z.1.2.2.2.2.2.2.1
abbrev zB (Z : MZ) : List Frame := Z.1.2.2.2.2.2.2.2.1
abbrev zT (Z : MZ) : Method := Z.1.2.2.2.2.2.2.2.2.1
abbrev zC (Z : MZ) : Code := Z.1.2.2.2.2.2.2.2.2.2
abbrev zD (Z : MZ) : va_G := Z.2.1.1
abbrev zCT (Z : MZ) : Nat → ClassId := Z.2.1.2.1
abbrev zAM (Z : MZ) : Nat → Nat := Z.2.1.2.2.1
abbrev zA0 (Z : MZ) : Nat := Z.2.1.2.2.2
abbrev zQ (Z : MZ) : Array Value → State → Outcome → State → Prop := Z.2.2.1
abbrev zF (Z : MZ) : Int × VV := Z.2.2.2
def mQ (rk : Nat) (D : va_G) (cT : Nat → ClassId) (aM : Nat → Nat) (a0 : Nat) (fin : Int × VV) : Array Value → State → Outcome → State → Prop := match rk with
  | 0 => va_Qi (S := Unit) (fun r _ => r = I32 fin.1 ∧ in32 fin.1 ∧ okV fin.2) (fun _ t => va_P D gcl (mW cT aM a0 fin.2) t.heap) (mA aM a0)
  | 1 => va_Ql (S := Unit) (fun r _ => r = I64 fin.1 ∧ in64 fin.1 ∧ okV fin.2) (fun _ t => va_P D gcl (mW cT aM a0 fin.2) t.heap) (mA aM a0)
  | _ => va_Qv (S := Unit) (fun _ => okV fin.2) (fun _ t => va_P D gcl (mW cT aM a0 fin.2) t.heap) (mA aM a0)
def mSpec (l : Launch) (y : MethodName) (cc : ByteArray) (nL : Nat) (ret : Option FieldType) (d rk : Nat) (avs : List AV) (V : VV) (fin : Int × VV) : Prop :=
  ∀ (D : va_G) (cT : Nat → ClassId) (aM : Nat → Nat) (a0 : Nat), mDis aM a0 → Met l y (ws_ y cc nL ret) (mRm d) (va_Pc (avs.map (cA aM a0)) (fun U => va_P D gcl (mW cT aM a0 V) U.heap ∧ va_K D gcl (mTys cT) U)) (mQ rk D cT aM a0 fin) 0 0 (mA aM a0)
/-- what holds all through a method's run -/
def MX (Z : MZ) (cc : ByteArray) (nL : Nat) (ret : Option FieldType) (d rk : Nat) : Prop :=
  zR Z = mRm d ∧ (zP Z).tables.exec = Jvm.exec ∧ (zC Z).code = cc ∧ (zC Z).maxLocals = nL ∧ (zS Z).vm.findClass RX4 = some (zM Z).cls ∧ (∀ w ∈ lw_all, w.before (zA Z) (zS Z) = true) ∧ va_K (zD Z) gcl (mTys (zCT Z)) (zS Z) ∧ mDis (zAM Z) (zA0 Z) ∧ (zT Z).locks = false ∧ (zT Z).sig.returnType = ret ∧ zQ Z = mQ rk (zD Z) (zCT Z) (zAM Z) (zA0 Z) (zF Z)
section
variable {Z : MZ} {cc : ByteArray} {nL : Nat} {ret : Option FieldType} {d rk : Nat}
theorem MX.hR (h : MX Z cc nL ret d rk) : zR Z = mRm d := h.1
theorem MX.hx (h : MX Z cc nL ret d rk) : (zP Z).tables.exec = Jvm.exec := h.2.1
theorem MX.hb (h : MX Z cc nL ret d rk) : (zC Z).code = cc := h.2.2.1
theorem MX.hml (h : MX Z cc nL ret d rk) : (zC Z).maxLocals = nL := h.2.2.2.1
theorem MX.hown (h : MX Z cc nL ret d rk) : (zS Z).vm.findClass RX4 = some (zM Z).cls := h.2.2.2.2.1
theorem MX.hts (h : MX Z cc nL ret d rk) : ∀ w ∈ lw_all, w.before (zA Z) (zS Z) = true := h.2.2.2.2.2.1
theorem MX.hK (h : MX Z cc nL ret d rk) : va_K (zD Z) gcl (mTys (zCT Z)) (zS Z) := h.2.2.2.2.2.2.1
theorem MX.hD (h : MX Z cc nL ret d rk) : mDis (zAM Z) (zA0 Z) := h.2.2.2.2.2.2.2.1
theorem MX.hlk (h : MX Z cc nL ret d rk) : (zT Z).locks = false := h.2.2.2.2.2.2.2.2.1
theorem MX.hr (h : MX Z cc nL ret d rk) : (zT Z).sig.returnType = ret := h.2.2.2.2.2.2.2.2.2.1
theorem MX.hQ (h : MX Z cc nL ret d rk) : zQ Z = mQ rk (zD Z) (zCT Z) (zAM Z) (zA0 Z) (zF Z) := h.2.2.2.2.2.2.2.2.2.2
end
def MG (Z : MZ) (pc : Nat) (lv : List (Nat × AV)) (st : List AV) (V : VV) (res : Option (Int × VV)) : Prop :=
  ∀ (H : Heap) (locs : List Loc) (ls : Array Slot), va_P (zD Z) gcl (mW (zCT Z) (zAM Z) (zA0 Z) V) H → va_S (mA (zAM Z) (zA0 Z)) (zS Z).heap H locs → lv_has ls (zC Z).maxLocals (lv.map (cl1 (zAM Z) (zA0 Z))) → okV V → okl lv → oks st → res = some (zF Z) → W (zP Z) (zL Z) (zE Z) (zR Z) (zS Z) (zM Z) (zA Z) (zB Z) (zT Z) (zC Z) H locs 0 0 (MQ (zB Z) (zQ Z) (zA Z) (zS Z) 0 0 (mA (zAM Z) (zA0 Z))) (F0 (zM Z) pc ls (st.map (cA (zAM Z) (zA0 Z))))
theorem okl.at {lv : List (Nat × AV)} (h : okl lv) {j i : Nat} {v : AV} (hj : lv[j]? = some (i, v)) : okA v := h (i, v) (List.mem_of_getElem? hj)
theorem cat_cA (aM : Nat → Nat) (a0 : Nat) (v : AV) : ((cA aM a0 v).category == 2) = (v.1 == 1) := by
  match v with
  | (0, x) => rfl
  | (1, x) => rfl
  | (2, x) => rfl
  | (n + 3, x) => rfl
theorem cat1_cA (aM : Nat → Nat) (a0 : Nat) (v : AV) (h : (v.1 == 1) = false) : (cA aM a0 v).category = 1 := by
  match v with
  | (0, x) => rfl
  | (1, x) => cases h
  | (2, x) => rfl
  | (n + 3, x) => rfl
/-- locals after a store -/
def lvs1 (i : Nat) (v : AV) (lv : List (Nat × AV)) : List (Nat × AV) := (i, v) :: lv.filter (fun q => !(q.1 == i) && !(q.1 + 1 == i && q.2.1 == 1))
def lvs2 (i : Nat) (v : AV) (lv : List (Nat × AV)) : List (Nat × AV) := (i, v) :: lv.filter (fun q => !(q.1 == i) && (!(q.1 == i + 1) && !(q.1 + 1 == i && q.2.1 == 1)))
theorem lvs1_map (aM : Nat → Nat) (a0 : Nat) (i : Nat) (v : AV) (lv : List (Nat × AV)) : (lvs1 i v lv).map (cl1 aM a0) = (i, cA aM a0 v) :: (lv.map (cl1 aM a0)).filter (fun q => !(q.1 == i) && !(q.1 + 1 == i && q.2.category == 2)) := by
  unfold lvs1
  rw [List.map_cons, List.filter_map]
  congr 2
  apply List.filter_congr
  intro q _
  show _ = (!(q.1 == i) && !(q.1 + 1 == i && (cA aM a0 q.2).category == 2))
  rw [cat_cA]
theorem lvs2_map (aM : Nat → Nat) (a0 : Nat) (i : Nat) (v : AV) (lv : List (Nat × AV)) : (lvs2 i v lv).map (cl1 aM a0) = (i, cA aM a0 v) :: (lv.map (cl1 aM a0)).filter (fun q => !(q.1 == i) && (!(q.1 == i + 1) && !(q.1 + 1 == i && q.2.category == 2))) := by
  unfold lvs2
  rw [List.map_cons, List.filter_map]
  congr 2
  apply List.filter_congr
  intro q _
  show _ = (!(q.1 == i) && (!(q.1 == i + 1) && !(q.1 + 1 == i && (cA aM a0 q.2).category == 2)))
  rw [cat_cA]
theorem okl.s1 {lv : List (Nat × AV)} (h : okl lv) {i : Nat} {v : AV} (hv : okA v) : okl (lvs1 i v lv) := fun q hq => by
  rcases List.mem_cons.mp hq with rfl | hq
  · exact hv
  · exact h q (List.mem_filter.mp hq).1
theorem okl.s2 {lv : List (Nat × AV)} (h : okl lv) {i : Nat} {v : AV} (hv : okA v) : okl (lvs2 i v lv) := fun q hq => by
  rcases List.mem_cons.mp hq with rfl | hq
  · exact hv
  · exact h q (List.mem_filter.mp hq).1
section ROWS
variable {Z : MZ} {cc : ByteArray} {nL : Nat} {ret : Option FieldType} {d rk : Nat} {pc : Nat} {lv : List (Nat × AV)} {st : List AV} {V : VV} {res : Option (Int × VV)}
/-- fewer locals -/
theorem m_sub {lv' : List (Nat × AV)} (is : List Nat) (h : is.filterMap (fun i => lv[i]?) = lv') (kk : MG Z pc lv' st V res) : MG Z pc lv st V res := by
  intro H locs ls hP hS hl hV hlv hst hf
  refine kk H locs ls hP hS ⟨hl.1, hl.2.1, fun q hq => ?_⟩ hV (fun q hq => ?_) hst hf
  · obtain ⟨q0, h0, rfl⟩ := List.mem_map.mp hq
    rw [← h] at h0
    obtain ⟨i, -, hi⟩ := List.mem_filterMap.mp h0
    exact hl.2.2 _ (List.mem_map.mpr ⟨q0, List.mem_of_getElem? hi, rfl⟩)
  · rw [← h] at hq
    obtain ⟨i, -, hi⟩ := List.mem_filterMap.mp hq
    exact hlv q (List.mem_of_getElem? hi)
theorem m_nm {α : Type} {e : α} {f : α → Option (Int × VV)} (kk : MG Z pc lv st V (f e)) : MG Z pc lv st V (nm e f) := kk
/-- a name for the top -/
theorem m_nmT {t : Nat} {e : Int} {f : Int → Option (Int × VV)} (kk : ∀ x, MG Z pc lv ((t, x) :: st) V (f x)) : MG Z pc lv ((t, e) :: st) V (nm e f) := kk e
theorem m_nmV {f : VV → Option (Int × VV)} (kk : ∀ V1, MG Z pc lv st V1 (f V1)) : MG Z pc lv st V (nm V f) := kk V
theorem m_iload_n (hX : MX Z cc nL ret d rk) {k : Fin 4} {i : Nat} {x : Int} (j : Nat) (hd : decode cc pc = .ok (.iload_n k, 1)) (hk : (k : Nat) = i) (hj : lv[j]? = some (i, (0, x))) (kk : MG Z (pc + 1) lv ((0, x) :: st) V res) : MG Z pc lv st V res := fun H locs ls hP hS hl hV hlv hst hf =>
  lv_iload_n hX.hx hX.hb hd hk (lv_at hl j (map_at (cl1 _ _) hj)) (kk H locs ls hP hS hl hV hlv (hst.c (hlv.at hj)) hf)
theorem m_iload (hX : MX Z cc nL ret d rk) {i : Nat} {x : Int} (j : Nat) (hd : decode cc pc = .ok (.iload i, 2)) (hj : lv[j]? = some (i, (0, x))) (kk : MG Z (pc + 2) lv ((0, x) :: st) V res) : MG Z pc lv st V res := fun H locs ls hP hS hl hV hlv hst hf =>
  lv_iload hX.hx hX.hb hd (lv_at hl j (map_at (cl1 _ _) hj)) (kk H locs ls hP hS hl hV hlv (hst.c (hlv.at hj)) hf)
theorem m_lload_n (hX : MX Z cc nL ret d rk) {k : Fin 4} {i : Nat} {x : Int} (j : Nat) (hd : decode cc pc = .ok (.lload_n k, 1)) (hk : (k : Nat) = i) (hj : lv[j]? = some (i, (1, x))) (kk : MG Z (pc + 1) lv ((1, x) :: st) V res) : MG Z pc lv st V res := fun H locs ls hP hS hl hV hlv hst hf =>
  lv_lload_n hX.hx hX.hb hd hk (lv_at hl j (map_at (cl1 _ _) hj)) (kk H locs ls hP hS hl hV hlv (hst.c (hlv.at hj)) hf)
theorem m_lload (hX : MX Z cc nL ret d rk) {i : Nat} {x : Int} (j : Nat) (hd : decode cc pc = .ok (.lload i, 2)) (hj : lv[j]? = some (i, (1, x))) (kk : MG Z (pc + 2) lv ((1, x) :: st) V res) : MG Z pc lv st V res := fun H locs ls hP hS hl hV hlv hst hf =>
  lv_lload hX.hx hX.hb hd (lv_at hl j (map_at (cl1 _ _) hj)) (kk H locs ls hP hS hl hV hlv (hst.c (hlv.at hj)) hf)
/-- this, or an array -/
theorem m_aload_n (hX : MX Z cc nL ret d rk) {k : Fin 4} {i : Nat} {x : Int} (j : Nat) (hd : decode cc pc = .ok (.aload_n k, 1)) (hk : (k : Nat) = i) (hj : lv[j]? = some (i, (3, x))) (kk : MG Z (pc + 1) lv ((3, x) :: st) V res) : MG Z pc lv st V res := fun H locs ls hP hS hl hV hlv hst hf =>
  lv_aload_n hX.hx hX.hb hd hk (lv_at hl j (map_at (cl1 _ _) hj)) (kk H locs ls hP hS hl hV hlv (hst.c (hlv.at hj)) hf)
theorem m_aload_n2 (hX : MX Z cc nL ret d rk) {k : Fin 4} {i : Nat} {x : Int} (j : Nat) (hd : decode cc pc = .ok (.aload_n k, 1)) (hk : (k : Nat) = i) (hj : lv[j]? = some (i, (2, x))) (kk : MG Z (pc + 1) lv ((2, x) :: st) V res) : MG Z pc lv st V res := fun H locs ls hP hS hl hV hlv hst hf =>
  lv_aload_n hX.hx hX.hb hd hk (lv_at hl j (map_at (cl1 _ _) hj)) (kk H locs ls hP hS hl hV hlv (hst.c (hlv.at hj)) hf)
theorem m_istore_n (hX : MX Z cc nL ret d rk) {k : Fin 4} {i : Nat} {x : Int} {lv' : List (Nat × AV)} (hd : decode cc pc = .ok (.istore_n k, 1)) (hk : (k : Nat) = i) (hn : i < nL) (hl' : lvs1 i (0, x) lv = lv') (kk : MG Z (pc + 1) lv' st V res) : MG Z pc lv ((0, x) :: st) V res := fun H locs ls hP hS hl hV hlv hst hf =>
  lv_istore_n hX.hx hX.hb hd hk hl (by rw [hX.hml]; exact hn) rfl fun ls' hl2 => kk H locs ls' hP hS (by rw [← hl', lvs1_map]; exact hl2) hV (by rw [← hl']; exact hlv.s1 hst.hd) hst.t hf
theorem m_istore (hX : MX Z cc nL ret d rk) {i : Nat} {x : Int} {lv' : List (Nat × AV)} (hd : decode cc pc = .ok (.istore i, 2)) (hn : i < nL) (hl' : lvs1 i (0, x) lv = lv') (kk : MG Z (pc + 2) lv' st V res) : MG Z pc lv ((0, x) :: st) V res := fun H locs ls hP hS hl hV hlv hst hf =>
  lv_istore hX.hx hX.hb hd hl (by rw [hX.hml]; exact hn) rfl fun ls' hl2 => kk H locs ls' hP hS (by rw [← hl', lvs1_map]; exact hl2) hV (by rw [← hl']; exact hlv.s1 hst.hd) hst.t hf
theorem m_lstore_n (hX : MX Z cc nL ret d rk) {k : Fin 4} {i : Nat} {x : Int} {lv' : List (Nat × AV)} (hd : decode cc pc = .ok (.lstore_n k, 1)) (hk : (k : Nat) = i) (hn : i + 1 < nL) (hl' : lvs2 i (1, x) lv = lv') (kk : MG Z (pc + 1) lv' st V res) : MG Z pc lv ((1, x) :: st) V res := fun H locs ls hP hS hl hV hlv hst hf =>
  lv_lstore_n hX.hx hX.hb hd hk hl (by rw [hX.hml]; exact hn) rfl fun ls' hl2 => kk H locs ls' hP hS (by rw [← hl', lvs2_map]; exact hl2) hV (by rw [← hl']; exact hlv.s2 hst.hd) hst.t hf
theorem m_lstore (hX : MX Z cc nL ret d rk) {i : Nat} {x : Int} {lv' : List (Nat × AV)} (hd : decode cc pc = .ok (.lstore i, 2)) (hn : i + 1 < nL) (hl' : lvs2 i (1, x) lv = lv') (kk : MG Z (pc + 2) lv' st V res) : MG Z pc lv ((1, x) :: st) V res := fun H locs ls hP hS hl hV hlv hst hf =>
  lv_lstore hX.hx hX.hb hd hl (by rw [hX.hml]; exact hn) rfl fun ls' hl2 => kk H locs ls' hP hS (by rw [← hl', lvs2_map]; exact hl2) hV (by rw [← hl']; exact hlv.s2 hst.hd) hst.t hf
theorem m_lv {lv' : List (Nat × AV)} (h : lv = lv') (kk : MG Z pc lv' st V res) : MG Z pc lv st V res := h ▸ kk
theorem m_none : MG Z pc lv st V none := fun H locs ls hP hS hl hV hlv hst hf => by cases hf
theorem m_iinc (hX : MX Z cc nL ret d rk) {i : Nat} {n x : Int} (j : Nat) (hd : decode cc pc = .ok (.iinc i n, 3)) (hj : lv[j]? = some (i, (0, x))) (hn : i < nL) {f : Int → Option (Int × VV)} (kk : ∀ y, MG Z (pc + 3) (lvs1 i (0, y) lv) st V (f y)) : MG Z pc lv st V (nm (w32 (x + n)) f) := fun H locs ls hP hS hl hV hlv hst hf =>
  lv_iinc (v := I32 (w32 (x + n))) hX.hx hX.hb hd hl (map_at (cl1 _ _) hj) (by rw [← I32_add]) (by rw [hX.hml]; exact hn) rfl fun ls' hl2 => kk (w32 (x + n)) H locs ls' hP hS (by rw [lvs1_map]; exact hl2) hV (hlv.s1 (okA.i (w32_in _))) hst hf
theorem m_iconst (hX : MX Z cc nL ret d rk) {n : Int} (hd : decode cc pc = .ok (.iconst n, 1)) (hn : in32 n) (kk : MG Z (pc + 1) lv ((0, n) :: st) V res) : MG Z pc lv st V res := fun H locs ls hP hS hl hV hlv hst hf =>
  lv_iconst hX.hx hX.hb hd rfl (kk H locs ls hP hS hl hV hlv (hst.c (okA.i hn)) hf)
theorem m_bipush (hX : MX Z cc nL ret d rk) {n : Int} (hd : decode cc pc = .ok (.bipush n, 2)) (hv : (Int8.ofInt n).toInt32 = I32 n) (hn : in32 n) (kk : MG Z (pc + 2) lv ((0, n) :: st) V res) : MG Z pc lv st V res := fun H locs ls hP hS hl hV hlv hst hf =>
  lv_bipush hX.hx hX.hb hd hv (kk H locs ls hP hS hl hV hlv (hst.c (okA.i hn)) hf)
theorem m_sipush (hX : MX Z cc nL ret d rk) {n : Int} (hd : decode cc pc = .ok (.sipush n, 3)) (hv : (Int16.ofInt n).toInt32 = I32 n) (hn : in32 n) (kk : MG Z (pc + 3) lv ((0, n) :: st) V res) : MG Z pc lv st V res := fun H locs ls hP hS hl hV hlv hst hf =>
  lv_sipush hX.hx hX.hb hd hv (kk H locs ls hP hS hl hV hlv (hst.c (okA.i hn)) hf)
theorem m_lconst (hX : MX Z cc nL ret d rk) {k : Fin 2} {n : Int} (hd : decode cc pc = .ok (.lconst k, 1)) (hv : Int64.ofNat (k : Nat) = I64 n) (hn : in64 n) (kk : MG Z (pc + 1) lv ((1, n) :: st) V res) : MG Z pc lv st V res := fun H locs ls hP hS hl hV hlv hst hf =>
  lv_lconst hX.hx hX.hb hd hv (kk H locs ls hP hS hl hV hlv (hst.c (okA.l hn)) hf)
theorem m_ldc (hX : MX Z cc nL ret d rk) {ix : Nat} {v : Int32} {n : Int} (hq : Cond.constant RX4 ix v ∈ lw_all) (hd : decode cc pc = .ok (.ldc ix, 2)) (hv : v = I32 n) (hn : in32 n) (kk : MG Z (pc + 2) lv ((0, n) :: st) V res) : MG Z pc lv st V res := fun H locs ls hP hS hl hV hlv hst hf => by
  subst hv
  exact lv_ldc hX.hx hX.hb hX.hown (hX.hts _ hq) hd (kk H locs ls hP hS hl hV hlv (hst.c (okA.i hn)) hf)
theorem m_ldcw (hX : MX Z cc nL ret d rk) {ix : Nat} {v : Int32} {n : Int} (hq : Cond.constant RX4 ix v ∈ lw_all) (hd : decode cc pc = .ok (.ldc_w ix, 3)) (hv : v = I32 n) (hn : in32 n) (kk : MG Z (pc + 3) lv ((0, n) :: st) V res) : MG Z pc lv st V res := fun H locs ls hP hS hl hV hlv hst hf => by
  subst hv
  exact lv_ldcw hX.hx hX.hb hX.hown (hX.hts _ hq) hd (kk H locs ls hP hS hl hV hlv (hst.c (okA.i hn)) hf)
theorem m_ldc2 (hX : MX Z cc nL ret d rk) {ix : Nat} {v : Int64} {n : Int} (hq : Cond.constantLong RX4 ix v ∈ lw_all) (hd : decode cc pc = .ok (.ldc2_w ix, 3)) (hv : v = I64 n) (hn : in64 n) (kk : MG Z (pc + 3) lv ((1, n) :: st) V res) : MG Z pc lv st V res := fun H locs ls hP hS hl hV hlv hst hf => by
  subst hv
  exact lv_ldc2 hX.hx hX.hb hX.hown (hX.hts _ hq) hd (kk H locs ls hP hS hl hV hlv (hst.c (okA.l hn)) hf)
theorem bp_ok {n : Int} (h1 : -128 ≤ n) (h2 : n ≤ 127) : (Int8.ofInt n).toInt32 = I32 n := by
  apply Int32.toInt_inj.mp
  rw [Int8.toInt_toInt32, Int8.toInt_ofInt, toI32 ⟨by omega, by omega⟩]
  exact (w8_bm n).trans (w8_id h1 h2)
theorem sp_ok {n : Int} (h1 : -32768 ≤ n) (h2 : n ≤ 32767) : (Int16.ofInt n).toInt32 = I32 n := by
  apply Int32.toInt_inj.mp
  rw [Int16.toInt_toInt32, Int16.toInt_ofInt, toI32 ⟨by omega, by omega⟩]
  show Int.bmod n 65536 = n
  rw [Int.bmod_def]; split <;> omega
theorem m_ic (hX : MX Z cc nL ret d rk) {n : Int} (hd : decode cc pc = .ok (.iconst n, 1)) (h1 : -1 ≤ n) (h2 : n ≤ 5) (kk : MG Z (pc + 1) lv ((0, n) :: st) V res) : MG Z pc lv st V res := m_iconst hX hd ⟨by omega, by omega⟩ kk
theorem m_bp (hX : MX Z cc nL ret d rk) {n : Int} (hd : decode cc pc = .ok (.bipush n, 2)) (h1 : -128 ≤ n) (h2 : n ≤ 127) (kk : MG Z (pc + 2) lv ((0, n) :: st) V res) : MG Z pc lv st V res := m_bipush hX hd (bp_ok h1 h2) ⟨by omega, by omega⟩ kk
theorem m_sp (hX : MX Z cc nL ret d rk) {n : Int} (hd : decode cc pc = .ok (.sipush n, 3)) (h1 : -32768 ≤ n) (h2 : n ≤ 32767) (kk : MG Z (pc + 3) lv ((0, n) :: st) V res) : MG Z pc lv st V res := m_sipush hX hd (sp_ok h1 h2) ⟨by omega, by omega⟩ kk
theorem m_l0 (hX : MX Z cc nL ret d rk) (hd : decode cc pc = .ok (.lconst 0, 1)) (kk : MG Z (pc + 1) lv ((1, 0) :: st) V res) : MG Z pc lv st V res := m_lconst hX hd rfl ⟨by decide, by decide⟩ kk
theorem m_l1 (hX : MX Z cc nL ret d rk) (hd : decode cc pc = .ok (.lconst 1, 1)) (kk : MG Z (pc + 1) lv ((1, 1) :: st) V res) : MG Z pc lv st V res := m_lconst hX hd rfl ⟨by decide, by decide⟩ kk
/-- two ways to one value, and on from there -/
theorem m_join {α : Type} {e : α} {F : α → Option (Int × VV)} (pcJ : Nat) (stJ : α → List AV) (hJ : ∀ v, MG Z pcJ lv (stJ v) V (F v)) (hK : (∀ v, MG Z pcJ lv (stJ v) V (F v)) → MG Z pc lv st V (nm e F)) : MG Z pc lv st V (nm e F) := hK hJ
theorem m_iadd (hX : MX Z cc nL ret d rk) {a b : Int} (hd : decode cc pc = .ok (.iadd, 1)) (kk : MG Z (pc + 1) lv ((0, w32 (a + b)) :: st) V res) : MG Z pc lv ((0, b) :: (0, a) :: st) V res := fun H locs ls hP hS hl hV hlv hst hf =>
  lv_iadd hX.hx hX.hb hd (by rw [I32_add]; exact kk H locs ls hP hS hl hV hlv (hst.t.t.c (okA.i (w32_in _))) hf)
theorem m_isub (hX : MX Z cc nL ret d rk) {a b : Int} (hd : decode cc pc = .ok (.isub, 1)) (kk : MG Z (pc + 1) lv ((0, w32 (a - b)) :: st) V res) : MG Z pc lv ((0, b) :: (0, a) :: st) V res := fun H locs ls hP hS hl hV hlv hst hf =>
  lv_isub hX.hx hX.hb hd (by rw [I32_sub]; exact kk H locs ls hP hS hl hV hlv (hst.t.t.c (okA.i (w32_in _))) hf)
theorem m_imul (hX : MX Z cc nL ret d rk) {a b : Int} (hd : decode cc pc = .ok (.imul, 1)) (kk : MG Z (pc + 1) lv ((0, w32 (a * b)) :: st) V res) : MG Z pc lv ((0, b) :: (0, a) :: st) V res := fun H locs ls hP hS hl hV hlv hst hf =>
  lv_imul hX.hx hX.hb hd (by rw [I32_mul]; exact kk H locs ls hP hS hl hV hlv (hst.t.t.c (okA.i (w32_in _))) hf)
theorem m_ineg (hX : MX Z cc nL ret d rk) {a : Int} (hd : decode cc pc = .ok (.ineg, 1)) (kk : MG Z (pc + 1) lv ((0, w32 (-a)) :: st) V res) : MG Z pc lv ((0, a) :: st) V res := fun H locs ls hP hS hl hV hlv hst hf =>
  lv_ineg hX.hx hX.hb hd (by rw [I32_neg]; exact kk H locs ls hP hS hl hV hlv (hst.t.c (okA.i (w32_in _))) hf)
theorem m_idiv (hX : MX Z cc nL ret d rk) {a b : Int} (hd : decode cc pc = .ok (.idiv, 1)) (kk : MG Z (pc + 1) lv ((0, w32 (a.tdiv b)) :: st) V res) : MG Z pc lv ((0, b) :: (0, a) :: st) V (cz b res) := fun H locs ls hP hS hl hV hlv hst hf =>
  have h := cz_some hf
  lv_idiv hX.hx hX.hb hd (fun q => h.1 (I32_inj hst.i in32_0 q)) (by rw [I32_div hst.t.i hst.i]; exact kk H locs ls hP hS hl hV hlv (hst.t.t.c (okA.i (w32_in _))) h.2)
theorem m_irem (hX : MX Z cc nL ret d rk) {a b : Int} (hd : decode cc pc = .ok (.irem, 1)) (kk : MG Z (pc + 1) lv ((0, a.tmod b) :: st) V res) : MG Z pc lv ((0, b) :: (0, a) :: st) V (cz b res) := fun H locs ls hP hS hl hV hlv hst hf =>
  have h := cz_some hf
  lv_irem hX.hx hX.hb hd (fun q => h.1 (I32_inj hst.i in32_0 q)) (by rw [I32_rem hst.t.i hst.i]; exact kk H locs ls hP hS hl hV hlv (hst.t.t.c (okA.i (tmod_in32 hst.t.i))) h.2)
theorem m_iand (hX : MX Z cc nL ret d rk) {a b : Int} (hd : decode cc pc = .ok (.iand, 1)) (kk : MG Z (pc + 1) lv ((0, iand a b) :: st) V res) : MG Z pc lv ((0, b) :: (0, a) :: st) V res := fun H locs ls hP hS hl hV hlv hst hf =>
  lv_iand hX.hx hX.hb hd (by rw [← I32_of (I32 a &&& I32 b)]; exact kk H locs ls hP hS hl hV hlv (hst.t.t.c (okA.i (i32_in _))) hf)
theorem m_ior (hX : MX Z cc nL ret d rk) {a b : Int} (hd : decode cc pc = .ok (.ior, 1)) (kk : MG Z (pc + 1) lv ((0, ior a b) :: st) V res) : MG Z pc lv ((0, b) :: (0, a) :: st) V res := fun H locs ls hP hS hl hV hlv hst hf =>
  lv_ior hX.hx hX.hb hd (by rw [← I32_of (I32 a ||| I32 b)]; exact kk H locs ls hP hS hl hV hlv (hst.t.t.c (okA.i (i32_in _))) hf)
theorem m_ixor (hX : MX Z cc nL ret d rk) {a b : Int} (hd : decode cc pc = .ok (.ixor, 1)) (kk : MG Z (pc + 1) lv ((0, ixor a b) :: st) V res) : MG Z pc lv ((0, b) :: (0, a) :: st) V res := fun H locs ls hP hS hl hV hlv hst hf =>
  lv_ixor hX.hx hX.hb hd (by rw [← I32_of (I32 a ^^^ I32 b)]; exact kk H locs ls hP hS hl hV hlv (hst.t.t.c (okA.i (i32_in _))) hf)
theorem m_ishl (hX : MX Z cc nL ret d rk) {a b : Int} (hd : decode cc pc = .ok (.ishl, 1)) (kk : MG Z (pc + 1) lv ((0, ishl a b) :: st) V res) : MG Z pc lv ((0, b) :: (0, a) :: st) V res := fun H locs ls hP hS hl hV hlv hst hf =>
  lv_ishl hX.hx hX.hb hd (by rw [← I32_of (I32 a <<< (I32 b &&& 31))]; exact kk H locs ls hP hS hl hV hlv (hst.t.t.c (okA.i (i32_in _))) hf)
theorem m_ishr (hX : MX Z cc nL ret d rk) {a b : Int} (hd : decode cc pc = .ok (.ishr, 1)) (kk : MG Z (pc + 1) lv ((0, ishr a b) :: st) V res) : MG Z pc lv ((0, b) :: (0, a) :: st) V res := fun H locs ls hP hS hl hV hlv hst hf =>
  lv_ishr hX.hx hX.hb hd (by rw [← I32_of (I32 a >>> (I32 b &&& 31))]; exact kk H locs ls hP hS hl hV hlv (hst.t.t.c (okA.i (i32_in _))) hf)
theorem m_ladd (hX : MX Z cc nL ret d rk) {a b : Int} (hd : decode cc pc = .ok (.ladd, 1)) (kk : MG Z (pc + 1) lv ((1, w64 (a + b)) :: st) V res) : MG Z pc lv ((1, b) :: (1, a) :: st) V res := fun H locs ls hP hS hl hV hlv hst hf =>
  lv_ladd hX.hx hX.hb hd (by rw [I64_add]; exact kk H locs ls hP hS hl hV hlv (hst.t.t.c (okA.l (w64_in _))) hf)
theorem m_lsub (hX : MX Z cc nL ret d rk) {a b : Int} (hd : decode cc pc = .ok (.lsub, 1)) (kk : MG Z (pc + 1) lv ((1, w64 (a - b)) :: st) V res) : MG Z pc lv ((1, b) :: (1, a) :: st) V res := fun H locs ls hP hS hl hV hlv hst hf =>
  lv_lsub hX.hx hX.hb hd (by rw [I64_sub]; exact kk H locs ls hP hS hl hV hlv (hst.t.t.c (okA.l (w64_in _))) hf)
theorem m_lmul (hX : MX Z cc nL ret d rk) {a b : Int} (hd : decode cc pc = .ok (.lmul, 1)) (kk : MG Z (pc + 1) lv ((1, w64 (a * b)) :: st) V res) : MG Z pc lv ((1, b) :: (1, a) :: st) V res := fun H locs ls hP hS hl hV hlv hst hf =>
  lv_lmul hX.hx hX.hb hd (by rw [I64_mul]; exact kk H locs ls hP hS hl hV hlv (hst.t.t.c (okA.l (w64_in _))) hf)
theorem m_ldiv (hX : MX Z cc nL ret d rk) {a b : Int} (hd : decode cc pc = .ok (.ldiv, 1)) (kk : MG Z (pc + 1) lv ((1, w64 (a.tdiv b)) :: st) V res) : MG Z pc lv ((1, b) :: (1, a) :: st) V (cz b res) := fun H locs ls hP hS hl hV hlv hst hf =>
  have h := cz_some hf
  lv_ldiv hX.hx hX.hb hd (fun q => h.1 (I64_inj hst.l (in32_64 in32_0) q)) (by rw [I64_div hst.t.l hst.l]; exact kk H locs ls hP hS hl hV hlv (hst.t.t.c (okA.l (w64_in _))) h.2)
theorem m_lrem (hX : MX Z cc nL ret d rk) {a b : Int} (hd : decode cc pc = .ok (.lrem, 1)) (kk : MG Z (pc + 1) lv ((1, a.tmod b) :: st) V res) : MG Z pc lv ((1, b) :: (1, a) :: st) V (cz b res) := fun H locs ls hP hS hl hV hlv hst hf =>
  have h := cz_some hf
  lv_lrem hX.hx hX.hb hd (fun q => h.1 (I64_inj hst.l (in32_64 in32_0) q)) (by rw [I64_rem hst.t.l hst.l]; exact kk H locs ls hP hS hl hV hlv (hst.t.t.c (okA.l (tmod_in64 hst.t.l))) h.2)
theorem m_i2l (hX : MX Z cc nL ret d rk) {a : Int} (hd : decode cc pc = .ok (.i2l, 1)) (kk : MG Z (pc + 1) lv ((1, a) :: st) V res) : MG Z pc lv ((0, a) :: st) V res := fun H locs ls hP hS hl hV hlv hst hf =>
  lv_i2l hX.hx hX.hb hd (I32_i2l hst.i) (kk H locs ls hP hS hl hV hlv (hst.t.c (okA.l (in32_64 hst.i))) hf)
theorem m_l2i (hX : MX Z cc nL ret d rk) {a : Int} (hd : decode cc pc = .ok (.l2i, 1)) (kk : MG Z (pc + 1) lv ((0, w32 a) :: st) V res) : MG Z pc lv ((1, a) :: st) V res := fun H locs ls hP hS hl hV hlv hst hf =>
  lv_l2i hX.hx hX.hb hd (I64_l2i hst.l) (kk H locs ls hP hS hl hV hlv (hst.t.c (okA.i (w32_in _))) hf)
theorem m_i2b (hX : MX Z cc nL ret d rk) {a : Int} (hd : decode cc pc = .ok (.i2b, 1)) (kk : MG Z (pc + 1) lv ((0, w8 a) :: st) V res) : MG Z pc lv ((0, a) :: st) V res := fun H locs ls hP hS hl hV hlv hst hf =>
  lv_i2b hX.hx hX.hb hd (I32_i2b hst.i) (kk H locs ls hP hS hl hV hlv (hst.t.c (okA.i (in8_32 (w8_in _)))) hf)
theorem m_dup (hX : MX Z cc nL ret d rk) {v : AV} (hd : decode cc pc = .ok (.dup, 1)) (hv : (v.1 == 1) = false) (kk : MG Z (pc + 1) lv (v :: v :: st) V res) : MG Z pc lv (v :: st) V res := fun H locs ls hP hS hl hV hlv hst hf =>
  lv_dup hX.hx hX.hb hd (cat1_cA _ _ v hv) (kk H locs ls hP hS hl hV hlv (hst.c hst.hd) hf)
theorem m_pop (hX : MX Z cc nL ret d rk) {v : AV} (hd : decode cc pc = .ok (.pop, 1)) (hv : (v.1 == 1) = false) (kk : MG Z (pc + 1) lv st V res) : MG Z pc lv (v :: st) V res := fun H locs ls hP hS hl hV hlv hst hf =>
  lv_pop hX.hx hX.hb hd (cat1_cA _ _ v hv) (kk H locs ls hP hS hl hV hlv hst.t hf)
theorem m_dup2 (hX : MX Z cc nL ret d rk) {v w : AV} (hd : decode cc pc = .ok (.dup2, 1)) (hv : (v.1 == 1) = false) (hw : (w.1 == 1) = false) (kk : MG Z (pc + 1) lv (v :: w :: v :: w :: st) V res) : MG Z pc lv (v :: w :: st) V res := fun H locs ls hP hS hl hV hlv hst hf =>
  lv_dup2_11 hX.hx hX.hb hd (cat1_cA _ _ v hv) (cat1_cA _ _ w hw) (kk H locs ls hP hS hl hV hlv ((hst.c hst.t.hd).c hst.hd) hf)
theorem m_goto (hX : MX Z cc nL ret d rk) {off : Int} (tgt : Nat) (hd : decode cc pc = .ok (.goto off, 3)) (ht : (pc : Int) + off = (tgt : Int)) (kk : MG Z tgt lv st V res) : MG Z pc lv st V res := fun H locs ls hP hS hl hV hlv hst hf =>
  lv_goto hX.hx hX.hb hd ht (kk H locs ls hP hS hl hV hlv hst hf)
theorem m_icmp_eq (hX : MX Z cc nL ret d rk) {a b : Int} {off : Int} {A B : Option (Int × VV)} (tgt : Nat) (hd : decode cc pc = .ok (.if_icmp .eq off, 3)) (ht : (pc : Int) + off = (tgt : Int)) (kt : a = b → MG Z tgt lv st V A) (kf : ¬ a = b → MG Z (pc + 3) lv st V B) : MG Z pc lv ((0, b) :: (0, a) :: st) V (if a = b then A else B) := fun H locs ls hP hS hl hV hlv hst hf =>
  lv_icmp_eq hX.hx hX.hb hd ht (fun c => kt ((I32_eq hst.t.i hst.i).mp c) H locs ls hP hS hl hV hlv hst.t.t (by rw [if_pos ((I32_eq hst.t.i hst.i).mp c)] at hf; exact hf)) (fun c => kf (fun q => c ((I32_eq hst.t.i hst.i).mpr q)) H locs ls hP hS hl hV hlv hst.t.t (by rw [if_neg (fun q => c ((I32_eq hst.t.i hst.i).mpr q))] at hf; exact hf))
theorem m_if_eq (hX : MX Z cc nL ret d rk) {a : Int} {off : Int} {A B : Option (Int × VV)} (tgt : Nat) (hd : decode cc pc = .ok (.ifCond .eq off, 3)) (ht : (pc : Int) + off = (tgt : Int)) (kt : a = 0 → MG Z tgt lv st V A) (kf : ¬ a = 0 → MG Z (pc + 3) lv st V B) : MG Z pc lv ((0, a) :: st) V (if a = 0 then A else B) := fun H locs ls hP hS hl hV hlv hst hf =>
  lv_if_eq hX.hx hX.hb hd ht (fun c => kt ((I32_eq hst.i in32_0).mp c) H locs ls hP hS hl hV hlv hst.t (by rw [if_pos ((I32_eq hst.i in32_0).mp c)] at hf; exact hf)) (fun c => kf (fun q => c ((I32_eq hst.i in32_0).mpr q)) H locs ls hP hS hl hV hlv hst.t (by rw [if_neg (fun q => c ((I32_eq hst.i in32_0).mpr q))] at hf; exact hf))
theorem m_lcmp_eq (hX : MX Z cc nL ret d rk) {a b : Int} {off : Int} {A B : Option (Int × VV)} (tgt : Nat) (hd0 : decode cc pc = .ok (.lcmp, 1)) (hd : decode cc (pc + 1) = .ok (.ifCond .eq off, 3)) (ht : ((pc + 1 : Nat) : Int) + off = (tgt : Int)) (kt : a = b → MG Z tgt lv st V A) (kf : ¬ a = b → MG Z (pc + 1 + 3) lv st V B) : MG Z pc lv ((1, b) :: (1, a) :: st) V (if a = b then A else B) := fun H locs ls hP hS hl hV hlv hst hf =>
  W.lcmp hX.hx hX.hb hd0 (lv_if_eq hX.hx hX.hb hd ht (fun c0 => have c := (lg_cmp_eq (I64 a) (I64 b)).mp c0; (kt ((I64_eq hst.t.l hst.l).mp c) H locs ls hP hS hl hV hlv hst.t.t (by rw [if_pos ((I64_eq hst.t.l hst.l).mp c)] at hf; exact hf))) (fun c0 => have c := (fun q => c0 ((lg_cmp_eq (I64 a) (I64 b)).mpr q)); (kf (fun q => c ((I64_eq hst.t.l hst.l).mpr q)) H locs ls hP hS hl hV hlv hst.t.t (by rw [if_neg (fun q => c ((I64_eq hst.t.l hst.l).mpr q))] at hf; exact hf))))
theorem m_icmp_ne (hX : MX Z cc nL ret d rk) {a b : Int} {off : Int} {A B : Option (Int × VV)} (tgt : Nat) (hd : decode cc pc = .ok (.if_icmp .ne off, 3)) (ht : (pc : Int) + off = (tgt : Int)) (kt : ¬ a = b → MG Z tgt lv st V A) (kf : a = b → MG Z (pc + 3) lv st V B) : MG Z pc lv ((0, b) :: (0, a) :: st) V (if a = b then B else A) := fun H locs ls hP hS hl hV hlv hst hf =>
  lv_icmp_ne hX.hx hX.hb hd ht (fun c => kt (fun q => c ((I32_eq hst.t.i hst.i).mpr q)) H locs ls hP hS hl hV hlv hst.t.t (by rw [if_neg (fun q => c ((I32_eq hst.t.i hst.i).mpr q))] at hf; exact hf)) (fun c => kf ((I32_eq hst.t.i hst.i).mp c) H locs ls hP hS hl hV hlv hst.t.t (by rw [if_pos ((I32_eq hst.t.i hst.i).mp c)] at hf; exact hf))
theorem m_if_ne (hX : MX Z cc nL ret d rk) {a : Int} {off : Int} {A B : Option (Int × VV)} (tgt : Nat) (hd : decode cc pc = .ok (.ifCond .ne off, 3)) (ht : (pc : Int) + off = (tgt : Int)) (kt : ¬ a = 0 → MG Z tgt lv st V A) (kf : a = 0 → MG Z (pc + 3) lv st V B) : MG Z pc lv ((0, a) :: st) V (if a = 0 then B else A) := fun H locs ls hP hS hl hV hlv hst hf =>
  lv_if_ne hX.hx hX.hb hd ht (fun c => kt (fun q => c ((I32_eq hst.i in32_0).mpr q)) H locs ls hP hS hl hV hlv hst.t (by rw [if_neg (fun q => c ((I32_eq hst.i in32_0).mpr q))] at hf; exact hf)) (fun c => kf ((I32_eq hst.i in32_0).mp c) H locs ls hP hS hl hV hlv hst.t (by rw [if_pos ((I32_eq hst.i in32_0).mp c)] at hf; exact hf))
theorem m_lcmp_ne (hX : MX Z cc nL ret d rk) {a b : Int} {off : Int} {A B : Option (Int × VV)} (tgt : Nat) (hd0 : decode cc pc = .ok (.lcmp, 1)) (hd : decode cc (pc + 1) = .ok (.ifCond .ne off, 3)) (ht : ((pc + 1 : Nat) : Int) + off = (tgt : Int)) (kt : ¬ a = b → MG Z tgt lv st V A) (kf : a = b → MG Z (pc + 1 + 3) lv st V B) : MG Z pc lv ((1, b) :: (1, a) :: st) V (if a = b then B else A) := fun H locs ls hP hS hl hV hlv hst hf =>
  W.lcmp hX.hx hX.hb hd0 (lv_if_ne hX.hx hX.hb hd ht (fun c0 => have c := (fun q => c0 ((lg_cmp_eq (I64 a) (I64 b)).mpr q)); (kt (fun q => c ((I64_eq hst.t.l hst.l).mpr q)) H locs ls hP hS hl hV hlv hst.t.t (by rw [if_neg (fun q => c ((I64_eq hst.t.l hst.l).mpr q))] at hf; exact hf))) (fun c0 => have c := (lg_cmp_eq (I64 a) (I64 b)).mp c0; (kf ((I64_eq hst.t.l hst.l).mp c) H locs ls hP hS hl hV hlv hst.t.t (by rw [if_pos ((I64_eq hst.t.l hst.l).mp c)] at hf; exact hf))))
theorem m_icmp_lt (hX : MX Z cc nL ret d rk) {a b : Int} {off : Int} {A B : Option (Int × VV)} (tgt : Nat) (hd : decode cc pc = .ok (.if_icmp .lt off, 3)) (ht : (pc : Int) + off = (tgt : Int)) (kt : a < b → MG Z tgt lv st V A) (kf : ¬ a < b → MG Z (pc + 3) lv st V B) : MG Z pc lv ((0, b) :: (0, a) :: st) V (if a < b then A else B) := fun H locs ls hP hS hl hV hlv hst hf =>
  lv_icmp_lt hX.hx hX.hb hd ht (fun c => kt ((I32_lt hst.t.i hst.i).mp c) H locs ls hP hS hl hV hlv hst.t.t (by rw [if_pos ((I32_lt hst.t.i hst.i).mp c)] at hf; exact hf)) (fun c => kf (fun q => c ((I32_lt hst.t.i hst.i).mpr q)) H locs ls hP hS hl hV hlv hst.t.t (by rw [if_neg (fun q => c ((I32_lt hst.t.i hst.i).mpr q))] at hf; exact hf))
theorem m_if_lt (hX : MX Z cc nL ret d rk) {a : Int} {off : Int} {A B : Option (Int × VV)} (tgt : Nat) (hd : decode cc pc = .ok (.ifCond .lt off, 3)) (ht : (pc : Int) + off = (tgt : Int)) (kt : a < 0 → MG Z tgt lv st V A) (kf : ¬ a < 0 → MG Z (pc + 3) lv st V B) : MG Z pc lv ((0, a) :: st) V (if a < 0 then A else B) := fun H locs ls hP hS hl hV hlv hst hf =>
  lv_if_lt hX.hx hX.hb hd ht (fun c => kt ((I32_lt hst.i in32_0).mp c) H locs ls hP hS hl hV hlv hst.t (by rw [if_pos ((I32_lt hst.i in32_0).mp c)] at hf; exact hf)) (fun c => kf (fun q => c ((I32_lt hst.i in32_0).mpr q)) H locs ls hP hS hl hV hlv hst.t (by rw [if_neg (fun q => c ((I32_lt hst.i in32_0).mpr q))] at hf; exact hf))
theorem m_lcmp_lt (hX : MX Z cc nL ret d rk) {a b : Int} {off : Int} {A B : Option (Int × VV)} (tgt : Nat) (hd0 : decode cc pc = .ok (.lcmp, 1)) (hd : decode cc (pc + 1) = .ok (.ifCond .lt off, 3)) (ht : ((pc + 1 : Nat) : Int) + off = (tgt : Int)) (kt : a < b → MG Z tgt lv st V A) (kf : ¬ a < b → MG Z (pc + 1 + 3) lv st V B) : MG Z pc lv ((1, b) :: (1, a) :: st) V (if a < b then A else B) := fun H locs ls hP hS hl hV hlv hst hf =>
  W.lcmp hX.hx hX.hb hd0 (lv_if_lt hX.hx hX.hb hd ht (fun c0 => have c := (lg_cmp_lt (I64 a) (I64 b)).mp c0; (kt ((I64_lt hst.t.l hst.l).mp c) H locs ls hP hS hl hV hlv hst.t.t (by rw [if_pos ((I64_lt hst.t.l hst.l).mp c)] at hf; exact hf))) (fun c0 => have c := (fun q => c0 ((lg_cmp_lt (I64 a) (I64 b)).mpr q)); (kf (fun q => c ((I64_lt hst.t.l hst.l).mpr q)) H locs ls hP hS hl hV hlv hst.t.t (by rw [if_neg (fun q => c ((I64_lt hst.t.l hst.l).mpr q))] at hf; exact hf))))
theorem m_icmp_ge (hX : MX Z cc nL ret d rk) {a b : Int} {off : Int} {A B : Option (Int × VV)} (tgt : Nat) (hd : decode cc pc = .ok (.if_icmp .ge off, 3)) (ht : (pc : Int) + off = (tgt : Int)) (kt : b ≤ a → MG Z tgt lv st V A) (kf : ¬ b ≤ a → MG Z (pc + 3) lv st V B) : MG Z pc lv ((0, b) :: (0, a) :: st) V (if b ≤ a then A else B) := fun H locs ls hP hS hl hV hlv hst hf =>
  lv_icmp_ge hX.hx hX.hb hd ht (fun c => kt ((I32_le hst.i hst.t.i).mp c) H locs ls hP hS hl hV hlv hst.t.t (by rw [if_pos ((I32_le hst.i hst.t.i).mp c)] at hf; exact hf)) (fun c => kf (fun q => c ((I32_le hst.i hst.t.i).mpr q)) H locs ls hP hS hl hV hlv hst.t.t (by rw [if_neg (fun q => c ((I32_le hst.i hst.t.i).mpr q))] at hf; exact hf))
theorem m_if_ge (hX : MX Z cc nL ret d rk) {a : Int} {off : Int} {A B : Option (Int × VV)} (tgt : Nat) (hd : decode cc pc = .ok (.ifCond .ge off, 3)) (ht : (pc : Int) + off = (tgt : Int)) (kt : 0 ≤ a → MG Z tgt lv st V A) (kf : ¬ 0 ≤ a → MG Z (pc + 3) lv st V B) : MG Z pc lv ((0, a) :: st) V (if 0 ≤ a then A else B) := fun H locs ls hP hS hl hV hlv hst hf =>
  lv_if_ge hX.hx hX.hb hd ht (fun c => kt ((I32_le in32_0 hst.i).mp c) H locs ls hP hS hl hV hlv hst.t (by rw [if_pos ((I32_le in32_0 hst.i).mp c)] at hf; exact hf)) (fun c => kf (fun q => c ((I32_le in32_0 hst.i).mpr q)) H locs ls hP hS hl hV hlv hst.t (by rw [if_neg (fun q => c ((I32_le in32_0 hst.i).mpr q))] at hf; exact hf))
theorem m_lcmp_ge (hX : MX Z cc nL ret d rk) {a b : Int} {off : Int} {A B : Option (Int × VV)} (tgt : Nat) (hd0 : decode cc pc = .ok (.lcmp, 1)) (hd : decode cc (pc + 1) = .ok (.ifCond .ge off, 3)) (ht : ((pc + 1 : Nat) : Int) + off = (tgt : Int)) (kt : b ≤ a → MG Z tgt lv st V A) (kf : ¬ b ≤ a → MG Z (pc + 1 + 3) lv st V B) : MG Z pc lv ((1, b) :: (1, a) :: st) V (if b ≤ a then A else B) := fun H locs ls hP hS hl hV hlv hst hf =>
  W.lcmp hX.hx hX.hb hd0 (lv_if_ge hX.hx hX.hb hd ht (fun c0 => have c := (lg_cmp_ge (I64 a) (I64 b)).mp c0; (kt ((I64_le hst.l hst.t.l).mp c) H locs ls hP hS hl hV hlv hst.t.t (by rw [if_pos ((I64_le hst.l hst.t.l).mp c)] at hf; exact hf))) (fun c0 => have c := (fun q => c0 ((lg_cmp_ge (I64 a) (I64 b)).mpr q)); (kf (fun q => c ((I64_le hst.l hst.t.l).mpr q)) H locs ls hP hS hl hV hlv hst.t.t (by rw [if_neg (fun q => c ((I64_le hst.l hst.t.l).mpr q))] at hf; exact hf))))
theorem m_icmp_le (hX : MX Z cc nL ret d rk) {a b : Int} {off : Int} {A B : Option (Int × VV)} (tgt : Nat) (hd : decode cc pc = .ok (.if_icmp .le off, 3)) (ht : (pc : Int) + off = (tgt : Int)) (kt : a ≤ b → MG Z tgt lv st V A) (kf : ¬ a ≤ b → MG Z (pc + 3) lv st V B) : MG Z pc lv ((0, b) :: (0, a) :: st) V (if a ≤ b then A else B) := fun H locs ls hP hS hl hV hlv hst hf =>
  lv_icmp_le hX.hx hX.hb hd ht (fun c => kt ((I32_le hst.t.i hst.i).mp c) H locs ls hP hS hl hV hlv hst.t.t (by rw [if_pos ((I32_le hst.t.i hst.i).mp c)] at hf; exact hf)) (fun c => kf (fun q => c ((I32_le hst.t.i hst.i).mpr q)) H locs ls hP hS hl hV hlv hst.t.t (by rw [if_neg (fun q => c ((I32_le hst.t.i hst.i).mpr q))] at hf; exact hf))
theorem m_if_le (hX : MX Z cc nL ret d rk) {a : Int} {off : Int} {A B : Option (Int × VV)} (tgt : Nat) (hd : decode cc pc = .ok (.ifCond .le off, 3)) (ht : (pc : Int) + off = (tgt : Int)) (kt : a ≤ 0 → MG Z tgt lv st V A) (kf : ¬ a ≤ 0 → MG Z (pc + 3) lv st V B) : MG Z pc lv ((0, a) :: st) V (if a ≤ 0 then A else B) := fun H locs ls hP hS hl hV hlv hst hf =>
  lv_if_le hX.hx hX.hb hd ht (fun c => kt ((I32_le hst.i in32_0).mp c) H locs ls hP hS hl hV hlv hst.t (by rw [if_pos ((I32_le hst.i in32_0).mp c)] at hf; exact hf)) (fun c => kf (fun q => c ((I32_le hst.i in32_0).mpr q)) H locs ls hP hS hl hV hlv hst.t (by rw [if_neg (fun q => c ((I32_le hst.i in32_0).mpr q))] at hf; exact hf))
theorem m_lcmp_le (hX : MX Z cc nL ret d rk) {a b : Int} {off : Int} {A B : Option (Int × VV)} (tgt : Nat) (hd0 : decode cc pc = .ok (.lcmp, 1)) (hd : decode cc (pc + 1) = .ok (.ifCond .le off, 3)) (ht : ((pc + 1 : Nat) : Int) + off = (tgt : Int)) (kt : a ≤ b → MG Z tgt lv st V A) (kf : ¬ a ≤ b → MG Z (pc + 1 + 3) lv st V B) : MG Z pc lv ((1, b) :: (1, a) :: st) V (if a ≤ b then A else B) := fun H locs ls hP hS hl hV hlv hst hf =>
  W.lcmp hX.hx hX.hb hd0 (lv_if_le hX.hx hX.hb hd ht (fun c0 => have c := (lg_cmp_le (I64 a) (I64 b)).mp c0; (kt ((I64_le hst.t.l hst.l).mp c) H locs ls hP hS hl hV hlv hst.t.t (by rw [if_pos ((I64_le hst.t.l hst.l).mp c)] at hf; exact hf))) (fun c0 => have c := (fun q => c0 ((lg_cmp_le (I64 a) (I64 b)).mpr q)); (kf (fun q => c ((I64_le hst.t.l hst.l).mpr q)) H locs ls hP hS hl hV hlv hst.t.t (by rw [if_neg (fun q => c ((I64_le hst.t.l hst.l).mpr q))] at hf; exact hf))))
theorem m_icmp_gt (hX : MX Z cc nL ret d rk) {a b : Int} {off : Int} {A B : Option (Int × VV)} (tgt : Nat) (hd : decode cc pc = .ok (.if_icmp .gt off, 3)) (ht : (pc : Int) + off = (tgt : Int)) (kt : b < a → MG Z tgt lv st V A) (kf : ¬ b < a → MG Z (pc + 3) lv st V B) : MG Z pc lv ((0, b) :: (0, a) :: st) V (if b < a then A else B) := fun H locs ls hP hS hl hV hlv hst hf =>
  lv_icmp_gt hX.hx hX.hb hd ht (fun c => kt ((I32_lt hst.i hst.t.i).mp c) H locs ls hP hS hl hV hlv hst.t.t (by rw [if_pos ((I32_lt hst.i hst.t.i).mp c)] at hf; exact hf)) (fun c => kf (fun q => c ((I32_lt hst.i hst.t.i).mpr q)) H locs ls hP hS hl hV hlv hst.t.t (by rw [if_neg (fun q => c ((I32_lt hst.i hst.t.i).mpr q))] at hf; exact hf))
theorem m_if_gt (hX : MX Z cc nL ret d rk) {a : Int} {off : Int} {A B : Option (Int × VV)} (tgt : Nat) (hd : decode cc pc = .ok (.ifCond .gt off, 3)) (ht : (pc : Int) + off = (tgt : Int)) (kt : 0 < a → MG Z tgt lv st V A) (kf : ¬ 0 < a → MG Z (pc + 3) lv st V B) : MG Z pc lv ((0, a) :: st) V (if 0 < a then A else B) := fun H locs ls hP hS hl hV hlv hst hf =>
  lv_if_gt hX.hx hX.hb hd ht (fun c => kt ((I32_lt in32_0 hst.i).mp c) H locs ls hP hS hl hV hlv hst.t (by rw [if_pos ((I32_lt in32_0 hst.i).mp c)] at hf; exact hf)) (fun c => kf (fun q => c ((I32_lt in32_0 hst.i).mpr q)) H locs ls hP hS hl hV hlv hst.t (by rw [if_neg (fun q => c ((I32_lt in32_0 hst.i).mpr q))] at hf; exact hf))
theorem m_lcmp_gt (hX : MX Z cc nL ret d rk) {a b : Int} {off : Int} {A B : Option (Int × VV)} (tgt : Nat) (hd0 : decode cc pc = .ok (.lcmp, 1)) (hd : decode cc (pc + 1) = .ok (.ifCond .gt off, 3)) (ht : ((pc + 1 : Nat) : Int) + off = (tgt : Int)) (kt : b < a → MG Z tgt lv st V A) (kf : ¬ b < a → MG Z (pc + 1 + 3) lv st V B) : MG Z pc lv ((1, b) :: (1, a) :: st) V (if b < a then A else B) := fun H locs ls hP hS hl hV hlv hst hf =>
  W.lcmp hX.hx hX.hb hd0 (lv_if_gt hX.hx hX.hb hd ht (fun c0 => have c := (lg_cmp_gt (I64 a) (I64 b)).mp c0; (kt ((I64_lt hst.l hst.t.l).mp c) H locs ls hP hS hl hV hlv hst.t.t (by rw [if_pos ((I64_lt hst.l hst.t.l).mp c)] at hf; exact hf))) (fun c0 => have c := (fun q => c0 ((lg_cmp_gt (I64 a) (I64 b)).mpr q)); (kf (fun q => c ((I64_lt hst.l hst.t.l).mpr q)) H locs ls hP hS hl hV hlv hst.t.t (by rw [if_neg (fun q => c ((I64_lt hst.l hst.t.l).mpr q))] at hf; exact hf))))
theorem m_icmp_eqF (hX : MX Z cc nL ret d rk) {a b : Int} {off : Int} {α : Type} {u w : α} {F : α → Option (Int × VV)} (tgt : Nat) (hd : decode cc pc = .ok (.if_icmp .eq off, 3)) (ht : (pc : Int) + off = (tgt : Int)) (kt : a = b → MG Z tgt lv st V (nm u F)) (kf : ¬ a = b → MG Z (pc + 3) lv st V (nm w F)) : MG Z pc lv ((0, b) :: (0, a) :: st) V (nm (if a = b then u else w) F) := by
  have h := m_icmp_eq (lv := lv) (st := st) (V := V) (a := a) (b := b) hX tgt hd ht kt kf
  have e : (if a = b then nm u F else nm w F) = nm (if a = b then u else w) F := by split <;> rfl
  rw [← e]; exact h
theorem m_if_eqF (hX : MX Z cc nL ret d rk) {a : Int} {off : Int} {α : Type} {u w : α} {F : α → Option (Int × VV)} (tgt : Nat) (hd : decode cc pc = .ok (.ifCond .eq off, 3)) (ht : (pc : Int) + off = (tgt : Int)) (kt : a = 0 → MG Z tgt lv st V (nm u F)) (kf : ¬ a = 0 → MG Z (pc + 3) lv st V (nm w F)) : MG Z pc lv ((0, a) :: st) V (nm (if a = 0 then u else w) F) := by
  have h := m_if_eq (lv := lv) (st := st) (V := V) (a := a) hX tgt hd ht kt kf
  have e : (if a = 0 then nm u F else nm w F) = nm (if a = 0 then u else w) F := by split <;> rfl
  rw [← e]; exact h
theorem m_lcmp_eqF (hX : MX Z cc nL ret d rk) {a b : Int} {off : Int} {α : Type} {u w : α} {F : α → Option (Int × VV)} (tgt : Nat) (hd0 : decode cc pc = .ok (.lcmp, 1)) (hd : decode cc (pc + 1) = .ok (.ifCond .eq off, 3)) (ht : ((pc + 1 : Nat) : Int) + off = (tgt : Int)) (kt : a = b → MG Z tgt lv st V (nm u F)) (kf : ¬ a = b → MG Z (pc + 1 + 3) lv st V (nm w F)) : MG Z pc lv ((1, b) :: (1, a) :: st) V (nm (if a = b then u else w) F) := by
  have h := m_lcmp_eq (lv := lv) (st := st) (V := V) (a := a) (b := b) hX tgt hd0 hd ht kt kf
  have e : (if a = b then nm u F else nm w F) = nm (if a = b then u else w) F := by split <;> rfl
  rw [← e]; exact h
theorem m_icmp_neF (hX : MX Z cc nL ret d rk) {a b : Int} {off : Int} {α : Type} {u w : α} {F : α → Option (Int × VV)} (tgt : Nat) (hd : decode cc pc = .ok (.if_icmp .ne off, 3)) (ht : (pc : Int) + off = (tgt : Int)) (kt : ¬ a = b → MG Z tgt lv st V (nm w F)) (kf : a = b → MG Z (pc + 3) lv st V (nm u F)) : MG Z pc lv ((0, b) :: (0, a) :: st) V (nm (if a = b then u else w) F) := by
  have h := m_icmp_ne (lv := lv) (st := st) (V := V) (a := a) (b := b) hX tgt hd ht kt kf
  have e : (if a = b then nm u F else nm w F) = nm (if a = b then u else w) F := by split <;> rfl
  rw [← e]; exact h
theorem m_if_neF (hX : MX Z cc nL ret d rk) {a : Int} {off : Int} {α : Type} {u w : α} {F : α → Option (Int × VV)} (tgt : Nat) (hd : decode cc pc = .ok (.ifCond .ne off, 3)) (ht : (pc : Int) + off = (tgt : Int)) (kt : ¬ a = 0 → MG Z tgt lv st V (nm w F)) (kf : a = 0 → MG Z (pc + 3) lv st V (nm u F)) : MG Z pc lv ((0, a) :: st) V (nm (if a = 0 then u else w) F) := by
  have h := m_if_ne (lv := lv) (st := st) (V := V) (a := a) hX tgt hd ht kt kf
  have e : (if a = 0 then nm u F else nm w F) = nm (if a = 0 then u else w) F := by split <;> rfl
  rw [← e]; exact h
theorem m_lcmp_neF (hX : MX Z cc nL ret d rk) {a b : Int} {off : Int} {α : Type} {u w : α} {F : α → Option (Int × VV)} (tgt : Nat) (hd0 : decode cc pc = .ok (.lcmp, 1)) (hd : decode cc (pc + 1) = .ok (.ifCond .ne off, 3)) (ht : ((pc + 1 : Nat) : Int) + off = (tgt : Int)) (kt : ¬ a = b → MG Z tgt lv st V (nm w F)) (kf : a = b → MG Z (pc + 1 + 3) lv st V (nm u F)) : MG Z pc lv ((1, b) :: (1, a) :: st) V (nm (if a = b then u else w) F) := by
  have h := m_lcmp_ne (lv := lv) (st := st) (V := V) (a := a) (b := b) hX tgt hd0 hd ht kt kf
  have e : (if a = b then nm u F else nm w F) = nm (if a = b then u else w) F := by split <;> rfl
  rw [← e]; exact h
theorem m_icmp_ltF (hX : MX Z cc nL ret d rk) {a b : Int} {off : Int} {α : Type} {u w : α} {F : α → Option (Int × VV)} (tgt : Nat) (hd : decode cc pc = .ok (.if_icmp .lt off, 3)) (ht : (pc : Int) + off = (tgt : Int)) (kt : a < b → MG Z tgt lv st V (nm u F)) (kf : ¬ a < b → MG Z (pc + 3) lv st V (nm w F)) : MG Z pc lv ((0, b) :: (0, a) :: st) V (nm (if a < b then u else w) F) := by
  have h := m_icmp_lt (lv := lv) (st := st) (V := V) (a := a) (b := b) hX tgt hd ht kt kf
  have e : (if a < b then nm u F else nm w F) = nm (if a < b then u else w) F := by split <;> rfl
  rw [← e]; exact h
theorem m_if_ltF (hX : MX Z cc nL ret d rk) {a : Int} {off : Int} {α : Type} {u w : α} {F : α → Option (Int × VV)} (tgt : Nat) (hd : decode cc pc = .ok (.ifCond .lt off, 3)) (ht : (pc : Int) + off = (tgt : Int)) (kt : a < 0 → MG Z tgt lv st V (nm u F)) (kf : ¬ a < 0 → MG Z (pc + 3) lv st V (nm w F)) : MG Z pc lv ((0, a) :: st) V (nm (if a < 0 then u else w) F) := by
  have h := m_if_lt (lv := lv) (st := st) (V := V) (a := a) hX tgt hd ht kt kf
  have e : (if a < 0 then nm u F else nm w F) = nm (if a < 0 then u else w) F := by split <;> rfl
  rw [← e]; exact h
theorem m_lcmp_ltF (hX : MX Z cc nL ret d rk) {a b : Int} {off : Int} {α : Type} {u w : α} {F : α → Option (Int × VV)} (tgt : Nat) (hd0 : decode cc pc = .ok (.lcmp, 1)) (hd : decode cc (pc + 1) = .ok (.ifCond .lt off, 3)) (ht : ((pc + 1 : Nat) : Int) + off = (tgt : Int)) (kt : a < b → MG Z tgt lv st V (nm u F)) (kf : ¬ a < b → MG Z (pc + 1 + 3) lv st V (nm w F)) : MG Z pc lv ((1, b) :: (1, a) :: st) V (nm (if a < b then u else w) F) := by
  have h := m_lcmp_lt (lv := lv) (st := st) (V := V) (a := a) (b := b) hX tgt hd0 hd ht kt kf
  have e : (if a < b then nm u F else nm w F) = nm (if a < b then u else w) F := by split <;> rfl
  rw [← e]; exact h
theorem m_icmp_geF (hX : MX Z cc nL ret d rk) {a b : Int} {off : Int} {α : Type} {u w : α} {F : α → Option (Int × VV)} (tgt : Nat) (hd : decode cc pc = .ok (.if_icmp .ge off, 3)) (ht : (pc : Int) + off = (tgt : Int)) (kt : b ≤ a → MG Z tgt lv st V (nm u F)) (kf : ¬ b ≤ a → MG Z (pc + 3) lv st V (nm w F)) : MG Z pc lv ((0, b) :: (0, a) :: st) V (nm (if b ≤ a then u else w) F) := by
  have h := m_icmp_ge (lv := lv) (st := st) (V := V) (a := a) (b := b) hX tgt hd ht kt kf
  have e : (if b ≤ a then nm u F else nm w F) = nm (if b ≤ a then u else w) F := by split <;> rfl
  rw [← e]; exact h
theorem m_if_geF (hX : MX Z cc nL ret d rk) {a : Int} {off : Int} {α : Type} {u w : α} {F : α → Option (Int × VV)} (tgt : Nat) (hd : decode cc pc = .ok (.ifCond .ge off, 3)) (ht : (pc : Int) + off = (tgt : Int)) (kt : 0 ≤ a → MG Z tgt lv st V (nm u F)) (kf : ¬ 0 ≤ a → MG Z (pc + 3) lv st V (nm w F)) : MG Z pc lv ((0, a) :: st) V (nm (if 0 ≤ a then u else w) F) := by
  have h := m_if_ge (lv := lv) (st := st) (V := V) (a := a) hX tgt hd ht kt kf
  have e : (if 0 ≤ a then nm u F else nm w F) = nm (if 0 ≤ a then u else w) F := by split <;> rfl
  rw [← e]; exact h
theorem m_lcmp_geF (hX : MX Z cc nL ret d rk) {a b : Int} {off : Int} {α : Type} {u w : α} {F : α → Option (Int × VV)} (tgt : Nat) (hd0 : decode cc pc = .ok (.lcmp, 1)) (hd : decode cc (pc + 1) = .ok (.ifCond .ge off, 3)) (ht : ((pc + 1 : Nat) : Int) + off = (tgt : Int)) (kt : b ≤ a → MG Z tgt lv st V (nm u F)) (kf : ¬ b ≤ a → MG Z (pc + 1 + 3) lv st V (nm w F)) : MG Z pc lv ((1, b) :: (1, a) :: st) V (nm (if b ≤ a then u else w) F) := by
  have h := m_lcmp_ge (lv := lv) (st := st) (V := V) (a := a) (b := b) hX tgt hd0 hd ht kt kf
  have e : (if b ≤ a then nm u F else nm w F) = nm (if b ≤ a then u else w) F := by split <;> rfl
  rw [← e]; exact h
theorem m_icmp_leF (hX : MX Z cc nL ret d rk) {a b : Int} {off : Int} {α : Type} {u w : α} {F : α → Option (Int × VV)} (tgt : Nat) (hd : decode cc pc = .ok (.if_icmp .le off, 3)) (ht : (pc : Int) + off = (tgt : Int)) (kt : a ≤ b → MG Z tgt lv st V (nm u F)) (kf : ¬ a ≤ b → MG Z (pc + 3) lv st V (nm w F)) : MG Z pc lv ((0, b) :: (0, a) :: st) V (nm (if a ≤ b then u else w) F) := by
  have h := m_icmp_le (lv := lv) (st := st) (V := V) (a := a) (b := b) hX tgt hd ht kt kf
  have e : (if a ≤ b then nm u F else nm w F) = nm (if a ≤ b then u else w) F := by split <;> rfl
  rw [← e]; exact h
theorem m_if_leF (hX : MX Z cc nL ret d rk) {a : Int} {off : Int} {α : Type} {u w : α} {F : α → Option (Int × VV)} (tgt : Nat) (hd : decode cc pc = .ok (.ifCond .le off, 3)) (ht : (pc : Int) + off = (tgt : Int)) (kt : a ≤ 0 → MG Z tgt lv st V (nm u F)) (kf : ¬ a ≤ 0 → MG Z (pc + 3) lv st V (nm w F)) : MG Z pc lv ((0, a) :: st) V (nm (if a ≤ 0 then u else w) F) := by
  have h := m_if_le (lv := lv) (st := st) (V := V) (a := a) hX tgt hd ht kt kf
  have e : (if a ≤ 0 then nm u F else nm w F) = nm (if a ≤ 0 then u else w) F := by split <;> rfl
  rw [← e]; exact h
theorem m_lcmp_leF (hX : MX Z cc nL ret d rk) {a b : Int} {off : Int} {α : Type} {u w : α} {F : α → Option (Int × VV)} (tgt : Nat) (hd0 : decode cc pc = .ok (.lcmp, 1)) (hd : decode cc (pc + 1) = .ok (.ifCond .le off, 3)) (ht : ((pc + 1 : Nat) : Int) + off = (tgt : Int)) (kt : a ≤ b → MG Z tgt lv st V (nm u F)) (kf : ¬ a ≤ b → MG Z (pc + 1 + 3) lv st V (nm w F)) : MG Z pc lv ((1, b) :: (1, a) :: st) V (nm (if a ≤ b then u else w) F) := by
  have h := m_lcmp_le (lv := lv) (st := st) (V := V) (a := a) (b := b) hX tgt hd0 hd ht kt kf
  have e : (if a ≤ b then nm u F else nm w F) = nm (if a ≤ b then u else w) F := by split <;> rfl
  rw [← e]; exact h
theorem m_icmp_gtF (hX : MX Z cc nL ret d rk) {a b : Int} {off : Int} {α : Type} {u w : α} {F : α → Option (Int × VV)} (tgt : Nat) (hd : decode cc pc = .ok (.if_icmp .gt off, 3)) (ht : (pc : Int) + off = (tgt : Int)) (kt : b < a → MG Z tgt lv st V (nm u F)) (kf : ¬ b < a → MG Z (pc + 3) lv st V (nm w F)) : MG Z pc lv ((0, b) :: (0, a) :: st) V (nm (if b < a then u else w) F) := by
  have h := m_icmp_gt (lv := lv) (st := st) (V := V) (a := a) (b := b) hX tgt hd ht kt kf
  have e : (if b < a then nm u F else nm w F) = nm (if b < a then u else w) F := by split <;> rfl
  rw [← e]; exact h
theorem m_if_gtF (hX : MX Z cc nL ret d rk) {a : Int} {off : Int} {α : Type} {u w : α} {F : α → Option (Int × VV)} (tgt : Nat) (hd : decode cc pc = .ok (.ifCond .gt off, 3)) (ht : (pc : Int) + off = (tgt : Int)) (kt : 0 < a → MG Z tgt lv st V (nm u F)) (kf : ¬ 0 < a → MG Z (pc + 3) lv st V (nm w F)) : MG Z pc lv ((0, a) :: st) V (nm (if 0 < a then u else w) F) := by
  have h := m_if_gt (lv := lv) (st := st) (V := V) (a := a) hX tgt hd ht kt kf
  have e : (if 0 < a then nm u F else nm w F) = nm (if 0 < a then u else w) F := by split <;> rfl
  rw [← e]; exact h
theorem m_lcmp_gtF (hX : MX Z cc nL ret d rk) {a b : Int} {off : Int} {α : Type} {u w : α} {F : α → Option (Int × VV)} (tgt : Nat) (hd0 : decode cc pc = .ok (.lcmp, 1)) (hd : decode cc (pc + 1) = .ok (.ifCond .gt off, 3)) (ht : ((pc + 1 : Nat) : Int) + off = (tgt : Int)) (kt : b < a → MG Z tgt lv st V (nm u F)) (kf : ¬ b < a → MG Z (pc + 1 + 3) lv st V (nm w F)) : MG Z pc lv ((1, b) :: (1, a) :: st) V (nm (if b < a then u else w) F) := by
  have h := m_lcmp_gt (lv := lv) (st := st) (V := V) (a := a) (b := b) hX tgt hd0 hd ht kt kf
  have e : (if b < a then nm u F else nm w F) = nm (if b < a then u else w) F := by split <;> rfl
  rw [← e]; exact h
theorem m_tswC (hX : MX Z cc nL ret d rk) {x c dflt lo hi off : Int} {offs : Array Int} {len : Nat} {A B : Option (Int × VV)} (tgt : Nat) (hd : decode cc pc = .ok (.tableswitch dflt lo hi offs, len)) (hc : in32 c) (h1 : ¬ c < lo) (h2 : ¬ hi < c) (ho : offs[(c - lo).toNat]? = some off) (ht : (pc : Int) + off = (tgt : Int)) (kt : x = c → MG Z tgt lv st V A) (kf : x ≠ c → MG Z pc lv ((0, x) :: st) V B) : MG Z pc lv ((0, x) :: st) V (if x = c then A else B) := fun H locs ls hP hS hl hV hlv hst hf => by
  by_cases e : x = c
  · rw [if_pos e] at hf
    subst e
    exact lv_tableIn hX.hx hX.hb hd (by rw [toI32 hst.i]; exact h1) (by rw [toI32 hst.i]; exact h2) (by rw [toI32 hst.i]; exact ho) ht (kt rfl H locs ls hP hS hl hV hlv hst.t hf)
  · rw [if_neg e] at hf
    exact kf e H locs ls hP hS hl hV hlv hst hf
theorem m_tswO (hX : MX Z cc nL ret d rk) {x dflt lo hi : Int} {offs : Array Int} {len : Nat} (tgt : Nat) (hd : decode cc pc = .ok (.tableswitch dflt lo hi offs, len)) (ho : x < lo ∨ hi < x) (ht : (pc : Int) + dflt = (tgt : Int)) (kk : MG Z tgt lv st V res) : MG Z pc lv ((0, x) :: st) V res := fun H locs ls hP hS hl hV hlv hst hf =>
  lv_tableOut hX.hx hX.hb hd (by rw [toI32 hst.i]; exact ho) ht (kk H locs ls hP hS hl hV hlv hst.t hf)
/-- fields -/
theorem mFs_at (aM : Nat → Nat) (V : VV) {k : Nat} (h : k < 70) : (mFs aM V)[k]? = some (mFld aM V k) := map_at _ (List.getElem?_range h)
theorem m_geti (hX : MX Z cc nL ret d rk) {ix : Nat} {t : Int} (k : Nat) (hkd : mKind k = 0 ∨ mKind k = 2) (hk : k < 70) (hT : (TX4 k).1 = RX4) (hq : Cond.fieldLink RX4 ix RX4 (TX4 k).2.1 (TX4 k).2.2.1 ∈ lw_all) (hd : decode cc pc = .ok (.getfield ix, 3)) (kk : MG Z (pc + 3) lv ((0, V k 0) :: st) V res) : MG Z pc lv ((3, t) :: st) V res := fun H locs ls hP hS hl hV hlv hst hf =>
  va_get hX.hx hX.hb hX.hts in_X4 hX.hown hX.hK hP 0 rfl rfl k hk (hX.hts _ hq) (fun x h => by rw [hT] at h; exact h) (v := .int (I32 (V k 0))) (by rw [mFs_at _ _ hk]; unfold mFld; rw [if_neg (by omega), if_pos (by omega)]) hd (kk H locs ls hP hS hl hV hlv (hst.t.c (okA.i (hV.i32 (by omega) (by omega) 0))) hf)
theorem m_getl (hX : MX Z cc nL ret d rk) {ix : Nat} {t : Int} (k : Nat) (hkd : mKind k = 1) (hk : k < 70) (hT : (TX4 k).1 = RX4) (hq : Cond.fieldLink RX4 ix RX4 (TX4 k).2.1 (TX4 k).2.2.1 ∈ lw_all) (hd : decode cc pc = .ok (.getfield ix, 3)) (kk : MG Z (pc + 3) lv ((1, V k 0) :: st) V res) : MG Z pc lv ((3, t) :: st) V res := fun H locs ls hP hS hl hV hlv hst hf =>
  va_get hX.hx hX.hb hX.hts in_X4 hX.hown hX.hK hP 0 rfl rfl k hk (hX.hts _ hq) (fun x h => by rw [hT] at h; exact h) (v := .long (I64 (V k 0))) (by rw [mFs_at _ _ hk]; unfold mFld; rw [if_pos hkd]) hd (kk H locs ls hP hS hl hV hlv (hst.t.c (okA.l (hV.i64 (Or.inl hkd) 0))) hf)
theorem m_geta (hX : MX Z cc nL ret d rk) {ix : Nat} {t : Int} (k : Nat) (hkd : 3 ≤ mKind k) (hk : k < 70) (hT : (TX4 k).1 = RX4) (hq : Cond.fieldLink RX4 ix RX4 (TX4 k).2.1 (TX4 k).2.2.1 ∈ lw_all) (hd : decode cc pc = .ok (.getfield ix, 3)) (kk : MG Z (pc + 3) lv ((2, (k : Int)) :: st) V res) : MG Z pc lv ((3, t) :: st) V res := fun H locs ls hP hS hl hV hlv hst hf =>
  va_get hX.hx hX.hb hX.hts in_X4 hX.hown hX.hK hP 0 rfl rfl k hk (hX.hts _ hq) (fun x h => by rw [hT] at h; exact h) (v := .ref (zAM Z k)) (by rw [mFs_at _ _ hk]; unfold mFld; rw [if_neg (by omega), if_neg (by omega)]) hd (kk H locs ls hP hS hl hV hlv (hst.t.c (okA.r _)) hf)
theorem vpn_int (x : Int32) : narrow .int (.int x) = .int x := rfl
theorem m_puti (hX : MX Z cc nL ret d rk) {ix : Nat} {t x : Int} {f : VV → Option (Int × VV)} (k : Nat) (hkd : mKind k = 0) (hk : k < 70) (hT : (TX4 k).1 = RX4) (hfin : (TX4 k).2.2.2 = false) (hty : parseFieldDescriptor (TX4 k).2.2.1 = some .int) (hq : Cond.fieldLink RX4 ix RX4 (TX4 k).2.1 (TX4 k).2.2.1 ∈ lw_all) (hd : decode cc pc = .ok (.putfield ix, 3)) (kk : ∀ V1, MG Z (pc + 3) lv st V1 (f V1)) : MG Z pc lv ((0, x) :: (3, t) :: st) V (nm (vup V k 0 x) f) := fun H locs ls hP hS hl hV hlv hst hf =>
  va_put hX.hx hX.hb hX.hts in_X4 tyX4 tyX4_ok nmX4 hX.hown hX.hK hP (mW_D hX.hD V) hS 0 rfl rfl k hk (hX.hts _ hq) (fun x h => by rw [hT] at h; exact h) hfin hty rfl rfl (by simp [mFs]; omega) hd (fun H1 locs1 hP1 hD1 hS1 =>
    kk (vup V k 0 x) H1 locs1 ls (by rw [← mW_fld (by omega) hk]; unfold mFld; rw [if_neg (by omega), if_pos (by omega), vup_eq]; exact hP1) hS1 hl (hV.up (by rw [hkd]; exact hst.i)) hlv hst.t.t hf)
theorem m_putz (hX : MX Z cc nL ret d rk) {ix : Nat} {t x : Int} {f : VV → Option (Int × VV)} (k : Nat) (hkd : mKind k = 2) (hk : k < 70) (hT : (TX4 k).1 = RX4) (hfin : (TX4 k).2.2.2 = false) (hty : parseFieldDescriptor (TX4 k).2.2.1 = some .boolean) (hq : Cond.fieldLink RX4 ix RX4 (TX4 k).2.1 (TX4 k).2.2.1 ∈ lw_all) (hd : decode cc pc = .ok (.putfield ix, 3)) (kk : ∀ V1, MG Z (pc + 3) lv st V1 (f V1)) : MG Z pc lv ((0, x) :: (3, t) :: st) V (cb x (nm (vup V k 0 x) f)) := fun H locs ls hP hS hl hV hlv hst hf0 => by
  obtain ⟨hx, hf⟩ := cb_some hf0
  exact va_put hX.hx hX.hb hX.hts in_X4 tyX4 tyX4_ok nmX4 hX.hown hX.hK hP (mW_D hX.hD V) hS 0 rfl rfl k hk (hX.hts _ hq) (fun x h => by rw [hT] at h; exact h) hfin hty (by rcases hx with rfl | rfl <;> rfl) (by rcases hx with rfl | rfl <;> rfl) (by simp [mFs]; omega) hd (fun H1 locs1 hP1 hD1 hS1 =>
    kk (vup V k 0 x) H1 locs1 ls (by rw [← mW_fld (by omega) hk]; unfold mFld; rw [if_neg (by omega), if_pos (by omega), vup_eq]; exact hP1) hS1 hl (hV.up (by rw [hkd]; exact hx)) hlv hst.t.t hf)
theorem m_putl (hX : MX Z cc nL ret d rk) {ix : Nat} {t x : Int} {f : VV → Option (Int × VV)} (k : Nat) (hkd : mKind k = 1) (hk : k < 70) (hT : (TX4 k).1 = RX4) (hfin : (TX4 k).2.2.2 = false) (hty : parseFieldDescriptor (TX4 k).2.2.1 = some .long) (hq : Cond.fieldLink RX4 ix RX4 (TX4 k).2.1 (TX4 k).2.2.1 ∈ lw_all) (hd : decode cc pc = .ok (.putfield ix, 3)) (kk : ∀ V1, MG Z (pc + 3) lv st V1 (f V1)) : MG Z pc lv ((1, x) :: (3, t) :: st) V (nm (vup V k 0 x) f) := fun H locs ls hP hS hl hV hlv hst hf =>
  va_put hX.hx hX.hb hX.hts in_X4 tyX4 tyX4_ok nmX4 hX.hown hX.hK hP (mW_D hX.hD V) hS 0 rfl rfl k hk (hX.hts _ hq) (fun x h => by rw [hT] at h; exact h) hfin hty rfl rfl (by simp [mFs]; omega) hd (fun H1 locs1 hP1 hD1 hS1 =>
    kk (vup V k 0 x) H1 locs1 ls (by rw [← mW_fld (by omega) hk]; unfold mFld; rw [if_pos (by omega), vup_eq]; exact hP1) hS1 hl (hV.up (by rw [hkd]; exact hst.l)) hlv hst.t.t hf)
/-- arrays: q the place in mArrs -/
theorem mW_at {cT : Nat → ClassId} {aM : Nat → Nat} {a0 : Nat} {V : VV} {q k : Nat} (hq : mArrs[q]? = some k) : (mW cT aM a0 V)[q + 1]? = some (mCell cT aM V k) := map_at (mCell cT aM V) hq
theorem mCell_i {cT : Nat → ClassId} {aM : Nat → Nat} {V : VV} {k : Nat} (h : mKind k ≠ 4) : mCell cT aM V k = (aM k, .inl (cT (mKind k), mLen k, .inl fun j => I32 (V k j))) := by unfold mCell mArr; rw [if_neg h]
theorem mCell_l {cT : Nat → ClassId} {aM : Nat → Nat} {V : VV} {k : Nat} (h : mKind k = 4) : mCell cT aM V k = (aM k, .inl (cT 4, mLen k, .inr (.inl fun j => I64 (V k j)))) := by unfold mCell mArr; rw [if_pos h, h]
theorem mArr_lt {q k : Nat} (hq : mArrs[q]? = some k) : k < 70 := (by decide +kernel : ∀ k ∈ mArrs, k < 70) k (List.mem_of_getElem? hq)
theorem upd_I32 {V : VV} {k : Nat} {j x : Int} (h0 : 0 ≤ j) : upd (fun i : Nat => I32 (V k (i : Int))) j.toNat (I32 x) = fun i : Nat => I32 (vup V k j x k (i : Int)) := by
  funext i
  unfold upd vup
  by_cases e : i = j.toNat
  · rw [if_pos e, if_pos ⟨rfl, by omega⟩]
  · rw [if_neg e, if_neg (fun q => e (by omega))]
theorem upd_I64 {V : VV} {k : Nat} {j x : Int} (h0 : 0 ≤ j) : vp_updL (fun i : Nat => I64 (V k (i : Int))) j.toNat (I64 x) = fun i : Nat => I64 (vup V k j x k (i : Int)) := by
  funext i
  unfold vp_updL vup
  by_cases e : i = j.toNat
  · rw [if_pos e, if_pos ⟨rfl, by omega⟩]
  · rw [if_neg e, if_neg (fun q => e (by omega))]
theorem m_iald (hX : MX Z cc nL ret d rk) {j n : Int} {k' : Int} (k q : Nat) (hk' : k' = (k : Int)) (hq : mArrs[q]? = some k) (hkd : mKind k = 3) (hn : (mLen k : Int) = n) (hd : decode cc pc = .ok (.iaload, 1)) (kk : MG Z (pc + 1) lv ((0, V k j) :: st) V res) : MG Z pc lv ((0, j) :: (2, k') :: st) V (ck j n res) := fun H locs ls hP hS hl hV hlv hst hf0 => by
  obtain ⟨h0, h1, hf⟩ := ck_some hf0
  subst hk'; subst hn
  have e := I32_clamp hst.i h0
  refine va_iald (i := I32 j) (f := fun i : Nat => I32 (V k (i : Int))) (a := zAM Z k) hX.hx hX.hb hX.hK hP (q + 1) 0 (by rw [mW_at hq, mCell_i (by omega), hkd]) rfl (I32_vp hst.i h0 h1) hd ?_
  rw [e, Int.toNat_of_nonneg h0]
  exact kk H locs ls hP hS hl hV hlv (hst.t.t.c (okA.i (hV.i32 (by omega) (by omega) j))) hf
theorem m_bald (hX : MX Z cc nL ret d rk) {j n : Int} {k' : Int} (k q : Nat) (hk' : k' = (k : Int)) (hq : mArrs[q]? = some k) (hkd : mKind k = 5) (hn : (mLen k : Int) = n) (hd : decode cc pc = .ok (.baload, 1)) (kk : MG Z (pc + 1) lv ((0, V k j) :: st) V res) : MG Z pc lv ((0, j) :: (2, k') :: st) V (ck j n res) := fun H locs ls hP hS hl hV hlv hst hf0 => by
  obtain ⟨h0, h1, hf⟩ := ck_some hf0
  subst hk'; subst hn
  have e := I32_clamp hst.i h0
  refine va_bald (i := I32 j) (f := fun i : Nat => I32 (V k (i : Int))) (a := zAM Z k) hX.hx hX.hb hX.hK hP (q + 1) 2 (by rw [mW_at hq, mCell_i (by omega), hkd]) rfl (I32_vp hst.i h0 h1) hd ?_
  rw [e, Int.toNat_of_nonneg h0]
  exact kk H locs ls hP hS hl hV hlv (hst.t.t.c (okA.i (hV.i32 (by omega) (by omega) j))) hf
theorem m_zald (hX : MX Z cc nL ret d rk) {j n : Int} {k' : Int} (k q : Nat) (hk' : k' = (k : Int)) (hq : mArrs[q]? = some k) (hkd : mKind k = 6) (hn : (mLen k : Int) = n) (hd : decode cc pc = .ok (.baload, 1)) (kk : MG Z (pc + 1) lv ((0, V k j) :: st) V res) : MG Z pc lv ((0, j) :: (2, k') :: st) V (ck j n res) := fun H locs ls hP hS hl hV hlv hst hf0 => by
  obtain ⟨h0, h1, hf⟩ := ck_some hf0
  subst hk'; subst hn
  have e := I32_clamp hst.i h0
  refine va_zald (i := I32 j) (f := fun i : Nat => I32 (V k (i : Int))) (a := zAM Z k) hX.hx hX.hb hX.hK hP (q + 1) 3 (by rw [mW_at hq, mCell_i (by omega), hkd]) rfl (I32_vp hst.i h0 h1) hd ?_
  rw [e, Int.toNat_of_nonneg h0]
  exact kk H locs ls hP hS hl hV hlv (hst.t.t.c (okA.i (hV.i32 (by omega) (by omega) j))) hf
theorem m_lald (hX : MX Z cc nL ret d rk) {j n : Int} {k' : Int} (k q : Nat) (hk' : k' = (k : Int)) (hq : mArrs[q]? = some k) (hkd : mKind k = 4) (hn : (mLen k : Int) = n) (hd : decode cc pc = .ok (.laload, 1)) (kk : MG Z (pc + 1) lv ((1, V k j) :: st) V res) : MG Z pc lv ((0, j) :: (2, k') :: st) V (ck j n res) := fun H locs ls hP hS hl hV hlv hst hf0 => by
  obtain ⟨h0, h1, hf⟩ := ck_some hf0
  subst hk'; subst hn
  have e := I32_clamp hst.i h0
  refine va_lald (i := I32 j) (f := fun i : Nat => I64 (V k (i : Int))) (a := zAM Z k) hX.hx hX.hb hX.hK hP (q + 1) 1 (by rw [mW_at hq, mCell_l hkd]) rfl (I32_vp hst.i h0 h1) hd ?_
  rw [e, Int.toNat_of_nonneg h0]
  exact kk H locs ls hP hS hl hV hlv (hst.t.t.c (okA.l (hV.i64 (Or.inr hkd) j))) hf
theorem m_iast (hX : MX Z cc nL ret d rk) {j n x : Int} {k' : Int} {f : VV → Option (Int × VV)} (k q : Nat) (hk' : k' = (k : Int)) (hq : mArrs[q]? = some k) (hkd : mKind k = 3) (hn : (mLen k : Int) = n) (hd : decode cc pc = .ok (.iastore, 1)) (kk : ∀ V1, MG Z (pc + 1) lv st V1 (f V1)) : MG Z pc lv ((0, x) :: (0, j) :: (2, k') :: st) V (ck j n (nm (vup V k j x) f)) := fun H locs ls hP hS hl hV hlv hst hf9 => by
  have hf0 := hf9
  obtain ⟨h0, h1, hf⟩ := ck_some hf0
  subst hk'; subst hn
  have e := I32_clamp hst.t.i h0
  refine va_iast (i := I32 j) (x := I32 x) (f := fun i : Nat => I32 (V k (i : Int))) (a := zAM Z k) hX.hx hX.hb hX.hK hP (mW_D hX.hD V) hS (q + 1) 0 (by rw [mW_at hq, mCell_i (by omega), hkd]) rfl (I32_vp hst.t.i h0 h1) hd (fun H1 locs1 hP1 hD1 hS1 => ?_)
  rw [e, upd_I32 h0] at hP1
  refine kk (vup V k j x) H1 locs1 ls ?_ hS1 hl (hV.up (by rw [hkd]; exact hst.i)) hlv hst.t.t.t hf
  rw [← mW_arr hq, mCell_i (by omega), hkd]; exact hP1
theorem m_last (hX : MX Z cc nL ret d rk) {j n x : Int} {k' : Int} {f : VV → Option (Int × VV)} (k q : Nat) (hk' : k' = (k : Int)) (hq : mArrs[q]? = some k) (hkd : mKind k = 4) (hn : (mLen k : Int) = n) (hd : decode cc pc = .ok (.lastore, 1)) (kk : ∀ V1, MG Z (pc + 1) lv st V1 (f V1)) : MG Z pc lv ((1, x) :: (0, j) :: (2, k') :: st) V (ck j n (nm (vup V k j x) f)) := fun H locs ls hP hS hl hV hlv hst hf9 => by
  have hf0 := hf9
  obtain ⟨h0, h1, hf⟩ := ck_some hf0
  subst hk'; subst hn
  have e := I32_clamp hst.t.i h0
  refine va_last (i := I32 j) (x := I64 x) (f := fun i : Nat => I64 (V k (i : Int))) (a := zAM Z k) hX.hx hX.hb hX.hK hP (mW_D hX.hD V) hS (q + 1) 1 (by rw [mW_at hq, mCell_l hkd]) rfl (I32_vp hst.t.i h0 h1) hd (fun H1 locs1 hP1 hD1 hS1 => ?_)
  rw [e, upd_I64 h0] at hP1
  refine kk (vup V k j x) H1 locs1 ls ?_ hS1 hl (hV.up (by rw [hkd]; exact hst.l)) hlv hst.t.t.t hf
  rw [← mW_arr hq, mCell_l hkd]; exact hP1
theorem m_bast (hX : MX Z cc nL ret d rk) {j n x : Int} {k' : Int} {f : VV → Option (Int × VV)} (k q : Nat) (hk' : k' = (k : Int)) (hq : mArrs[q]? = some k) (hkd : mKind k = 5) (hn : (mLen k : Int) = n) (hd : decode cc pc = .ok (.bastore, 1)) (kk : ∀ V1, MG Z (pc + 1) lv st V1 (f V1)) : MG Z pc lv ((0, x) :: (0, j) :: (2, k') :: st) V (ck j n (nm (vup V k j (w8 x)) f)) := fun H locs ls hP hS hl hV hlv hst hf9 => by
  have hf0 := hf9
  obtain ⟨h0, h1, hf⟩ := ck_some hf0
  subst hk'; subst hn
  have e := I32_clamp hst.t.i h0
  refine va_bast (i := I32 j) (x := I32 x) (f := fun i : Nat => I32 (V k (i : Int))) (a := zAM Z k) hX.hx hX.hb hX.hK hP (mW_D hX.hD V) hS (q + 1) 2 (by rw [mW_at hq, mCell_i (by omega), hkd]) rfl (I32_vp hst.t.i h0 h1) hd (fun H1 locs1 hP1 hD1 hS1 => ?_)
  have ev : vp_nar .byte (I32 x) = I32 (w8 x) := by rw [vp_nar_byte]; exact I32_i2b hst.i
  rw [ev] at hP1
  rw [e, upd_I32 h0] at hP1
  refine kk (vup V k j (w8 x)) H1 locs1 ls ?_ hS1 hl (hV.up (by rw [hkd]; exact w8_in x)) hlv hst.t.t.t hf
  rw [← mW_arr hq, mCell_i (by omega), hkd]; exact hP1
theorem m_zast (hX : MX Z cc nL ret d rk) {j n x : Int} {k' : Int} {f : VV → Option (Int × VV)} (k q : Nat) (hk' : k' = (k : Int)) (hq : mArrs[q]? = some k) (hkd : mKind k = 6) (hn : (mLen k : Int) = n) (hd : decode cc pc = .ok (.bastore, 1)) (kk : ∀ V1, MG Z (pc + 1) lv st V1 (f V1)) : MG Z pc lv ((0, x) :: (0, j) :: (2, k') :: st) V (cb x (ck j n (nm (vup V k j x) f))) := fun H locs ls hP hS hl hV hlv hst hf9 => by
  obtain ⟨hx, hf0⟩ := cb_some hf9
  obtain ⟨h0, h1, hf⟩ := ck_some hf0
  subst hk'; subst hn
  have e := I32_clamp hst.t.i h0
  refine va_zast (i := I32 j) (x := I32 x) (f := fun i : Nat => I32 (V k (i : Int))) (a := zAM Z k) hX.hx hX.hb hX.hK hP (mW_D hX.hD V) hS (q + 1) 3 (by rw [mW_at hq, mCell_i (by omega), hkd]) rfl (I32_vp hst.t.i h0 h1) hd (fun H1 locs1 hP1 hD1 hS1 => ?_)
  have ev : vp_nar .boolean (I32 x) = I32 x := by rcases hx with rfl | rfl <;> rfl
  rw [ev] at hP1
  rw [e, upd_I32 h0] at hP1
  refine kk (vup V k j x) H1 locs1 ls ?_ hS1 hl (hV.up (by rw [hkd]; exact hx)) hlv hst.t.t.t hf
  rw [← mW_arr hq, mCell_i (by omega), hkd]; exact hP1
/-- an array of longs that a parameter names -/
theorem mKind_q {k : Nat} (h : mKind k = 4) : ∃ q : Nat, mArrs[q]? = some k := List.getElem?_of_mem (mKind_arr k (mKind_lt (by omega)) (by omega))
theorem m_laldp (hX : MX Z cc nL ret d rk) {j k' : Int} (hd : decode cc pc = .ok (.laload, 1)) (kk : MG Z (pc + 1) lv ((1, V k'.toNat j) :: st) V res) : MG Z pc lv ((0, j) :: (2, k') :: st) V (ca 4 k' j res) := fun H locs ls hP hS hl hV hlv hst hf0 => by
  obtain ⟨hkd, h0, h1, hf⟩ := ca_some hf0
  have h0k : 0 ≤ k' := hst.t.hd
  obtain ⟨q, hq⟩ := mKind_q hkd
  exact m_lald hX k'.toNat q (Int.toNat_of_nonneg h0k).symm hq hkd rfl hd kk H locs ls hP hS hl hV hlv hst (by rw [ck_ok h0 h1]; exact hf)
theorem m_lastp (hX : MX Z cc nL ret d rk) {j k' x : Int} {f : VV → Option (Int × VV)} (hd : decode cc pc = .ok (.lastore, 1)) (kk : ∀ V1, MG Z (pc + 1) lv st V1 (f V1)) : MG Z pc lv ((1, x) :: (0, j) :: (2, k') :: st) V (ca 4 k' j (nm (vup V k'.toNat j x) f)) := fun H locs ls hP hS hl hV hlv hst hf0 => by
  obtain ⟨hkd, h0, h1, hf⟩ := ca_some hf0
  have h0k : 0 ≤ k' := hst.t.t.hd
  obtain ⟨q, hq⟩ := mKind_q hkd
  exact m_last hX k'.toNat q (Int.toNat_of_nonneg h0k).symm hq hkd rfl hd kk H locs ls hP hS hl hV hlv hst (by rw [ck_ok h0 h1]; exact hf)
/-- a place in range drops its check -/
theorem m_in {j n : Int} (h0 : 0 ≤ j) (h1 : j < n) (kk : MG Z pc lv st V (ck j n res)) : MG Z pc lv st V res := by rw [ck_ok h0 h1] at kk; exact kk
theorem m_nz {b : Int} (h0 : b ≠ 0) (kk : MG Z pc lv st V (cz b res)) : MG Z pc lv st V res := by rw [cz_ok h0] at kk; exact kk
theorem m_cb {b : Int} (h0 : b = 0 ∨ b = 1) (kk : MG Z pc lv st V (cb b res)) : MG Z pc lv st V res := by rw [cb_ok h0] at kk; exact kk
theorem m_alen (hX : MX Z cc nL ret d rk) {k' : Int} {ty : FieldType} (k q : Nat) (hk' : k' = (k : Int)) (hq : mArrs[q]? = some k) (t : Nat) (ht : (mTys (zCT Z))[t]? = some (zCT Z (mKind k), ty)) {n : Int} (hn : (mLen k : Int) = n) (hn3 : in32 n) (hd : decode cc pc = .ok (.arraylength, 1)) (kk : MG Z (pc + 1) lv ((0, n) :: st) V res) : MG Z pc lv ((2, k') :: st) V res := fun H locs ls hP hS hl hV hlv hst hf => by
  subst hk'; subst hn
  exact va_alen (v := I32 (mLen k : Int)) hX.hx hX.hb hX.hK hP (q + 1) t (mW_at hq) ht (by unfold mArr; split <;> exact (Int32.ofInt_eq_ofNat).symm) hd (kk H locs ls hP hS hl hV hlv (hst.t.c (okA.i hn3)) hf)
/-- returns -/
theorem mS_free {H : Heap} {locs : List Loc} {aM : Nat → Nat} {a0 : Nat} {H0 : Heap} (h : va_S (mA aM a0) H0 H locs) : ∀ q ∈ locs, mA aM a0 q.base := h.2.2
theorem mS_F {aM : Nat → Nat} {a0 : Nat} {s t : State} {H : Heap} {locs : List Loc} (h : va_S (mA aM a0) s.heap H locs) (ht : t.heap = H) : va_F (mA aM a0) s t := h.F ht
theorem m_iret (hX : MX Z cc nL ret d 0) {x : Int} (hret : ret = some .int) (hd : decode cc pc = .ok (.ireturn, 1)) : MG Z pc lv [(0, x)] V (some (x, V)) := fun H locs ls hP hS hl hV hlv hst hf => by
  have hfin : (x, V) = zF Z := Option.some.inj hf
  refine W.iret hX.hx hX.hb (by rw [hX.hr, hret]) (fun t ht hW => ?_) hS.2.2 hd hX.hlk
  rw [hX.hQ, ← hfin]
  exact ⟨⟨I32 x, (), rfl, ⟨rfl, hst.i, hV⟩, by show va_P _ _ _ t.heap; rw [ht]; exact hP⟩, hS.F ht⟩
theorem m_zret (hX : MX Z cc nL ret d 0) {x : Int} (hret : ret = some .boolean) (hd : decode cc pc = .ok (.ireturn, 1)) : MG Z pc lv [(0, x)] V (cb x (some (x, V))) := fun H locs ls hP hS hl hV hlv hst hf0 => by
  obtain ⟨hx, hf⟩ := cb_some hf0
  have hfin : (x, V) = zF Z := Option.some.inj hf
  refine W.zret (ty := .boolean) hX.hx hX.hb (by rw [hX.hr, hret]) (by rcases hx with rfl | rfl <;> rfl) (fun t ht hW => ?_) hS.2.2 hd hX.hlk
  rw [hX.hQ, ← hfin]
  exact ⟨⟨I32 x, (), rfl, ⟨rfl, hst.i, hV⟩, by show va_P _ _ _ t.heap; rw [ht]; exact hP⟩, hS.F ht⟩
theorem m_lret (hX : MX Z cc nL ret d 1) {x : Int} (hret : ret = some .long) (hd : decode cc pc = .ok (.lreturn, 1)) : MG Z pc lv [(1, x)] V (some (x, V)) := fun H locs ls hP hS hl hV hlv hst hf => by
  have hfin : (x, V) = zF Z := Option.some.inj hf
  refine W.lret hX.hx hX.hb (by rw [hX.hr, hret]) (fun t ht hW => ?_) hS.2.2 hd hX.hlk
  rw [hX.hQ, ← hfin]
  exact ⟨⟨I64 x, (), rfl, ⟨rfl, hst.l, hV⟩, by show va_P _ _ _ t.heap; rw [ht]; exact hP⟩, hS.F ht⟩
theorem m_vret (hX : MX Z cc nL ret d 2) (hret : ret = none) (hd : decode cc pc = .ok (.return_, 1)) : MG Z pc lv [] V (some (0, V)) := fun H locs ls hP hS hl hV hlv hst hf => by
  have hfin : (0, V) = zF Z := Option.some.inj hf
  refine W.vret hX.hx hX.hb (by rw [hX.hr, hret]) (fun t ht hW => ?_) hS.2.2 hd hX.hlk
  rw [hX.hQ, ← hfin]
  exact ⟨⟨(), rfl, hV, by show va_P _ _ _ t.heap; rw [ht]; exact hP⟩, hS.F ht⟩
end ROWS
