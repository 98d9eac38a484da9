/-! printed by tools/gen_xthrow.py: the system's layer: methods that return or throw a Wrong -/
set_option maxRecDepth 100000
set_option maxHeartbeats 2000000
/-- thrown?, the value or the thrown object's name, the heap -/
abbrev XR3 : Type := Bool × Int × XH
abbrev xf3 : XR3 → XH := fun f => f.2.2
def mb3 {ρ : Type} (f : Option XR3) (g k : Int → XH → Option ρ) : Option ρ := match f with
  | none => none
  | some (false, r, h) => g r h
  | some (true, r, h) => k r h
theorem mb3_some {ρ : Type} {f : Option XR3} {g k : Int → XH → Option ρ} {b : ρ} (q : mb3 f g k = some b) : ∃ fin1 : XR3, f = some fin1 ∧ (fin1.1 = false → g fin1.2.1 fin1.2.2 = some b) ∧ (fin1.1 = true → k fin1.2.1 fin1.2.2 = some b) := by
  match f, q with
  | some (false, r, h), q => exact ⟨_, rfl, fun _ => q, (fun e => by cases e)⟩
  | some (true, r, h), q => exact ⟨_, rfl, (fun e => by cases e), fun _ => q⟩
theorem mb3_ok {ρ : Type} {g k : Int → XH → Option ρ} {r : Int} {h : XH} : mb3 (some (false, r, h)) g k = g r h := rfl
theorem mb3_th {ρ : Type} {g k : Int → XH → Option ρ} {r : Int} {h : XH} : mb3 (some (true, r, h)) g k = k r h := rfl
def okTh (ad : Int → Nat) (h0 : XH) (fin : XR3) (u : Int → Nat) : Prop := fin.1 = true ∧ 1 ≤ fin.2.1 ∧ xk fin.2.2 fin.2.1 = 7 ∧ okRes 2 ad h0 fin.2 u
def xQc3 (rk : Nat) (D : va_G) (cT : Nat → ClassId) (ad : Int → Nat) (A : Nat → Prop) (h0 : XH) (fin : XR3) : Array Value → State → Outcome → State → Prop := match rk with
  | 0 => va_Qi (S := Int → Nat) (fun r u => fin.1 = false ∧ r = I32 fin.2.1 ∧ okRes 0 ad h0 fin.2 u) (okB D cT A fin.2) A
  | 2 => va_Qv (S := Int → Nat) (fun u => fin.1 = false ∧ okRes 2 ad h0 (0, fin.2.2) u) (okB D cT A fin.2) A
  | _ => va_Qq (S := Int → Nat) (fun r u => fin.1 = false ∧ r = ro u fin.2.1 ∧ okRes 2 ad h0 fin.2 u) (okB D cT A fin.2) A
def xXC (D : va_G) (cT : Nat → ClassId) (ad : Int → Nat) (A : Nat → Prop) (h0 : XH) (fin : XR3) : Addr → String → State → State → Prop := vx_X (S := Int → Nat) (fun u => okTh ad h0 fin u) (fun q E u t => (E = RX7 ∧ q = u fin.2.1) ∧ okB D cT A fin.2 u t) A
def xT (rk : Nat) (Z : XZ XR3) : State → Prop := fun t => (∀ x ∈ (yC Z).exceptionTable.toList, False) → vx_MQ (yB Z) (xQc3 rk (yD Z) (yCT Z) (yA0 Z) (yAA Z) (yH Z) (yF Z)) (xXC (yD Z) (yCT Z) (yA0 Z) (yAA Z) (yH Z) (yF Z)) (yA Z) (yS Z) (xc (yF Z).2.2 - xc (yH Z)) (xs (yF Z).2.2 - xs (yH Z)) (yAA Z) t
def xSpec3 (l : Launch) (y : MethodName) (cc : ByteArray) (nL : Nat) (ret : Option FieldType) (d rk : Nat) (avs : List AV) (h : XH) (fin : XR3) : Prop :=
  ∀ (D : va_G) (cT : Nat → ClassId) (adF ad : Int → Nat) (sz : Nat), (∀ a : Int, a < 0 → ad a = adF a) → vx_Met l y (ws_ y cc nL ret) (xRm d (xc fin.2.2 - xc h) (xs fin.2.2 - xs h)) (va_Pc (avs.map (cX ad)) (xPre D cT adF ad sz h)) (xQc3 rk D cT ad (va_A (xW cT ad h) sz) h fin) (xXC D cT ad (va_A (xW cT ad h) sz) h fin) (xc fin.2.2 - xc h) (xs fin.2.2 - xs h) (va_A (xW cT ad h) sz)
theorem W_mono {p : Program} {l : Launch} {e : Env} {R : Room} {s : State} {m : MethodId} {args : Array Value} {below : List Frame} {meth : Method} {c : Code} {H : Heap} {locs : List Loc} {cells slots : Nat} {Q Q' : State → Prop} {g : JFrame} (hQ : ∀ t, Q t → Q' t) (k : W p l e R s m args below meth c H locs cells slots Q g) : W p l e R s m args below meth c H locs cells slots Q' g := fun T hT X => by
  obtain ⟨t, a, b⟩ := k T hT X
  exact ⟨t, a, hQ t b⟩
theorem xQ_xT {rk : Nat} (hrk : rk = 0 ∨ rk = 2 ∨ rk = 3) {z1 : Program × Launch × Env × Room × State × MethodId × Array Value × List Frame × Method × Code} {z2 : va_G × (Nat → ClassId) × (Int → Nat) × (Int → Nat) × (Nat → Prop)} {f : XR} {h : XH} (t : State) (q : xQ rk (z1, z2, (f, h)) t) : xT rk (z1, z2, ((false, f), h)) t := by
  intro _
  obtain ⟨o, b1, b2, b3, b4⟩ := q
  refine ⟨o, b1, b2, Or.inl ⟨?_, b4⟩⟩
  rcases hrk with rfl | rfl | rfl
  · obtain ⟨⟨r, u, c1, c2, c3⟩, c4⟩ := b3
    exact ⟨⟨r, u, c1, ⟨rfl, c2⟩, c3⟩, c4⟩
  · obtain ⟨⟨u, c1, c2, c3⟩, c4⟩ := b3
    exact ⟨⟨u, c1, ⟨rfl, c2⟩, c3⟩, c4⟩
  · obtain ⟨⟨r, u, c1, c2, c3⟩, c4⟩ := b3
    exact ⟨⟨r, u, c1, ⟨rfl, c2⟩, c3⟩, c4⟩
theorem x3_ret {own mn : String} {cc : ByteArray} {nL : Nat} {ret : Option FieldType} {d : Nat} {Z : XZ XR3} {pc : Nat} {lv : List (Nat × AV)} {st : List AV} {h : XH} {rk : Nat} {f : XR} (hrk : rk = 0 ∨ rk = 2 ∨ rk = 3) (k : ∀ Z' : XZ XR, XG xfh (xQ rk) own mn cc nL ret d Z' pc lv st h (some f)) : XG xf3 (xT rk) own mn cc nL ret d Z pc lv st h (some (false, f)) := ⟨fun fin e => by
  have e := Option.some.inj e
  subst e
  exact (k (Z.1, Z.2.1, (f, yH Z))).1 f rfl, fun X ad H locs ls cells slots hS hl hlv hst hf => by
  obtain ⟨z1, z2, zF, zH⟩ := Z
  have hf : (false, f) = zF := Option.some.inj hf
  subst hf
  exact W_mono (xQ_xT hrk) ((k (z1, z2, (f, zH))).2 X ad H locs ls cells slots hS hl hlv hst rfl)⟩
/-- with the object e thrown over the frame -/
def XT {ρ : Type} (fh : ρ → XH) (QQ : XZ ρ → State → Prop) (own mn : String) (cc : ByteArray) (nL : Nat) (ret : Option FieldType) (d : Nat) (Z : XZ ρ) (pc : Nat) (lv : List (Nat × AV)) (x : Int) (h : XH) (res : Option ρ) : Prop :=
  XM fh h res ∧ (XX fh own mn cc nL ret d Z → ∀ (ad : Int → Nat) (H : Heap) (locs : List Loc) (ls : Array Slot) (cells slots : Nat), XS Z h ad H locs cells slots → lv_has ls (yC Z).maxLocals (lv.map (cX1 ad)) → okXl (xn h) lv → 1 ≤ x → x ≤ (xn h : Int) → xk h x = 7 → res = some (yF Z) → ∀ ce : Cell, H[ad x]? = some ce → ce.vm = .none → (yS Z).vm.findClass RX7 = some ce.cls → ∀ rest : List Value, vx_W (yP Z) (yL Z) (yE Z) (yR Z) (yS Z) (yM Z) (yA Z) (yB Z) (yT Z) (yC Z) H locs cells slots (QQ Z) (F0 (yM Z) pc ls rest) (ad x))
theorem x3_out {own mn : String} {cc : ByteArray} {nL : Nat} {ret : Option FieldType} {d : Nat} {Z : XZ XR3} {pc : Nat} {lv : List (Nat × AV)} {h : XH} {rk : Nat} {x : Int} : XT xf3 (xT rk) own mn cc nL ret d Z pc lv x h (some (true, x, h)) := ⟨fun fin e => by
  have e := Option.some.inj e
  subst e
  exact ⟨Nat.le_refl _, Nat.le_refl _, Nat.le_refl _⟩, fun X ad H locs ls cells slots hS hl hlv h1 h2 h3 hf ce hce hcv hcl rest => by
  obtain ⟨⟨p9, l9, e9, R9, s9, m9, a9, b9, t9, c9⟩, z2, zF, zH⟩ := Z
  have hf : (true, x, h) = zF := Option.some.inj hf
  subst hf
  obtain ⟨p1, p2, p3, p4, p5, p6, p7, p8⟩ := hS
  by_cases hT : ∀ x ∈ c9.exceptionTable.toList, False
  case neg => exact fun T hT0 X0 => ⟨_, Steps.refl _, fun q => absurd q hT⟩
  intro T9 hT9 X9
  have hh : vx_W p9 l9 e9 R9 s9 m9 a9 b9 t9 c9 H locs cells slots (vx_MQ b9 (xQc3 rk z2.1 z2.2.1 z2.2.2.2.1 z2.2.2.2.2 zH (true, x, h)) (xXC z2.1 z2.2.1 z2.2.2.2.1 z2.2.2.2.2 zH (true, x, h)) a9 s9 (xc h - xc zH) (xs h - xs zH) z2.2.2.2.2) (F0 m9 pc ls rest) (ad x) := ?_
  · obtain ⟨t, c1, c2⟩ := hh T9 hT9 X9
    exact ⟨t, c1, fun _ => c2⟩
  refine vx_out (fun z hz => absurd (hT z hz) id) X.hlk hce hcv hcl (fun t ht ha => ?_) p3.2.2 (by have p7' : xc h = xc zH + cells := p7; show cells ≤ xc h - xc zH; omega) (by have p8' : xs h = xs zH + slots := p8; show slots ≤ xs h - xs zH; omega)
  exact ⟨ad, ⟨rfl, h1, h3, okX.r h2, p4, p6, p5.1, p5.2⟩, ⟨⟨rfl, rfl⟩, by show va_P _ _ _ t.heap; rw [ht]; exact p1, p2⟩, p3.F ht⟩⟩
section ROWS
variable {ρ : Type} {fh : ρ → XH} {QQ : XZ ρ → State → Prop} {own mn : String} {cc : ByteArray} {nL : Nat} {ret : Option FieldType} {d : Nat} {Z : XZ ρ} {pc : Nat} {lv : List (Nat × AV)} {st st0 : List AV} {h : XH}
theorem XT.none {x : Int} : XT fh QQ own mn cc nL ret d Z pc lv x h (none : Option ρ) := ⟨(fun fin e => by cases e), fun _ ad H locs ls cells slots _ _ _ _ _ _ e => (by cases e)⟩
theorem x3_athrow {x : Int} {res : Option ρ} (hd : decode cc pc = .ok (.athrow, 1)) (kk : XT fh QQ own mn cc nL ret d Z pc lv x h res) : XG fh QQ own mn cc nL ret d Z pc lv ((2, x) :: st) h (ob h x 7 res) := ⟨kk.1.ob, fun X ad H locs ls cells slots hS hl hlv hst hf0 => by
  obtain ⟨o1, o2, o3, hf⟩ := ob_some hf0
  have hq := xW_at (cT := yCT Z) (ad := ad) o1 o2
  rw [xcell_o o3 (by decide)] at hq
  obtain ⟨q', c1, cell, g1, g2, g3, -⟩ := hS.hP _ _ hq
  have hrb : cX ad (2, x) = .ref (ad x) := by show rv ad x = _; unfold rv; rw [if_neg (by omega)]
  show W _ _ _ _ _ _ _ _ _ _ _ _ _ _ _ (F0 _ _ _ (cX ad (2, x) :: _))
  rw [hrb]
  exact vx_athrow X.hx X.hb hd (kk.2 X ad H locs ls cells slots hS hl hlv o1 o2 o3 hf cell g1 g3 (by rw [g2]; exact (X.hK.1 7 (RX7, TX7, 7) rfl).2.1) _)⟩
theorem XM.mb3 {f : Option XR3} {g k : Int → XH → Option ρ} (hf : XM xf3 h f) (hg : ∀ r h1, XM fh h1 (g r h1)) (hk : ∀ r h1, XM fh h1 (k r h1)) : XM fh h (mb3 f g k) := fun fin q => by
  obtain ⟨⟨tb, r, h1⟩, e1, e2, e3⟩ := mb3_some q
  obtain ⟨a1, a2, a3⟩ := hf (tb, r, h1) e1
  have hh : xc h1 ≤ xc (fh fin) ∧ xs h1 ≤ xs (fh fin) ∧ xn h1 ≤ xn (fh fin) := by
    cases tb with
    | false => exact hg r h1 fin (e2 rfl)
    | true => exact hk r h1 fin (e3 rfl)
  obtain ⟨b1, b2, b3⟩ := hh
  exact ⟨Nat.le_trans a1 b1, Nat.le_trans a2 b2, Nat.le_trans a3 b3⟩
theorem x3_callVi {f : Option XR3} {g k : Int → XH → Option ρ} {y : MethodName} {cy : ByteArray} {ny dy ix : Nat} {ry : Option FieldType} {b : Int} (args : List AV) (n : Nat) (hm : XM xf3 h f) (hM : okH h → okXs (xn h) ((2, b) :: args) → ∀ fin, f = some fin → xSpec3 (yL Z) y cy ny ry dy 0 ((2, b) :: args) h fin) (C : String) (ci : Nat) {T : u_T} {N : Nat} (hc : gcl[ci]? = some (C, T, N)) (hci : ci < 100) (hw : GoodIn lw_all (wsV own ix C y (ws_ y cy ny ry))) (hd : y.cls = C ∧ y.cls ≠ "java/lang/invoke/MethodHandle" ∧ y.cls ≠ "java/lang/invoke/VarHandle" ∧ (parseMethodDescriptor y.desc).map (fun d => d.parameters.length) = some n) (hn : args.length = n) (hdd : dy + 1 ≤ d) (hny : ny ≤ 40) (hs0 : st0 = args.reverse ++ (2, b) :: st) (hcat : (st.map fun v => if v.1 = 1 then 2 else 1).sum ≤ 8) (hdg : decode cc pc = .ok (.invokevirtual ix, 3)) (kk : ∀ r h1, XG fh QQ own mn cc nL ret d Z (pc + 3) lv ((0, r) :: st) h1 (g r h1)) (kx : ∀ r h1, XT fh QQ own mn cc nL ret d Z pc lv r h1 (k r h1)) : XG fh QQ own mn cc nL ret d Z pc lv st0 h (ob h b ci (mb3 f g k)) := ⟨(XM.mb3 hm (fun r h1 => (kk r h1).1) (fun r h1 => (kx r h1).1)).ob, fun X ad H locs ls cells slots hS hl hlv hst hf9 => by
  obtain ⟨o1, o2, o3, hf0⟩ := ob_some hf9
  obtain ⟨⟨tb, r, h1⟩, hf1, hfa, hfb⟩ := mb3_some hf0
  dsimp only at hfa hfb
  subst hs0
  have ho := hst.app
  have hst2 : okXs (xn h) st := ho.2.t
  have hoa : okXs (xn h) ((2, b) :: args) := ho.1.rev.c ho.2.hd
  have hmc := hm (tb, r, h1) hf1
  have hmf : xc h1 ≤ xc (fh (yF Z)) ∧ xs h1 ≤ xs (fh (yF Z)) ∧ xn h1 ≤ xn (fh (yF Z)) := by
    cases tb with
    | false => exact (kk r h1).1 (yF Z) (hfa rfl)
    | true => exact (kx r h1).1 (yF Z) (hfb rfl)
  dsimp only [xf3] at hmc
  have hMM := hM hS.okh hoa (tb, r, h1) hf1 (yD Z) (yCT Z) (yAF Z) ad H.size (x_negs X hS)
  have hroom : (xRm dy (xc h1 - xc h) (xs h1 - xs h)).frames + 1 ≤ (yR Z).frames ∧ 8 + (ny + 11) + (xRm dy (xc h1 - xc h) (xs h1 - xs h)).locals ≤ (yR Z).locals := by rw [X.hR]; exact ⟨hdd, by show 8 + (ny + 11) + 64 * dy ≤ 64 * d; omega⟩
  have hcw : CallW (yR Z) (yS Z) (yA Z) own C ix y cy ny ry (ws_ y cy ny ry) (xRm dy (xc h1 - xc h) (xs h1 - xs h)) (xc h1 - xc h) (xs h1 - xs h) n := cwV n X.hts hw rfl rfl rfl hd hroom
  have hcnt : cells + (xc h1 - xc h) ≤ (yR Z).cells ∧ slots + (xs h1 - xs h) ≤ (yR Z).slots := by
    have p7 := hS.2.2.2.2.2.2.1
    have p8 := hS.2.2.2.2.2.2.2
    rw [X.hR]
    exact ⟨by show _ ≤ xc (fh (yF Z)) - xc (yH Z); omega, by show _ ≤ xs (fh (yF Z)) - xs (yH Z); omega⟩
  have hrb : cX ad (2, b) = .ref (ad b) := by show rv ad b = _; unfold rv; rw [if_neg (by omega)]
  have hstk : ((args.reverse ++ (2, b) :: st).map (cX ad)) = (args.map (cX ad)).reverse ++ .ref (ad b) :: st.map (cX ad) := by rw [List.map_append, List.map_reverse, List.map_cons, hrb]
  have hq := xW_at (cT := yCT Z) (ad := ad) o1 o2
  rw [xcell_o o3 hci] at hq
  refine vx_calli (AX := va_A (xW (yCT Z) ad h) H.size) (A1 := va_A (xW (yCT Z) ad h) H.size) (vx_runV (As := args.map (cX ad)) (rest := st.map (cX ad)) (b := ad b) ⟨X.hx, X.hb, X.hml, X.hown, X.hts⟩ hMM hcw ⟨xPre_blind, va_recv X.hK hS.hP hc hq, fun U hU hW => ⟨by rw [List.map_cons, hrb], x_pre X hS hU hW⟩⟩ rfl (by rw [List.length_map]; exact hn) (hl.1.trans X.hml) hstk (lv_room (cat_sumX hcat)) hdg hcnt) hS.hS (fun q _ hq => x_subA X hS q hq) (fun q hq => x_subA X hS q hq) (fun q _ hq => x_subA X hS q hq) ?_ ?_
  · intro E ce q9 u t H1 locs1 ht hvm hpx hB hsz hkeep hS1 hce hcv hcl
    obtain ⟨ht1, he1, hk7, hres⟩ := hpx
    obtain ⟨⟨hE, hq9⟩, hB⟩ := hB
    dsimp only at ht1
    subst ht1
    subst hE
    subst hq9
    obtain ⟨g1, g2, g3, g4, g5⟩ := x_back (fin := (r, h1)) X hS hl hlv hst2 hmc hres hB ht hS1
    exact (kx r h1).2 X u H1 locs1 ls _ _ g1 g2 g3 he1 hres.1 hk7 (hfb rfl) ce hce hcv hcl _
  · intro r' u t H1 locs1 ht hvm hpost hB hsz hkeep hS1
    obtain ⟨ht1, hr, hres⟩ := hpost
    dsimp only at ht1
    subst ht1
    obtain ⟨g1, g2, g3, g4, g5⟩ := x_back (fin := (r, h1)) X hS hl hlv hst2 hmc hres hB ht hS1
    have h9 := (kk r h1).2 X u H1 locs1 ls _ _ g1 g2 g3 (g4.c hres.1) (hfa rfl)
    rw [List.map_cons, g5] at h9
    rw [show r' = _ from hr]
    exact h9⟩
theorem x3_callVv {f : Option XR3} {g k : Int → XH → Option ρ} {y : MethodName} {cy : ByteArray} {ny dy ix : Nat} {ry : Option FieldType} {b : Int} (args : List AV) (n : Nat) (hm : XM xf3 h f) (hM : okH h → okXs (xn h) ((2, b) :: args) → ∀ fin, f = some fin → xSpec3 (yL Z) y cy ny ry dy 2 ((2, b) :: args) h fin) (C : String) (ci : Nat) {T : u_T} {N : Nat} (hc : gcl[ci]? = some (C, T, N)) (hci : ci < 100) (hw : GoodIn lw_all (wsV own ix C y (ws_ y cy ny ry))) (hd : y.cls = C ∧ y.cls ≠ "java/lang/invoke/MethodHandle" ∧ y.cls ≠ "java/lang/invoke/VarHandle" ∧ (parseMethodDescriptor y.desc).map (fun d => d.parameters.length) = some n) (hn : args.length = n) (hdd : dy + 1 ≤ d) (hny : ny ≤ 40) (hs0 : st0 = args.reverse ++ (2, b) :: st) (hcat : (st.map fun v => if v.1 = 1 then 2 else 1).sum ≤ 8) (hdg : decode cc pc = .ok (.invokevirtual ix, 3)) (kk : ∀ r h1, XG fh QQ own mn cc nL ret d Z (pc + 3) lv st h1 (g r h1)) (kx : ∀ r h1, XT fh QQ own mn cc nL ret d Z pc lv r h1 (k r h1)) : XG fh QQ own mn cc nL ret d Z pc lv st0 h (ob h b ci (mb3 f g k)) := ⟨(XM.mb3 hm (fun r h1 => (kk r h1).1) (fun r h1 => (kx r h1).1)).ob, fun X ad H locs ls cells slots hS hl hlv hst hf9 => by
  obtain ⟨o1, o2, o3, hf0⟩ := ob_some hf9
  obtain ⟨⟨tb, r, h1⟩, hf1, hfa, hfb⟩ := mb3_some hf0
  dsimp only at hfa hfb
  subst hs0
  have ho := hst.app
  have hst2 : okXs (xn h) st := ho.2.t
  have hoa : okXs (xn h) ((2, b) :: args) := ho.1.rev.c ho.2.hd
  have hmc := hm (tb, r, h1) hf1
  have hmf : xc h1 ≤ xc (fh (yF Z)) ∧ xs h1 ≤ xs (fh (yF Z)) ∧ xn h1 ≤ xn (fh (yF Z)) := by
    cases tb with
    | false => exact (kk r h1).1 (yF Z) (hfa rfl)
    | true => exact (kx r h1).1 (yF Z) (hfb rfl)
  dsimp only [xf3] at hmc
  have hMM := hM hS.okh hoa (tb, r, h1) hf1 (yD Z) (yCT Z) (yAF Z) ad H.size (x_negs X hS)
  have hroom : (xRm dy (xc h1 - xc h) (xs h1 - xs h)).frames + 1 ≤ (yR Z).frames ∧ 8 + (ny + 11) + (xRm dy (xc h1 - xc h) (xs h1 - xs h)).locals ≤ (yR Z).locals := by rw [X.hR]; exact ⟨hdd, by show 8 + (ny + 11) + 64 * dy ≤ 64 * d; omega⟩
  have hcw : CallW (yR Z) (yS Z) (yA Z) own C ix y cy ny ry (ws_ y cy ny ry) (xRm dy (xc h1 - xc h) (xs h1 - xs h)) (xc h1 - xc h) (xs h1 - xs h) n := cwV n X.hts hw rfl rfl rfl hd hroom
  have hcnt : cells + (xc h1 - xc h) ≤ (yR Z).cells ∧ slots + (xs h1 - xs h) ≤ (yR Z).slots := by
    have p7 := hS.2.2.2.2.2.2.1
    have p8 := hS.2.2.2.2.2.2.2
    rw [X.hR]
    exact ⟨by show _ ≤ xc (fh (yF Z)) - xc (yH Z); omega, by show _ ≤ xs (fh (yF Z)) - xs (yH Z); omega⟩
  have hrb : cX ad (2, b) = .ref (ad b) := by show rv ad b = _; unfold rv; rw [if_neg (by omega)]
  have hstk : ((args.reverse ++ (2, b) :: st).map (cX ad)) = (args.map (cX ad)).reverse ++ .ref (ad b) :: st.map (cX ad) := by rw [List.map_append, List.map_reverse, List.map_cons, hrb]
  have hq := xW_at (cT := yCT Z) (ad := ad) o1 o2
  rw [xcell_o o3 hci] at hq
  refine vx_callv (AX := va_A (xW (yCT Z) ad h) H.size) (A1 := va_A (xW (yCT Z) ad h) H.size) (vx_runV (As := args.map (cX ad)) (rest := st.map (cX ad)) (b := ad b) ⟨X.hx, X.hb, X.hml, X.hown, X.hts⟩ hMM hcw ⟨xPre_blind, va_recv X.hK hS.hP hc hq, fun U hU hW => ⟨by rw [List.map_cons, hrb], x_pre X hS hU hW⟩⟩ rfl (by rw [List.length_map]; exact hn) (hl.1.trans X.hml) hstk (lv_room (cat_sumX hcat)) hdg hcnt) hS.hS (fun q _ hq => x_subA X hS q hq) (fun q hq => x_subA X hS q hq) (fun q _ hq => x_subA X hS q hq) ?_ ?_
  · intro E ce q9 u t H1 locs1 ht hvm hpx hB hsz hkeep hS1 hce hcv hcl
    obtain ⟨ht1, he1, hk7, hres⟩ := hpx
    obtain ⟨⟨hE, hq9⟩, hB⟩ := hB
    dsimp only at ht1
    subst ht1
    subst hE
    subst hq9
    obtain ⟨g1, g2, g3, g4, g5⟩ := x_back (fin := (r, h1)) X hS hl hlv hst2 hmc hres hB ht hS1
    exact (kx r h1).2 X u H1 locs1 ls _ _ g1 g2 g3 he1 hres.1 hk7 (hfb rfl) ce hce hcv hcl _
  · intro u t H1 locs1 ht hvm hpost hB hsz hkeep hS1
    obtain ⟨ht1, hpost⟩ := hpost
    dsimp only at ht1
    subst ht1
    obtain ⟨g1, g2, g3, g4, g5⟩ := x_back (fin := (0, h1)) X hS hl hlv hst2 hmc hpost hB ht hS1
    have h9 := (kk r h1).2 X u H1 locs1 ls _ _ g1 g2 g3 g4 (hfa rfl)
    rw [g5] at h9
    exact h9⟩
theorem x3_callVr {f : Option XR3} {g k : Int → XH → Option ρ} {y : MethodName} {cy : ByteArray} {ny dy ix : Nat} {ry : Option FieldType} {b : Int} (args : List AV) (n : Nat) (hm : XM xf3 h f) (hM : okH h → okXs (xn h) ((2, b) :: args) → ∀ fin, f = some fin → xSpec3 (yL Z) y cy ny ry dy 3 ((2, b) :: args) h fin) (C : String) (ci : Nat) {T : u_T} {N : Nat} (hc : gcl[ci]? = some (C, T, N)) (hci : ci < 100) (hw : GoodIn lw_all (wsV own ix C y (ws_ y cy ny ry))) (hd : y.cls = C ∧ y.cls ≠ "java/lang/invoke/MethodHandle" ∧ y.cls ≠ "java/lang/invoke/VarHandle" ∧ (parseMethodDescriptor y.desc).map (fun d => d.parameters.length) = some n) (hn : args.length = n) (hdd : dy + 1 ≤ d) (hny : ny ≤ 40) (hs0 : st0 = args.reverse ++ (2, b) :: st) (hcat : (st.map fun v => if v.1 = 1 then 2 else 1).sum ≤ 8) (hdg : decode cc pc = .ok (.invokevirtual ix, 3)) (kk : ∀ r h1, XG fh QQ own mn cc nL ret d Z (pc + 3) lv ((2, r) :: st) h1 (g r h1)) (kx : ∀ r h1, XT fh QQ own mn cc nL ret d Z pc lv r h1 (k r h1)) : XG fh QQ own mn cc nL ret d Z pc lv st0 h (ob h b ci (mb3 f g k)) := ⟨(XM.mb3 hm (fun r h1 => (kk r h1).1) (fun r h1 => (kx r h1).1)).ob, fun X ad H locs ls cells slots hS hl hlv hst hf9 => by
  obtain ⟨o1, o2, o3, hf0⟩ := ob_some hf9
  obtain ⟨⟨tb, r, h1⟩, hf1, hfa, hfb⟩ := mb3_some hf0
  dsimp only at hfa hfb
  subst hs0
  have ho := hst.app
  have hst2 : okXs (xn h) st := ho.2.t
  have hoa : okXs (xn h) ((2, b) :: args) := ho.1.rev.c ho.2.hd
  have hmc := hm (tb, r, h1) hf1
  have hmf : xc h1 ≤ xc (fh (yF Z)) ∧ xs h1 ≤ xs (fh (yF Z)) ∧ xn h1 ≤ xn (fh (yF Z)) := by
    cases tb with
    | false => exact (kk r h1).1 (yF Z) (hfa rfl)
    | true => exact (kx r h1).1 (yF Z) (hfb rfl)
  dsimp only [xf3] at hmc
  have hMM := hM hS.okh hoa (tb, r, h1) hf1 (yD Z) (yCT Z) (yAF Z) ad H.size (x_negs X hS)
  have hroom : (xRm dy (xc h1 - xc h) (xs h1 - xs h)).frames + 1 ≤ (yR Z).frames ∧ 8 + (ny + 11) + (xRm dy (xc h1 - xc h) (xs h1 - xs h)).locals ≤ (yR Z).locals := by rw [X.hR]; exact ⟨hdd, by show 8 + (ny + 11) + 64 * dy ≤ 64 * d; omega⟩
  have hcw : CallW (yR Z) (yS Z) (yA Z) own C ix y cy ny ry (ws_ y cy ny ry) (xRm dy (xc h1 - xc h) (xs h1 - xs h)) (xc h1 - xc h) (xs h1 - xs h) n := cwV n X.hts hw rfl rfl rfl hd hroom
  have hcnt : cells + (xc h1 - xc h) ≤ (yR Z).cells ∧ slots + (xs h1 - xs h) ≤ (yR Z).slots := by
    have p7 := hS.2.2.2.2.2.2.1
    have p8 := hS.2.2.2.2.2.2.2
    rw [X.hR]
    exact ⟨by show _ ≤ xc (fh (yF Z)) - xc (yH Z); omega, by show _ ≤ xs (fh (yF Z)) - xs (yH Z); omega⟩
  have hrb : cX ad (2, b) = .ref (ad b) := by show rv ad b = _; unfold rv; rw [if_neg (by omega)]
  have hstk : ((args.reverse ++ (2, b) :: st).map (cX ad)) = (args.map (cX ad)).reverse ++ .ref (ad b) :: st.map (cX ad) := by rw [List.map_append, List.map_reverse, List.map_cons, hrb]
  have hq := xW_at (cT := yCT Z) (ad := ad) o1 o2
  rw [xcell_o o3 hci] at hq
  refine vx_callq (AX := va_A (xW (yCT Z) ad h) H.size) (A1 := va_A (xW (yCT Z) ad h) H.size) (vx_runV (As := args.map (cX ad)) (rest := st.map (cX ad)) (b := ad b) ⟨X.hx, X.hb, X.hml, X.hown, X.hts⟩ hMM hcw ⟨xPre_blind, va_recv X.hK hS.hP hc hq, fun U hU hW => ⟨by rw [List.map_cons, hrb], x_pre X hS hU hW⟩⟩ rfl (by rw [List.length_map]; exact hn) (hl.1.trans X.hml) hstk (lv_room (cat_sumX hcat)) hdg hcnt) hS.hS (fun q _ hq => x_subA X hS q hq) (fun q hq => x_subA X hS q hq) (fun q _ hq => x_subA X hS q hq) ?_ ?_
  · intro E ce q9 u t H1 locs1 ht hvm hpx hB hsz hkeep hS1 hce hcv hcl
    obtain ⟨ht1, he1, hk7, hres⟩ := hpx
    obtain ⟨⟨hE, hq9⟩, hB⟩ := hB
    dsimp only at ht1
    subst ht1
    subst hE
    subst hq9
    obtain ⟨g1, g2, g3, g4, g5⟩ := x_back (fin := (r, h1)) X hS hl hlv hst2 hmc hres hB ht hS1
    exact (kx r h1).2 X u H1 locs1 ls _ _ g1 g2 g3 he1 hres.1 hk7 (hfb rfl) ce hce hcv hcl _
  · intro r' u t H1 locs1 ht hvm hpost hB hsz hkeep hS1
    obtain ⟨ht1, hr, hres⟩ := hpost
    dsimp only at ht1
    subst ht1
    obtain ⟨g1, g2, g3, g4, g5⟩ := x_back (fin := (r, h1)) X hS hl hlv hst2 hmc hres hB ht hS1
    have h9 := (kk r h1).2 X u H1 locs1 ls _ _ g1 g2 g3 (g4.c hres.1) (hfa rfl)
    rw [List.map_cons, g5] at h9
    rw [show r' = _ from hr, rv_ro]
    exact h9⟩
end ROWS
theorem x3_enter {l : Launch} {y : MethodName} {own mn : String} {cc : ByteArray} {nL : Nat} {ret : Option FieldType} {d rk : Nat} {avs : List AV} {h : XH} {f : Option XR3} (hy : plainName y.cls = true) (hyc : y.cls = own) (hmn : y.name = mn) (hn : avN avs ≤ nL) {lv : List (Nat × AV)} (hlv : avL 0 avs = lv) (walk : ∀ Z : XZ XR3, yL Z = l → XG xf3 (xT rk) own mn cc nL ret d Z 0 lv [] h f) (hok : okH h) (hav : okXs (xn h) avs) (fin : XR3) (hf : f = some fin) : xSpec3 l y cc nL ret d rk avs h fin := by
  intro D cT adF ad sz hneg
  refine vx_ofW (cc := cc) (maxL := nL) (ret := ret) hy rfl ?_
  intro p e s m args below meth c s₁ B hml htab hv
  obtain ⟨hargs, hsz, hP, hD, hK, hN, hZ⟩ := hv
  subst hargs
  subst hsz
  have hts := atoms_spec (ws := ws_ y cc nL ret) B.pre
  have hts : ∀ w ∈ lw_all, w.before _ s = true := fun w h => hts w (List.mem_cons_of_mem _ h)
  have hown : s.vm.findClass own = some m.cls := by rw [← hyc]; exact findClass_of_methodNamed B.named
  have hnm : meth.name = mn := by rw [← hmn]; exact (name_of_methodNamed B.named B.method).1
  rw [lg_entry_eq]
  have hl := lv_entry (avs.map (cX ad)) (n := nL) (by rw [avN_slX]; exact hn)
  have hw := (walk ((p, l, e, (headSpec (ws_ y cc nL ret) (xRm d (xc fin.2.2 - xc h) (xs fin.2.2 - xs h))).room, s, m, (avs.map (cX ad)).toArray, below, meth, c), (D, cT, adF, ad, va_A (xW cT ad h) s.heap.size), (fin, h)) rfl).2
  exact W_mono (fun t q => q htab) (hw ⟨rfl, B.exec, B.bytes, hml, hown, hts, hK, B.notSynchronized, B.returns, hN, hZ, fun q hq => Or.inr hq, hneg, hnm⟩ ad s.heap [] _ 0 0 ⟨hP, hD.self, va_S.rf, hok, ⟨fun a _ => rfl, fun a j _ => rfl⟩, Nat.le_refl _, rfl, rfl⟩ (by rw [← hlv, avL_mapX]; show lv_has _ c.maxLocals _; rw [hml]; exact hl) (by rw [← hlv]; exact avL_okX hav 0) okXs.nil hf)
abbrev mt (f : Option XR3) (g : Int → XH → Option XR3) : Option XR3 := mb3 f g (fun x h => some (true, x, h))
