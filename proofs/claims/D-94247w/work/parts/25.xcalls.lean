/-! the system's layer: returns, calls, a method's entry -/
set_option maxRecDepth 100000
set_option maxHeartbeats 2000000
abbrev XR : Type := Int × XH
abbrev xfh : XR → XH := Prod.snd
def okRes (tag : Nat) (ad : Int → Nat) (h0 : XH) (fin : XR) (u : Int → Nat) : Prop := okX (xn fin.2) (tag, fin.1) ∧ okH fin.2 ∧ xn h0 ≤ xn fin.2 ∧ (∀ a : Int, a ≤ (xn h0 : Int) → u a = ad a) ∧ ∀ a j : Int, a < 0 → xv fin.2 a j = xv h0 a j
def okB (D : va_G) (cT : Nat → ClassId) (A : Nat → Prop) (fin : XR) (u : Int → Nat) (t : State) : Prop := va_P D gcl (xW cT u fin.2) t.heap ∧ va_D A (xW cT u fin.2)
/-- a method's end: 0 int, 1 long, 2 nothing, 3 a reference -/
def xQc (rk : Nat) (D : va_G) (cT : Nat → ClassId) (ad : Int → Nat) (A : Nat → Prop) (h0 : XH) (fin : XR) : Array Value → State → Outcome → State → Prop := match rk with
  | 0 => va_Qi (S := Int → Nat) (fun r u => r = I32 fin.1 ∧ okRes 0 ad h0 fin u) (okB D cT A fin) A
  | 1 => va_Ql (S := Int → Nat) (fun r u => r = I64 fin.1 ∧ okRes 1 ad h0 fin u) (okB D cT A fin) A
  | 2 => va_Qv (S := Int → Nat) (fun u => okRes 2 ad h0 (0, fin.2) u) (okB D cT A fin) A
  | _ => va_Qq (S := Int → Nat) (fun r u => r = ro u fin.1 ∧ okRes 2 ad h0 fin u) (okB D cT A fin) A
def xQ (rk : Nat) (Z : XZ XR) : State → Prop := MQ (yB Z) (xQc rk (yD Z) (yCT Z) (yA0 Z) (yAA Z) (yH Z) (yF Z)) (yA Z) (yS Z) (xc (yF Z).2 - xc (yH Z)) (xs (yF Z).2 - xs (yH Z)) (yAA Z)
section RET
variable {own mn : String} {cc : ByteArray} {nL : Nat} {ret : Option FieldType} {d : Nat} {Z : XZ XR} {pc : Nat} {lv : List (Nat × AV)} {h : XH}
theorem XM.rf {fh : XR → XH} {x : Int} {h : XH} (e : fh (x, h) = h) : XM fh h (some (x, h)) := fun fin hf => by
  have hf := Option.some.inj hf
  subst hf
  rw [e]
  exact ⟨Nat.le_refl _, Nat.le_refl _, Nat.le_refl _⟩
theorem x_iret {x : Int} (hret : ret = some .int) (hd : decode cc pc = .ok (.ireturn, 1)) : XG xfh (xQ 0) own mn cc nL ret d Z pc lv [(0, x)] h (some (x, h)) := ⟨XM.rf rfl, fun X ad H locs ls cells slots hS hl hlv hst hf => by
  have hfin : (x, h) = yF Z := Option.some.inj hf
  obtain ⟨p1, p2, p3, p4, p5, p6, p7, p8⟩ := hS
  have hq : xQ 0 Z = MQ (yB Z) (xQc 0 (yD Z) (yCT Z) (yA0 Z) (yAA Z) (yH Z) (x, h)) (yA Z) (yS Z) cells slots (yAA Z) := by unfold xQ; rw [← hfin]; congr 1 <;> (first | (show xc h - xc (yH Z) = cells; omega) | (show xs h - xs (yH Z) = slots; omega))
  rw [hq]
  refine W.iret X.hx X.hb (by rw [X.hr, hret]) (fun t ht hW => ?_) p3.2.2 hd X.hlk
  exact ⟨⟨I32 x, ad, rfl, ⟨rfl, hst.hd, p4, p6, p5.1, p5.2⟩, by show va_P _ _ _ t.heap; rw [ht]; exact p1, p2⟩, p3.F ht⟩⟩
theorem x_lret {x : Int} (hret : ret = some .long) (hd : decode cc pc = .ok (.lreturn, 1)) : XG xfh (xQ 1) own mn cc nL ret d Z pc lv [(1, x)] h (some (x, h)) := ⟨XM.rf rfl, fun X ad H locs ls cells slots hS hl hlv hst hf => by
  have hfin : (x, h) = yF Z := Option.some.inj hf
  obtain ⟨p1, p2, p3, p4, p5, p6, p7, p8⟩ := hS
  have hq : xQ 1 Z = MQ (yB Z) (xQc 1 (yD Z) (yCT Z) (yA0 Z) (yAA Z) (yH Z) (x, h)) (yA Z) (yS Z) cells slots (yAA Z) := by unfold xQ; rw [← hfin]; congr 1 <;> (first | (show xc h - xc (yH Z) = cells; omega) | (show xs h - xs (yH Z) = slots; omega))
  rw [hq]
  refine W.lret X.hx X.hb (by rw [X.hr, hret]) (fun t ht hW => ?_) p3.2.2 hd X.hlk
  exact ⟨⟨I64 x, ad, rfl, ⟨rfl, hst.hd, p4, p6, p5.1, p5.2⟩, by show va_P _ _ _ t.heap; rw [ht]; exact p1, p2⟩, p3.F ht⟩⟩
theorem x_zret {x : Int} (hret : ret = some .boolean) (hd : decode cc pc = .ok (.ireturn, 1)) : XG xfh (xQ 0) own mn cc nL ret d Z pc lv [(0, x)] h (cb x (some (x, h))) := ⟨(XM.rf rfl).cb, fun X ad H locs ls cells slots hS hl hlv hst hf0 => by
  obtain ⟨hz, hf⟩ := cb_some hf0
  have hfin : (x, h) = yF Z := Option.some.inj hf
  obtain ⟨p1, p2, p3, p4, p5, p6, p7, p8⟩ := hS
  have hq : xQ 0 Z = MQ (yB Z) (xQc 0 (yD Z) (yCT Z) (yA0 Z) (yAA Z) (yH Z) (x, h)) (yA Z) (yS Z) cells slots (yAA Z) := by unfold xQ; rw [← hfin]; congr 1 <;> (first | (show xc h - xc (yH Z) = cells; omega) | (show xs h - xs (yH Z) = slots; omega))
  rw [hq]
  refine W.zret (ty := .boolean) X.hx X.hb (by rw [X.hr, hret]) (by rcases hz with rfl | rfl <;> rfl) (fun t ht hW => ?_) p3.2.2 hd X.hlk
  exact ⟨⟨I32 x, ad, rfl, ⟨rfl, hst.hd, p4, p6, p5.1, p5.2⟩, by show va_P _ _ _ t.heap; rw [ht]; exact p1, p2⟩, p3.F ht⟩⟩
theorem x_vret (hret : ret = none) (hd : decode cc pc = .ok (.return_, 1)) : XG xfh (xQ 2) own mn cc nL ret d Z pc lv [] h (some (0, h)) := ⟨XM.rf rfl, fun X ad H locs ls cells slots hS hl hlv hst hf => by
  have hfin : (0, h) = yF Z := Option.some.inj hf
  obtain ⟨p1, p2, p3, p4, p5, p6, p7, p8⟩ := hS
  have hq : xQ 2 Z = MQ (yB Z) (xQc 2 (yD Z) (yCT Z) (yA0 Z) (yAA Z) (yH Z) (0, h)) (yA Z) (yS Z) cells slots (yAA Z) := by unfold xQ; rw [← hfin]; congr 1 <;> (first | (show xc h - xc (yH Z) = cells; omega) | (show xs h - xs (yH Z) = slots; omega))
  rw [hq]
  refine W.vret X.hx X.hb (by rw [X.hr, hret]) (fun t ht hW => ?_) p3.2.2 hd X.hlk
  exact ⟨⟨ad, rfl, ⟨okX.r (Int.natCast_nonneg _), p4, p6, p5.1, p5.2⟩, by show va_P _ _ _ t.heap; rw [ht]; exact p1, p2⟩, p3.F ht⟩⟩
theorem x_aret {x : Int} {rt : FieldType} (hret : ret = some rt) (hrt : (∃ n, rt = .object n) ∨ ∃ t, rt = .array t) (hd : decode cc pc = .ok (.areturn, 1)) : XG xfh (xQ 3) own mn cc nL ret d Z pc lv [(2, x)] h (some (x, h)) := ⟨XM.rf rfl, fun X ad H locs ls cells slots hS hl hlv hst hf => by
  have hfin : (x, h) = yF Z := Option.some.inj hf
  obtain ⟨p1, p2, p3, p4, p5, p6, p7, p8⟩ := hS
  have hq : xQ 3 Z = MQ (yB Z) (xQc 3 (yD Z) (yCT Z) (yA0 Z) (yAA Z) (yH Z) (x, h)) (yA Z) (yS Z) cells slots (yAA Z) := by unfold xQ; rw [← hfin]; congr 1 <;> (first | (show xc h - xc (yH Z) = cells; omega) | (show xs h - xs (yH Z) = slots; omega))
  rw [hq]
  show W _ _ _ _ _ _ _ _ _ _ _ _ _ _ _ (F0 _ _ _ [rv ad x])
  refine W.aret X.hx X.hb (by rw [X.hr, hret]) hrt (by unfold rv; split; exact Or.inl rfl; exact Or.inr ⟨_, rfl⟩) (fun t ht hW => ?_) p3.2.2 hd X.hlk
  exact ⟨⟨ro ad x, ad, by rw [rv_ro], ⟨rfl, hst.hd, p4, p6, p5.1, p5.2⟩, by show va_P _ _ _ t.heap; rw [ht]; exact p1, p2⟩, p3.F ht⟩⟩
end RET
def xRm (d c s : Nat) : Room := { frames := d, cells := c, slots := s, locals := 64 * d }
def xPre (D : va_G) (cT : Nat → ClassId) (adF ad : Int → Nat) (sz : Nat) (h : XH) (U : State) : Prop := U.heap.size = sz ∧ va_P D gcl (xW cT ad h) U.heap ∧ va_D (fun _ => True) (xW cT ad h) ∧ va_K D gcl (xTys cT) U ∧ xFN U ∧ xFZ adF h (va_A (xW cT ad h) sz) U U.heap
def xSpec (l : Launch) (y : MethodName) (cc : ByteArray) (nL : Nat) (ret : Option FieldType) (d rk : Nat) (avs : List AV) (h : XH) (fin : XR) : Prop :=
  ∀ (D : va_G) (cT : Nat → ClassId) (adF ad : Int → Nat) (sz : Nat), (∀ a : Int, a < 0 → ad a = adF a) → Met l y (ws_ y cc nL ret) (xRm d (xc fin.2 - xc h) (xs fin.2 - xs h)) (va_Pc (avs.map (cX ad)) (xPre D cT adF ad sz h)) (xQc rk D cT ad (va_A (xW cT ad h) sz) h fin) (xc fin.2 - xc h) (xs fin.2 - xs h) (va_A (xW cT ad h) sz)
theorem xPre_blind {avs : List Value} {D : va_G} {cT : Nat → ClassId} {adF ad : Int → Nat} {sz : Nat} {h : XH} : FrameBlind (va_Pc avs (xPre D cT adF ad sz h)) := fun a U g mk q => by
  obtain ⟨q1, q2, q3, q4, q5, q6, q7⟩ := q
  exact ⟨q1, q2, q3, q4, va_K.moved (u := U) (U := U.calling g mk a) (Vm.Alike.refl U.vm) q5, xFN.same (u := U) rfl q6, xFZ.same (u := U) (U := U.calling g mk a) rfl q7⟩
theorem cat_sumX {ad : Int → Nat} {st : List AV} (h : (st.map fun v => if v.1 = 1 then 2 else 1).sum ≤ 8) : ((st.map (cX ad)).map fun v => v.category).sum ≤ 8 := by
  rw [List.map_map]
  have e : (Value.category ∘ cX ad) = fun v : AV => if v.1 = 1 then 2 else 1 := by
    funext v
    match v with
    | (0, x) => rfl
    | (1, x) => rfl
    | (n + 2, x) =>
      show (rv ad x).category = _
      rw [rv_cat]; rfl
  show (st.map (Value.category ∘ cX ad)).sum ≤ 8
  rw [e]; exact h
theorem okXs.app {N : Nat} {a b : List AV} (h : okXs N (a ++ b)) : okXs N a ∧ okXs N b := ⟨fun v q => h v (List.mem_append_left _ q), fun v q => h v (List.mem_append_right _ q)⟩
theorem okXs.rev {N : Nat} {a : List AV} (h : okXs N a.reverse) : okXs N a := fun v q => h v (List.mem_reverse.mpr q)
section CALLS
variable {ρ : Type} {fh : ρ → XH} {QQ : XZ ρ → State → Prop} {own mn : String} {cc : ByteArray} {nL : Nat} {ret : Option FieldType} {d : Nat} {Z : XZ ρ} {pc : Nat} {lv : List (Nat × AV)} {st st0 : List AV} {h : XH} {f : Option XR} {g : Int → XH → Option ρ}
theorem XM.mb (hf : XM xfh h f) (hg : ∀ r h1, XM fh h1 (g r h1)) : XM fh h (mb f g) := fun fin q => by
  obtain ⟨r, h1, e1, e2⟩ := mb_eq q
  obtain ⟨a1, a2, a3⟩ := hf (r, h1) e1
  obtain ⟨b1, b2, b3⟩ := hg r h1 fin e2
  exact ⟨Nat.le_trans a1 b1, Nat.le_trans a2 b2, Nat.le_trans a3 b3⟩
/-- what a callee asks for, out of the caller's state -/
theorem x_pre {ad : Int → Nat} {H : Heap} {locs : List Loc} {cells slots : Nat} (X : XX fh own mn cc nL ret d Z) (hS : XS Z h ad H locs cells slots) {U : State} (hU : U.heap = H) (hW : (yS Z).WarmedH U.vm) : xPre (yD Z) (yCT Z) (yAF Z) ad H.size h U := by
  obtain ⟨p1, p2, p3, p4, p5, p6, p7, p8⟩ := hS
  refine ⟨by rw [hU], by rw [hU]; exact p1, p2.weaken (fun _ _ _ _ => trivial), va_K.moved hW.alike X.hK, X.hN.warm hW, ?_⟩
  rw [hU]
  have h1 := ((X.hZ.heap p5.2).kept (H1 := H) (fun a ha hn => p3.2.1 a ha hn)).moved (U := U) hW
  refine h1.narrow (fun q hq => ?_)
  rcases hq with ⟨k, e, hk⟩ | hq
  · exact p2.2 k (q, e) hk
  · exact X.hA q (Nat.le_trans p3.1 hq)
theorem x_negs {ad : Int → Nat} {H : Heap} {locs : List Loc} {cells slots : Nat} (X : XX fh own mn cc nL ret d Z) (hS : XS Z h ad H locs cells slots) : ∀ a : Int, a < 0 → ad a = yAF Z a := fun a ha => by
  rw [hS.2.2.2.2.1.1 a (by omega)]; exact X.hF a ha
theorem x_subA {ad : Int → Nat} {H : Heap} {locs : List Loc} {cells slots : Nat} (X : XX fh own mn cc nL ret d Z) (hS : XS Z h ad H locs cells slots) : ∀ q, va_A (xW (yCT Z) ad h) H.size q → yAA Z q := fun q hq => by
  rcases hq with ⟨k, e, hk⟩ | hq
  · exact hS.2.1.2 k (q, e) hk
  · exact X.hA q (Nat.le_trans hS.2.2.1.1 hq)
/-- behind a call: the state, the locals, the stack -/
theorem x_back {ad u : Int → Nat} {H H1 : Heap} {locs locs1 : List Loc} {ls : Array Slot} {cells slots : Nat} {tag : Nat} {fin : XR} {t : State} (X : XX fh own mn cc nL ret d Z) (hS : XS Z h ad H locs cells slots) (hl : lv_has ls (yC Z).maxLocals (lv.map (cX1 ad))) (hlv : okXl (xn h) lv) (hst : okXs (xn h) st) (hm : xc h ≤ xc fin.2 ∧ xs h ≤ xs fin.2 ∧ xn h ≤ xn fin.2) (hr : okRes tag ad h fin u) (hB : okB (yD Z) (yCT Z) (va_A (xW (yCT Z) ad h) H.size) fin u t) (ht : t.heap = H1) (hS1 : va_S (yAA Z) (yS Z).heap H1 locs1) :
    XS Z fin.2 u H1 locs1 (cells + (xc fin.2 - xc h)) (slots + (xs fin.2 - xs h)) ∧ lv_has ls (yC Z).maxLocals (lv.map (cX1 u)) ∧ okXl (xn fin.2) lv ∧ okXs (xn fin.2) st ∧ st.map (cX u) = st.map (cX ad) := by
  obtain ⟨r1, r2, r3, r4, r5⟩ := hr
  obtain ⟨b1, b2⟩ := hB
  have hsub := x_subA X hS
  obtain ⟨p1, p2, p3, p4, p5, p6, p7, p8⟩ := hS
  refine ⟨⟨by rw [← ht]; exact b1, b2.weaken (fun _ q _ hq => hsub q.1 hq), hS1, r2, ⟨fun a e => ?_, fun a j ha => by rw [r5 a j ha]; exact p5.2 a j ha⟩, by omega, by omega, by omega⟩, ?_, hlv.up r3, hst.up r3, List.map_congr_left fun q0 hq0 => cX_cong r4 (hst q0 hq0)⟩
  · rw [r4 a (by omega)]; exact p5.1 a e
  · have : lv.map (cX1 u) = lv.map (cX1 ad) := List.map_congr_left fun q0 hq0 => by unfold cX1; rw [cX_cong r4 (hlv q0 hq0)]
    rw [this]; exact hl
/-- a constructor's receiver is there -/
def pz {β : Type} (a : Int) (r : Option β) : Option β := if a ≠ 0 then r else none
theorem pz_some {β : Type} {a : Int} {r : Option β} {b : β} (q : pz a r = some b) : a ≠ 0 ∧ r = some b := by
  unfold pz at q; split at q
  · rename_i e; exact ⟨e, q⟩
  · cases q
theorem pz_ok {β : Type} {a : Int} {r : Option β} (e : a ≠ 0) : pz a r = r := if_pos e
theorem XM.pz {ρ : Type} {fh : ρ → XH} {h : XH} {a : Int} {r : Option ρ} (k : XM fh h r) : XM fh h (pz a r) := fun fin hf => k fin (pz_some hf).2
theorem x_callVi {y : MethodName} {cy : ByteArray} {ny dy ix : Nat} {ry : Option FieldType} {b : Int} (args : List AV) (n : Nat) (hm : XM xfh h f) (hM : okH h → okXs (xn h) ((2, b) :: args) → ∀ fin, f = some fin → xSpec (yL Z) y cy ny ry dy 0 ((2, b) :: args) h fin) (C : String) (ci : Nat) {T : u_T} {N : Nat} (hc : gcl[ci]? = some (C, T, N)) (hci : ci < 100) (hw : GoodIn lw_all (wsV own ix C y (ws_ y cy ny ry))) (hd : y.cls = C ∧ y.cls ≠ "java/lang/invoke/MethodHandle" ∧ y.cls ≠ "java/lang/invoke/VarHandle" ∧ (parseMethodDescriptor y.desc).map (fun d => d.parameters.length) = some n) (hn : args.length = n) (hdd : dy + 1 ≤ d) (hny : ny ≤ 40) (hs0 : st0 = args.reverse ++ (2, b) :: st) (hcat : (st.map fun v => if v.1 = 1 then 2 else 1).sum ≤ 8) (hdg : decode cc pc = .ok (.invokevirtual ix, 3)) (kk : ∀ r h1, XG fh QQ own mn cc nL ret d Z (pc + 3) lv ((0, r) :: st) h1 (g r h1)) : XG fh QQ own mn cc nL ret d Z pc lv st0 h (ob h b ci (mb f g)) := ⟨(XM.mb hm (fun r h1 => (kk r h1).1)).ob, fun X ad H locs ls cells slots hS hl hlv hst hf9 => by
  obtain ⟨o1, o2, o3, hf0⟩ := ob_some hf9
  obtain ⟨r, h1, hf1, hf⟩ := mb_eq hf0
  subst hs0
  have ho := hst.app
  have hst2 : okXs (xn h) st := ho.2.t
  have hoa : okXs (xn h) ((2, b) :: args) := ho.1.rev.c ho.2.hd
  have hmc := hm (r, h1) hf1
  have hmf := (kk r h1).1 (yF Z) hf
  dsimp only [xfh] at hmc
  have hMM := hM hS.okh hoa (r, h1) hf1 (yD Z) (yCT Z) (yAF Z) ad H.size (x_negs X hS)
  have hroom : (xRm dy (xc h1 - xc h) (xs h1 - xs h)).frames + 1 ≤ (yR Z).frames ∧ 8 + (ny + 11) + (xRm dy (xc h1 - xc h) (xs h1 - xs h)).locals ≤ (yR Z).locals := by rw [X.hR]; exact ⟨hdd, by show 8 + (ny + 11) + 64 * dy ≤ 64 * d; omega⟩
  have hcw : CallW (yR Z) (yS Z) (yA Z) own C ix y cy ny ry (ws_ y cy ny ry) (xRm dy (xc h1 - xc h) (xs h1 - xs h)) (xc h1 - xc h) (xs h1 - xs h) n := cwV n X.hts hw rfl rfl rfl hd hroom
  have hcnt : cells + (xc h1 - xc h) ≤ (yR Z).cells ∧ slots + (xs h1 - xs h) ≤ (yR Z).slots := by
    have p7 := hS.2.2.2.2.2.2.1
    have p8 := hS.2.2.2.2.2.2.2
    rw [X.hR]
    exact ⟨by show _ ≤ xc (fh (yF Z)) - xc (yH Z); omega, by show _ ≤ xs (fh (yF Z)) - xs (yH Z); omega⟩
  have hrb : cX ad (2, b) = .ref (ad b) := by show rv ad b = _; unfold rv; rw [if_neg (by omega)]
  have hstk : ((args.reverse ++ (2, b) :: st).map (cX ad)) = (args.map (cX ad)).reverse ++ .ref (ad b) :: st.map (cX ad) := by rw [List.map_append, List.map_reverse, List.map_cons, hrb]
  have hq := xW_at (cT := yCT Z) (ad := ad) o1 o2
  rw [xcell_o o3 hci] at hq
  refine va_calli (A1 := va_A (xW (yCT Z) ad h) H.size) (va_runV (As := args.map (cX ad)) (rest := st.map (cX ad)) (b := ad b) ⟨X.hx, X.hb, X.hml, X.hown, X.hts⟩ hMM hcw ⟨xPre_blind, va_recv X.hK hS.hP hc hq, fun U hU hW => ⟨by rw [List.map_cons, hrb], x_pre X hS hU hW⟩⟩ rfl (by rw [List.length_map]; exact hn) (hl.1.trans X.hml) hstk (lv_room (cat_sumX hcat)) hdg hcnt) hS.hS (fun q _ hq => x_subA X hS q hq) (fun q hq => x_subA X hS q hq) ?_
  intro r' u t H1 locs1 ht hvm hpost hB hsz hkeep hS1
  obtain ⟨hr, hres⟩ := hpost
  obtain ⟨g1, g2, g3, g4, g5⟩ := x_back (fin := (r, h1)) X hS hl hlv hst2 hmc hres hB ht hS1
  have h9 := (kk r h1).2 X u H1 locs1 ls _ _ g1 g2 g3 (g4.c hres.1) hf
  rw [List.map_cons, g5] at h9
  rw [show r' = _ from hr]
  exact h9⟩
theorem x_callVl {y : MethodName} {cy : ByteArray} {ny dy ix : Nat} {ry : Option FieldType} {b : Int} (args : List AV) (n : Nat) (hm : XM xfh h f) (hM : okH h → okXs (xn h) ((2, b) :: args) → ∀ fin, f = some fin → xSpec (yL Z) y cy ny ry dy 1 ((2, b) :: args) h fin) (C : String) (ci : Nat) {T : u_T} {N : Nat} (hc : gcl[ci]? = some (C, T, N)) (hci : ci < 100) (hw : GoodIn lw_all (wsV own ix C y (ws_ y cy ny ry))) (hd : y.cls = C ∧ y.cls ≠ "java/lang/invoke/MethodHandle" ∧ y.cls ≠ "java/lang/invoke/VarHandle" ∧ (parseMethodDescriptor y.desc).map (fun d => d.parameters.length) = some n) (hn : args.length = n) (hdd : dy + 1 ≤ d) (hny : ny ≤ 40) (hs0 : st0 = args.reverse ++ (2, b) :: st) (hcat : (st.map fun v => if v.1 = 1 then 2 else 1).sum ≤ 8) (hdg : decode cc pc = .ok (.invokevirtual ix, 3)) (kk : ∀ r h1, XG fh QQ own mn cc nL ret d Z (pc + 3) lv ((1, r) :: st) h1 (g r h1)) : XG fh QQ own mn cc nL ret d Z pc lv st0 h (ob h b ci (mb f g)) := ⟨(XM.mb hm (fun r h1 => (kk r h1).1)).ob, fun X ad H locs ls cells slots hS hl hlv hst hf9 => by
  obtain ⟨o1, o2, o3, hf0⟩ := ob_some hf9
  obtain ⟨r, h1, hf1, hf⟩ := mb_eq hf0
  subst hs0
  have ho := hst.app
  have hst2 : okXs (xn h) st := ho.2.t
  have hoa : okXs (xn h) ((2, b) :: args) := ho.1.rev.c ho.2.hd
  have hmc := hm (r, h1) hf1
  have hmf := (kk r h1).1 (yF Z) hf
  dsimp only [xfh] at hmc
  have hMM := hM hS.okh hoa (r, h1) hf1 (yD Z) (yCT Z) (yAF Z) ad H.size (x_negs X hS)
  have hroom : (xRm dy (xc h1 - xc h) (xs h1 - xs h)).frames + 1 ≤ (yR Z).frames ∧ 8 + (ny + 11) + (xRm dy (xc h1 - xc h) (xs h1 - xs h)).locals ≤ (yR Z).locals := by rw [X.hR]; exact ⟨hdd, by show 8 + (ny + 11) + 64 * dy ≤ 64 * d; omega⟩
  have hcw : CallW (yR Z) (yS Z) (yA Z) own C ix y cy ny ry (ws_ y cy ny ry) (xRm dy (xc h1 - xc h) (xs h1 - xs h)) (xc h1 - xc h) (xs h1 - xs h) n := cwV n X.hts hw rfl rfl rfl hd hroom
  have hcnt : cells + (xc h1 - xc h) ≤ (yR Z).cells ∧ slots + (xs h1 - xs h) ≤ (yR Z).slots := by
    have p7 := hS.2.2.2.2.2.2.1
    have p8 := hS.2.2.2.2.2.2.2
    rw [X.hR]
    exact ⟨by show _ ≤ xc (fh (yF Z)) - xc (yH Z); omega, by show _ ≤ xs (fh (yF Z)) - xs (yH Z); omega⟩
  have hrb : cX ad (2, b) = .ref (ad b) := by show rv ad b = _; unfold rv; rw [if_neg (by omega)]
  have hstk : ((args.reverse ++ (2, b) :: st).map (cX ad)) = (args.map (cX ad)).reverse ++ .ref (ad b) :: st.map (cX ad) := by rw [List.map_append, List.map_reverse, List.map_cons, hrb]
  have hq := xW_at (cT := yCT Z) (ad := ad) o1 o2
  rw [xcell_o o3 hci] at hq
  refine va_calll (A1 := va_A (xW (yCT Z) ad h) H.size) (va_runV (As := args.map (cX ad)) (rest := st.map (cX ad)) (b := ad b) ⟨X.hx, X.hb, X.hml, X.hown, X.hts⟩ hMM hcw ⟨xPre_blind, va_recv X.hK hS.hP hc hq, fun U hU hW => ⟨by rw [List.map_cons, hrb], x_pre X hS hU hW⟩⟩ rfl (by rw [List.length_map]; exact hn) (hl.1.trans X.hml) hstk (lv_room (cat_sumX hcat)) hdg hcnt) hS.hS (fun q _ hq => x_subA X hS q hq) (fun q hq => x_subA X hS q hq) ?_
  intro r' u t H1 locs1 ht hvm hpost hB hsz hkeep hS1
  obtain ⟨hr, hres⟩ := hpost
  obtain ⟨g1, g2, g3, g4, g5⟩ := x_back (fin := (r, h1)) X hS hl hlv hst2 hmc hres hB ht hS1
  have h9 := (kk r h1).2 X u H1 locs1 ls _ _ g1 g2 g3 (g4.c hres.1) hf
  rw [List.map_cons, g5] at h9
  rw [show r' = _ from hr]
  exact h9⟩
theorem x_callVv {y : MethodName} {cy : ByteArray} {ny dy ix : Nat} {ry : Option FieldType} {b : Int} (args : List AV) (n : Nat) (hm : XM xfh h f) (hM : okH h → okXs (xn h) ((2, b) :: args) → ∀ fin, f = some fin → xSpec (yL Z) y cy ny ry dy 2 ((2, b) :: args) h fin) (C : String) (ci : Nat) {T : u_T} {N : Nat} (hc : gcl[ci]? = some (C, T, N)) (hci : ci < 100) (hw : GoodIn lw_all (wsV own ix C y (ws_ y cy ny ry))) (hd : y.cls = C ∧ y.cls ≠ "java/lang/invoke/MethodHandle" ∧ y.cls ≠ "java/lang/invoke/VarHandle" ∧ (parseMethodDescriptor y.desc).map (fun d => d.parameters.length) = some n) (hn : args.length = n) (hdd : dy + 1 ≤ d) (hny : ny ≤ 40) (hs0 : st0 = args.reverse ++ (2, b) :: st) (hcat : (st.map fun v => if v.1 = 1 then 2 else 1).sum ≤ 8) (hdg : decode cc pc = .ok (.invokevirtual ix, 3)) (kk : ∀ r h1, XG fh QQ own mn cc nL ret d Z (pc + 3) lv st h1 (g r h1)) : XG fh QQ own mn cc nL ret d Z pc lv st0 h (ob h b ci (mb f g)) := ⟨(XM.mb hm (fun r h1 => (kk r h1).1)).ob, fun X ad H locs ls cells slots hS hl hlv hst hf9 => by
  obtain ⟨o1, o2, o3, hf0⟩ := ob_some hf9
  obtain ⟨r, h1, hf1, hf⟩ := mb_eq hf0
  subst hs0
  have ho := hst.app
  have hst2 : okXs (xn h) st := ho.2.t
  have hoa : okXs (xn h) ((2, b) :: args) := ho.1.rev.c ho.2.hd
  have hmc := hm (r, h1) hf1
  have hmf := (kk r h1).1 (yF Z) hf
  dsimp only [xfh] at hmc
  have hMM := hM hS.okh hoa (r, h1) hf1 (yD Z) (yCT Z) (yAF Z) ad H.size (x_negs X hS)
  have hroom : (xRm dy (xc h1 - xc h) (xs h1 - xs h)).frames + 1 ≤ (yR Z).frames ∧ 8 + (ny + 11) + (xRm dy (xc h1 - xc h) (xs h1 - xs h)).locals ≤ (yR Z).locals := by rw [X.hR]; exact ⟨hdd, by show 8 + (ny + 11) + 64 * dy ≤ 64 * d; omega⟩
  have hcw : CallW (yR Z) (yS Z) (yA Z) own C ix y cy ny ry (ws_ y cy ny ry) (xRm dy (xc h1 - xc h) (xs h1 - xs h)) (xc h1 - xc h) (xs h1 - xs h) n := cwV n X.hts hw rfl rfl rfl hd hroom
  have hcnt : cells + (xc h1 - xc h) ≤ (yR Z).cells ∧ slots + (xs h1 - xs h) ≤ (yR Z).slots := by
    have p7 := hS.2.2.2.2.2.2.1
    have p8 := hS.2.2.2.2.2.2.2
    rw [X.hR]
    exact ⟨by show _ ≤ xc (fh (yF Z)) - xc (yH Z); omega, by show _ ≤ xs (fh (yF Z)) - xs (yH Z); omega⟩
  have hrb : cX ad (2, b) = .ref (ad b) := by show rv ad b = _; unfold rv; rw [if_neg (by omega)]
  have hstk : ((args.reverse ++ (2, b) :: st).map (cX ad)) = (args.map (cX ad)).reverse ++ .ref (ad b) :: st.map (cX ad) := by rw [List.map_append, List.map_reverse, List.map_cons, hrb]
  have hq := xW_at (cT := yCT Z) (ad := ad) o1 o2
  rw [xcell_o o3 hci] at hq
  refine va_callv (A1 := va_A (xW (yCT Z) ad h) H.size) (va_runV (As := args.map (cX ad)) (rest := st.map (cX ad)) (b := ad b) ⟨X.hx, X.hb, X.hml, X.hown, X.hts⟩ hMM hcw ⟨xPre_blind, va_recv X.hK hS.hP hc hq, fun U hU hW => ⟨by rw [List.map_cons, hrb], x_pre X hS hU hW⟩⟩ rfl (by rw [List.length_map]; exact hn) (hl.1.trans X.hml) hstk (lv_room (cat_sumX hcat)) hdg hcnt) hS.hS (fun q _ hq => x_subA X hS q hq) (fun q hq => x_subA X hS q hq) ?_
  intro u t H1 locs1 ht hvm hpost hB hsz hkeep hS1
  obtain ⟨g1, g2, g3, g4, g5⟩ := x_back (fin := (0, h1)) X hS hl hlv hst2 hmc hpost hB ht hS1
  have h9 := (kk r h1).2 X u H1 locs1 ls _ _ g1 g2 g3 g4 hf
  rw [g5] at h9
  exact h9⟩
theorem x_callVr {y : MethodName} {cy : ByteArray} {ny dy ix : Nat} {ry : Option FieldType} {b : Int} (args : List AV) (n : Nat) (hm : XM xfh h f) (hM : okH h → okXs (xn h) ((2, b) :: args) → ∀ fin, f = some fin → xSpec (yL Z) y cy ny ry dy 3 ((2, b) :: args) h fin) (C : String) (ci : Nat) {T : u_T} {N : Nat} (hc : gcl[ci]? = some (C, T, N)) (hci : ci < 100) (hw : GoodIn lw_all (wsV own ix C y (ws_ y cy ny ry))) (hd : y.cls = C ∧ y.cls ≠ "java/lang/invoke/MethodHandle" ∧ y.cls ≠ "java/lang/invoke/VarHandle" ∧ (parseMethodDescriptor y.desc).map (fun d => d.parameters.length) = some n) (hn : args.length = n) (hdd : dy + 1 ≤ d) (hny : ny ≤ 40) (hs0 : st0 = args.reverse ++ (2, b) :: st) (hcat : (st.map fun v => if v.1 = 1 then 2 else 1).sum ≤ 8) (hdg : decode cc pc = .ok (.invokevirtual ix, 3)) (kk : ∀ r h1, XG fh QQ own mn cc nL ret d Z (pc + 3) lv ((2, r) :: st) h1 (g r h1)) : XG fh QQ own mn cc nL ret d Z pc lv st0 h (ob h b ci (mb f g)) := ⟨(XM.mb hm (fun r h1 => (kk r h1).1)).ob, fun X ad H locs ls cells slots hS hl hlv hst hf9 => by
  obtain ⟨o1, o2, o3, hf0⟩ := ob_some hf9
  obtain ⟨r, h1, hf1, hf⟩ := mb_eq hf0
  subst hs0
  have ho := hst.app
  have hst2 : okXs (xn h) st := ho.2.t
  have hoa : okXs (xn h) ((2, b) :: args) := ho.1.rev.c ho.2.hd
  have hmc := hm (r, h1) hf1
  have hmf := (kk r h1).1 (yF Z) hf
  dsimp only [xfh] at hmc
  have hMM := hM hS.okh hoa (r, h1) hf1 (yD Z) (yCT Z) (yAF Z) ad H.size (x_negs X hS)
  have hroom : (xRm dy (xc h1 - xc h) (xs h1 - xs h)).frames + 1 ≤ (yR Z).frames ∧ 8 + (ny + 11) + (xRm dy (xc h1 - xc h) (xs h1 - xs h)).locals ≤ (yR Z).locals := by rw [X.hR]; exact ⟨hdd, by show 8 + (ny + 11) + 64 * dy ≤ 64 * d; omega⟩
  have hcw : CallW (yR Z) (yS Z) (yA Z) own C ix y cy ny ry (ws_ y cy ny ry) (xRm dy (xc h1 - xc h) (xs h1 - xs h)) (xc h1 - xc h) (xs h1 - xs h) n := cwV n X.hts hw rfl rfl rfl hd hroom
  have hcnt : cells + (xc h1 - xc h) ≤ (yR Z).cells ∧ slots + (xs h1 - xs h) ≤ (yR Z).slots := by
    have p7 := hS.2.2.2.2.2.2.1
    have p8 := hS.2.2.2.2.2.2.2
    rw [X.hR]
    exact ⟨by show _ ≤ xc (fh (yF Z)) - xc (yH Z); omega, by show _ ≤ xs (fh (yF Z)) - xs (yH Z); omega⟩
  have hrb : cX ad (2, b) = .ref (ad b) := by show rv ad b = _; unfold rv; rw [if_neg (by omega)]
  have hstk : ((args.reverse ++ (2, b) :: st).map (cX ad)) = (args.map (cX ad)).reverse ++ .ref (ad b) :: st.map (cX ad) := by rw [List.map_append, List.map_reverse, List.map_cons, hrb]
  have hq := xW_at (cT := yCT Z) (ad := ad) o1 o2
  rw [xcell_o o3 hci] at hq
  refine va_callq (A1 := va_A (xW (yCT Z) ad h) H.size) (va_runV (As := args.map (cX ad)) (rest := st.map (cX ad)) (b := ad b) ⟨X.hx, X.hb, X.hml, X.hown, X.hts⟩ hMM hcw ⟨xPre_blind, va_recv X.hK hS.hP hc hq, fun U hU hW => ⟨by rw [List.map_cons, hrb], x_pre X hS hU hW⟩⟩ rfl (by rw [List.length_map]; exact hn) (hl.1.trans X.hml) hstk (lv_room (cat_sumX hcat)) hdg hcnt) hS.hS (fun q _ hq => x_subA X hS q hq) (fun q hq => x_subA X hS q hq) ?_
  intro r' u t H1 locs1 ht hvm hpost hB hsz hkeep hS1
  obtain ⟨hr, hres⟩ := hpost
  obtain ⟨g1, g2, g3, g4, g5⟩ := x_back (fin := (r, h1)) X hS hl hlv hst2 hmc hres hB ht hS1
  have h9 := (kk r h1).2 X u H1 locs1 ls _ _ g1 g2 g3 (g4.c hres.1) hf
  rw [List.map_cons, g5] at h9
  rw [show r' = _ from hr, rv_ro]
  exact h9⟩
theorem x_callPi {y : MethodName} {cy : ByteArray} {ny dy ix : Nat} {ry : Option FieldType} {b : Int} (args : List AV) (n : Nat) (hm : XM xfh h f) (hM : okH h → okXs (xn h) ((2, b) :: args) → ∀ fin, f = some fin → xSpec (yL Z) y cy ny ry dy 0 ((2, b) :: args) h fin) {host : String} (C : String) (ci : Nat) {T : u_T} {N : Nat} (hc : gcl[ci]? = some (C, T, N)) (hci : ci < 100) (hnl : Cond.methodLinkNest own ix y host ∈ lw_tbl) (hini : Cond.initialized y.cls ∈ lw_all) (hin : Cond.instanceMethod y ∈ lw_all) (hse : Cond.selects C y y ∈ lw_all) (hG : GoodIn lw_all (ws_ y cy ny ry)) (hd : y.cls ≠ "java/lang/invoke/MethodHandle" ∧ y.cls ≠ "java/lang/invoke/VarHandle" ∧ (parseMethodDescriptor y.desc).map (fun d => d.parameters.length) = some n) (hn : args.length = n) (hdd : dy + 1 ≤ d) (hny : ny ≤ 40) (hs0 : st0 = args.reverse ++ (2, b) :: st) (hcat : (st.map fun v => if v.1 = 1 then 2 else 1).sum ≤ 8) (hdg : decode cc pc = .ok (.invokevirtual ix, 3)) (kk : ∀ r h1, XG fh QQ own mn cc nL ret d Z (pc + 3) lv ((0, r) :: st) h1 (g r h1)) : XG fh QQ own mn cc nL ret d Z pc lv st0 h (ob h b ci (mb f g)) := ⟨(XM.mb hm (fun r h1 => (kk r h1).1)).ob, fun X ad H locs ls cells slots hS hl hlv hst hf9 => by
  obtain ⟨o1, o2, o3, hf0⟩ := ob_some hf9
  obtain ⟨r, h1, hf1, hf⟩ := mb_eq hf0
  subst hs0
  have ho := hst.app
  have hst2 : okXs (xn h) st := ho.2.t
  have hoa : okXs (xn h) ((2, b) :: args) := ho.1.rev.c ho.2.hd
  have hmc := hm (r, h1) hf1
  have hmf := (kk r h1).1 (yF Z) hf
  dsimp only [xfh] at hmc
  have hMM := hM hS.okh hoa (r, h1) hf1 (yD Z) (yCT Z) (yAF Z) ad H.size (x_negs X hS)
  have hroom : (xRm dy (xc h1 - xc h) (xs h1 - xs h)).frames + 1 ≤ (yR Z).frames ∧ 8 + (ny + 11) + (xRm dy (xc h1 - xc h) (xs h1 - xs h)).locals ≤ (yR Z).locals := by rw [X.hR]; exact ⟨hdd, by show 8 + (ny + 11) + 64 * dy ≤ 64 * d; omega⟩
  have hcw := And.intro (va_cnB (R := yR Z) (s := yS Z) (args := yA Z) (own := own) (mc := xc h1 - xc h) (ms := xs h1 - xs h) (rm := xRm dy (xc h1 - xc h) (xs h1 - xs h)) n X.hts hG rfl rfl rfl (X.hN.use hnl rfl) (X.hts _ hini) hd hroom) (And.intro (X.hts _ hin) (X.hts _ hse))
  have hcnt : cells + (xc h1 - xc h) ≤ (yR Z).cells ∧ slots + (xs h1 - xs h) ≤ (yR Z).slots := by
    have p7 := hS.2.2.2.2.2.2.1
    have p8 := hS.2.2.2.2.2.2.2
    rw [X.hR]
    exact ⟨by show _ ≤ xc (fh (yF Z)) - xc (yH Z); omega, by show _ ≤ xs (fh (yF Z)) - xs (yH Z); omega⟩
  have hrb : cX ad (2, b) = .ref (ad b) := by show rv ad b = _; unfold rv; rw [if_neg (by omega)]
  have hstk : ((args.reverse ++ (2, b) :: st).map (cX ad)) = (args.map (cX ad)).reverse ++ .ref (ad b) :: st.map (cX ad) := by rw [List.map_append, List.map_reverse, List.map_cons, hrb]
  have hq := xW_at (cT := yCT Z) (ad := ad) o1 o2
  rw [xcell_o o3 hci] at hq
  refine va_calli (A1 := va_A (xW (yCT Z) ad h) H.size) (va_runVN (As := args.map (cX ad)) (rest := st.map (cX ad)) (b := ad b) ⟨X.hx, X.hb, X.hml, X.hown, X.hts⟩ hMM hcw ⟨xPre_blind, va_recv X.hK hS.hP hc hq, fun U hU hW => ⟨by rw [List.map_cons, hrb], x_pre X hS hU hW⟩⟩ rfl (by rw [List.length_map]; exact hn) (hl.1.trans X.hml) hstk (lv_room (cat_sumX hcat)) hdg hcnt) hS.hS (fun q _ hq => x_subA X hS q hq) (fun q hq => x_subA X hS q hq) ?_
  intro r' u t H1 locs1 ht hvm hpost hB hsz hkeep hS1
  obtain ⟨hr, hres⟩ := hpost
  obtain ⟨g1, g2, g3, g4, g5⟩ := x_back (fin := (r, h1)) X hS hl hlv hst2 hmc hres hB ht hS1
  have h9 := (kk r h1).2 X u H1 locs1 ls _ _ g1 g2 g3 (g4.c hres.1) hf
  rw [List.map_cons, g5] at h9
  rw [show r' = _ from hr]
  exact h9⟩
theorem x_callPl {y : MethodName} {cy : ByteArray} {ny dy ix : Nat} {ry : Option FieldType} {b : Int} (args : List AV) (n : Nat) (hm : XM xfh h f) (hM : okH h → okXs (xn h) ((2, b) :: args) → ∀ fin, f = some fin → xSpec (yL Z) y cy ny ry dy 1 ((2, b) :: args) h fin) {host : String} (C : String) (ci : Nat) {T : u_T} {N : Nat} (hc : gcl[ci]? = some (C, T, N)) (hci : ci < 100) (hnl : Cond.methodLinkNest own ix y host ∈ lw_tbl) (hini : Cond.initialized y.cls ∈ lw_all) (hin : Cond.instanceMethod y ∈ lw_all) (hse : Cond.selects C y y ∈ lw_all) (hG : GoodIn lw_all (ws_ y cy ny ry)) (hd : y.cls ≠ "java/lang/invoke/MethodHandle" ∧ y.cls ≠ "java/lang/invoke/VarHandle" ∧ (parseMethodDescriptor y.desc).map (fun d => d.parameters.length) = some n) (hn : args.length = n) (hdd : dy + 1 ≤ d) (hny : ny ≤ 40) (hs0 : st0 = args.reverse ++ (2, b) :: st) (hcat : (st.map fun v => if v.1 = 1 then 2 else 1).sum ≤ 8) (hdg : decode cc pc = .ok (.invokevirtual ix, 3)) (kk : ∀ r h1, XG fh QQ own mn cc nL ret d Z (pc + 3) lv ((1, r) :: st) h1 (g r h1)) : XG fh QQ own mn cc nL ret d Z pc lv st0 h (ob h b ci (mb f g)) := ⟨(XM.mb hm (fun r h1 => (kk r h1).1)).ob, fun X ad H locs ls cells slots hS hl hlv hst hf9 => by
  obtain ⟨o1, o2, o3, hf0⟩ := ob_some hf9
  obtain ⟨r, h1, hf1, hf⟩ := mb_eq hf0
  subst hs0
  have ho := hst.app
  have hst2 : okXs (xn h) st := ho.2.t
  have hoa : okXs (xn h) ((2, b) :: args) := ho.1.rev.c ho.2.hd
  have hmc := hm (r, h1) hf1
  have hmf := (kk r h1).1 (yF Z) hf
  dsimp only [xfh] at hmc
  have hMM := hM hS.okh hoa (r, h1) hf1 (yD Z) (yCT Z) (yAF Z) ad H.size (x_negs X hS)
  have hroom : (xRm dy (xc h1 - xc h) (xs h1 - xs h)).frames + 1 ≤ (yR Z).frames ∧ 8 + (ny + 11) + (xRm dy (xc h1 - xc h) (xs h1 - xs h)).locals ≤ (yR Z).locals := by rw [X.hR]; exact ⟨hdd, by show 8 + (ny + 11) + 64 * dy ≤ 64 * d; omega⟩
  have hcw := And.intro (va_cnB (R := yR Z) (s := yS Z) (args := yA Z) (own := own) (mc := xc h1 - xc h) (ms := xs h1 - xs h) (rm := xRm dy (xc h1 - xc h) (xs h1 - xs h)) n X.hts hG rfl rfl rfl (X.hN.use hnl rfl) (X.hts _ hini) hd hroom) (And.intro (X.hts _ hin) (X.hts _ hse))
  have hcnt : cells + (xc h1 - xc h) ≤ (yR Z).cells ∧ slots + (xs h1 - xs h) ≤ (yR Z).slots := by
    have p7 := hS.2.2.2.2.2.2.1
    have p8 := hS.2.2.2.2.2.2.2
    rw [X.hR]
    exact ⟨by show _ ≤ xc (fh (yF Z)) - xc (yH Z); omega, by show _ ≤ xs (fh (yF Z)) - xs (yH Z); omega⟩
  have hrb : cX ad (2, b) = .ref (ad b) := by show rv ad b = _; unfold rv; rw [if_neg (by omega)]
  have hstk : ((args.reverse ++ (2, b) :: st).map (cX ad)) = (args.map (cX ad)).reverse ++ .ref (ad b) :: st.map (cX ad) := by rw [List.map_append, List.map_reverse, List.map_cons, hrb]
  have hq := xW_at (cT := yCT Z) (ad := ad) o1 o2
  rw [xcell_o o3 hci] at hq
  refine va_calll (A1 := va_A (xW (yCT Z) ad h) H.size) (va_runVN (As := args.map (cX ad)) (rest := st.map (cX ad)) (b := ad b) ⟨X.hx, X.hb, X.hml, X.hown, X.hts⟩ hMM hcw ⟨xPre_blind, va_recv X.hK hS.hP hc hq, fun U hU hW => ⟨by rw [List.map_cons, hrb], x_pre X hS hU hW⟩⟩ rfl (by rw [List.length_map]; exact hn) (hl.1.trans X.hml) hstk (lv_room (cat_sumX hcat)) hdg hcnt) hS.hS (fun q _ hq => x_subA X hS q hq) (fun q hq => x_subA X hS q hq) ?_
  intro r' u t H1 locs1 ht hvm hpost hB hsz hkeep hS1
  obtain ⟨hr, hres⟩ := hpost
  obtain ⟨g1, g2, g3, g4, g5⟩ := x_back (fin := (r, h1)) X hS hl hlv hst2 hmc hres hB ht hS1
  have h9 := (kk r h1).2 X u H1 locs1 ls _ _ g1 g2 g3 (g4.c hres.1) hf
  rw [List.map_cons, g5] at h9
  rw [show r' = _ from hr]
  exact h9⟩
theorem x_callPv {y : MethodName} {cy : ByteArray} {ny dy ix : Nat} {ry : Option FieldType} {b : Int} (args : List AV) (n : Nat) (hm : XM xfh h f) (hM : okH h → okXs (xn h) ((2, b) :: args) → ∀ fin, f = some fin → xSpec (yL Z) y cy ny ry dy 2 ((2, b) :: args) h fin) {host : String} (C : String) (ci : Nat) {T : u_T} {N : Nat} (hc : gcl[ci]? = some (C, T, N)) (hci : ci < 100) (hnl : Cond.methodLinkNest own ix y host ∈ lw_tbl) (hini : Cond.initialized y.cls ∈ lw_all) (hin : Cond.instanceMethod y ∈ lw_all) (hse : Cond.selects C y y ∈ lw_all) (hG : GoodIn lw_all (ws_ y cy ny ry)) (hd : y.cls ≠ "java/lang/invoke/MethodHandle" ∧ y.cls ≠ "java/lang/invoke/VarHandle" ∧ (parseMethodDescriptor y.desc).map (fun d => d.parameters.length) = some n) (hn : args.length = n) (hdd : dy + 1 ≤ d) (hny : ny ≤ 40) (hs0 : st0 = args.reverse ++ (2, b) :: st) (hcat : (st.map fun v => if v.1 = 1 then 2 else 1).sum ≤ 8) (hdg : decode cc pc = .ok (.invokevirtual ix, 3)) (kk : ∀ r h1, XG fh QQ own mn cc nL ret d Z (pc + 3) lv st h1 (g r h1)) : XG fh QQ own mn cc nL ret d Z pc lv st0 h (ob h b ci (mb f g)) := ⟨(XM.mb hm (fun r h1 => (kk r h1).1)).ob, fun X ad H locs ls cells slots hS hl hlv hst hf9 => by
  obtain ⟨o1, o2, o3, hf0⟩ := ob_some hf9
  obtain ⟨r, h1, hf1, hf⟩ := mb_eq hf0
  subst hs0
  have ho := hst.app
  have hst2 : okXs (xn h) st := ho.2.t
  have hoa : okXs (xn h) ((2, b) :: args) := ho.1.rev.c ho.2.hd
  have hmc := hm (r, h1) hf1
  have hmf := (kk r h1).1 (yF Z) hf
  dsimp only [xfh] at hmc
  have hMM := hM hS.okh hoa (r, h1) hf1 (yD Z) (yCT Z) (yAF Z) ad H.size (x_negs X hS)
  have hroom : (xRm dy (xc h1 - xc h) (xs h1 - xs h)).frames + 1 ≤ (yR Z).frames ∧ 8 + (ny + 11) + (xRm dy (xc h1 - xc h) (xs h1 - xs h)).locals ≤ (yR Z).locals := by rw [X.hR]; exact ⟨hdd, by show 8 + (ny + 11) + 64 * dy ≤ 64 * d; omega⟩
  have hcw := And.intro (va_cnB (R := yR Z) (s := yS Z) (args := yA Z) (own := own) (mc := xc h1 - xc h) (ms := xs h1 - xs h) (rm := xRm dy (xc h1 - xc h) (xs h1 - xs h)) n X.hts hG rfl rfl rfl (X.hN.use hnl rfl) (X.hts _ hini) hd hroom) (And.intro (X.hts _ hin) (X.hts _ hse))
  have hcnt : cells + (xc h1 - xc h) ≤ (yR Z).cells ∧ slots + (xs h1 - xs h) ≤ (yR Z).slots := by
    have p7 := hS.2.2.2.2.2.2.1
    have p8 := hS.2.2.2.2.2.2.2
    rw [X.hR]
    exact ⟨by show _ ≤ xc (fh (yF Z)) - xc (yH Z); omega, by show _ ≤ xs (fh (yF Z)) - xs (yH Z); omega⟩
  have hrb : cX ad (2, b) = .ref (ad b) := by show rv ad b = _; unfold rv; rw [if_neg (by omega)]
  have hstk : ((args.reverse ++ (2, b) :: st).map (cX ad)) = (args.map (cX ad)).reverse ++ .ref (ad b) :: st.map (cX ad) := by rw [List.map_append, List.map_reverse, List.map_cons, hrb]
  have hq := xW_at (cT := yCT Z) (ad := ad) o1 o2
  rw [xcell_o o3 hci] at hq
  refine va_callv (A1 := va_A (xW (yCT Z) ad h) H.size) (va_runVN (As := args.map (cX ad)) (rest := st.map (cX ad)) (b := ad b) ⟨X.hx, X.hb, X.hml, X.hown, X.hts⟩ hMM hcw ⟨xPre_blind, va_recv X.hK hS.hP hc hq, fun U hU hW => ⟨by rw [List.map_cons, hrb], x_pre X hS hU hW⟩⟩ rfl (by rw [List.length_map]; exact hn) (hl.1.trans X.hml) hstk (lv_room (cat_sumX hcat)) hdg hcnt) hS.hS (fun q _ hq => x_subA X hS q hq) (fun q hq => x_subA X hS q hq) ?_
  intro u t H1 locs1 ht hvm hpost hB hsz hkeep hS1
  obtain ⟨g1, g2, g3, g4, g5⟩ := x_back (fin := (0, h1)) X hS hl hlv hst2 hmc hpost hB ht hS1
  have h9 := (kk r h1).2 X u H1 locs1 ls _ _ g1 g2 g3 g4 hf
  rw [g5] at h9
  exact h9⟩
theorem x_callPr {y : MethodName} {cy : ByteArray} {ny dy ix : Nat} {ry : Option FieldType} {b : Int} (args : List AV) (n : Nat) (hm : XM xfh h f) (hM : okH h → okXs (xn h) ((2, b) :: args) → ∀ fin, f = some fin → xSpec (yL Z) y cy ny ry dy 3 ((2, b) :: args) h fin) {host : String} (C : String) (ci : Nat) {T : u_T} {N : Nat} (hc : gcl[ci]? = some (C, T, N)) (hci : ci < 100) (hnl : Cond.methodLinkNest own ix y host ∈ lw_tbl) (hini : Cond.initialized y.cls ∈ lw_all) (hin : Cond.instanceMethod y ∈ lw_all) (hse : Cond.selects C y y ∈ lw_all) (hG : GoodIn lw_all (ws_ y cy ny ry)) (hd : y.cls ≠ "java/lang/invoke/MethodHandle" ∧ y.cls ≠ "java/lang/invoke/VarHandle" ∧ (parseMethodDescriptor y.desc).map (fun d => d.parameters.length) = some n) (hn : args.length = n) (hdd : dy + 1 ≤ d) (hny : ny ≤ 40) (hs0 : st0 = args.reverse ++ (2, b) :: st) (hcat : (st.map fun v => if v.1 = 1 then 2 else 1).sum ≤ 8) (hdg : decode cc pc = .ok (.invokevirtual ix, 3)) (kk : ∀ r h1, XG fh QQ own mn cc nL ret d Z (pc + 3) lv ((2, r) :: st) h1 (g r h1)) : XG fh QQ own mn cc nL ret d Z pc lv st0 h (ob h b ci (mb f g)) := ⟨(XM.mb hm (fun r h1 => (kk r h1).1)).ob, fun X ad H locs ls cells slots hS hl hlv hst hf9 => by
  obtain ⟨o1, o2, o3, hf0⟩ := ob_some hf9
  obtain ⟨r, h1, hf1, hf⟩ := mb_eq hf0
  subst hs0
  have ho := hst.app
  have hst2 : okXs (xn h) st := ho.2.t
  have hoa : okXs (xn h) ((2, b) :: args) := ho.1.rev.c ho.2.hd
  have hmc := hm (r, h1) hf1
  have hmf := (kk r h1).1 (yF Z) hf
  dsimp only [xfh] at hmc
  have hMM := hM hS.okh hoa (r, h1) hf1 (yD Z) (yCT Z) (yAF Z) ad H.size (x_negs X hS)
  have hroom : (xRm dy (xc h1 - xc h) (xs h1 - xs h)).frames + 1 ≤ (yR Z).frames ∧ 8 + (ny + 11) + (xRm dy (xc h1 - xc h) (xs h1 - xs h)).locals ≤ (yR Z).locals := by rw [X.hR]; exact ⟨hdd, by show 8 + (ny + 11) + 64 * dy ≤ 64 * d; omega⟩
  have hcw := And.intro (va_cnB (R := yR Z) (s := yS Z) (args := yA Z) (own := own) (mc := xc h1 - xc h) (ms := xs h1 - xs h) (rm := xRm dy (xc h1 - xc h) (xs h1 - xs h)) n X.hts hG rfl rfl rfl (X.hN.use hnl rfl) (X.hts _ hini) hd hroom) (And.intro (X.hts _ hin) (X.hts _ hse))
  have hcnt : cells + (xc h1 - xc h) ≤ (yR Z).cells ∧ slots + (xs h1 - xs h) ≤ (yR Z).slots := by
    have p7 := hS.2.2.2.2.2.2.1
    have p8 := hS.2.2.2.2.2.2.2
    rw [X.hR]
    exact ⟨by show _ ≤ xc (fh (yF Z)) - xc (yH Z); omega, by show _ ≤ xs (fh (yF Z)) - xs (yH Z); omega⟩
  have hrb : cX ad (2, b) = .ref (ad b) := by show rv ad b = _; unfold rv; rw [if_neg (by omega)]
  have hstk : ((args.reverse ++ (2, b) :: st).map (cX ad)) = (args.map (cX ad)).reverse ++ .ref (ad b) :: st.map (cX ad) := by rw [List.map_append, List.map_reverse, List.map_cons, hrb]
  have hq := xW_at (cT := yCT Z) (ad := ad) o1 o2
  rw [xcell_o o3 hci] at hq
  refine va_callq (A1 := va_A (xW (yCT Z) ad h) H.size) (va_runVN (As := args.map (cX ad)) (rest := st.map (cX ad)) (b := ad b) ⟨X.hx, X.hb, X.hml, X.hown, X.hts⟩ hMM hcw ⟨xPre_blind, va_recv X.hK hS.hP hc hq, fun U hU hW => ⟨by rw [List.map_cons, hrb], x_pre X hS hU hW⟩⟩ rfl (by rw [List.length_map]; exact hn) (hl.1.trans X.hml) hstk (lv_room (cat_sumX hcat)) hdg hcnt) hS.hS (fun q _ hq => x_subA X hS q hq) (fun q hq => x_subA X hS q hq) ?_
  intro r' u t H1 locs1 ht hvm hpost hB hsz hkeep hS1
  obtain ⟨hr, hres⟩ := hpost
  obtain ⟨g1, g2, g3, g4, g5⟩ := x_back (fin := (r, h1)) X hS hl hlv hst2 hmc hres hB ht hS1
  have h9 := (kk r h1).2 X u H1 locs1 ls _ _ g1 g2 g3 (g4.c hres.1) hf
  rw [List.map_cons, g5] at h9
  rw [show r' = _ from hr, rv_ro]
  exact h9⟩
theorem x_callSi {y : MethodName} {cy : ByteArray} {ny dy ix : Nat} {ry : Option FieldType} (args : List AV) (n : Nat) (hm : XM xfh h f) (hM : okH h → okXs (xn h) (args) → ∀ fin, f = some fin → xSpec (yL Z) y cy ny ry dy 0 (args) h fin) (hw : GoodIn lw_all (va_wsS own ix y (ws_ y cy ny ry))) (hd : y.cls ≠ "java/lang/invoke/MethodHandle" ∧ y.cls ≠ "java/lang/invoke/VarHandle" ∧ (parseMethodDescriptor y.desc).map (fun d => d.parameters.length) = some n) (hn : args.length = n) (hdd : dy + 1 ≤ d) (hny : ny ≤ 40) (hs0 : st0 = args.reverse ++ st) (hcat : (st.map fun v => if v.1 = 1 then 2 else 1).sum ≤ 8) (hdg : decode cc pc = .ok (.invokestatic ix, 3)) (kk : ∀ r h1, XG fh QQ own mn cc nL ret d Z (pc + 3) lv ((0, r) :: st) h1 (g r h1)) : XG fh QQ own mn cc nL ret d Z pc lv st0 h (mb f g) := ⟨XM.mb hm (fun r h1 => (kk r h1).1), fun X ad H locs ls cells slots hS hl hlv hst hf9 => by
  have hf0 := hf9
  obtain ⟨r, h1, hf1, hf⟩ := mb_eq hf0
  subst hs0
  have ho := hst.app
  have hst2 : okXs (xn h) st := ho.2
  have hoa : okXs (xn h) args := ho.1.rev
  have hmc := hm (r, h1) hf1
  have hmf := (kk r h1).1 (yF Z) hf
  dsimp only [xfh] at hmc
  have hMM := hM hS.okh hoa (r, h1) hf1 (yD Z) (yCT Z) (yAF Z) ad H.size (x_negs X hS)
  have hroom : (xRm dy (xc h1 - xc h) (xs h1 - xs h)).frames + 1 ≤ (yR Z).frames ∧ 8 + (ny + 11) + (xRm dy (xc h1 - xc h) (xs h1 - xs h)).locals ≤ (yR Z).locals := by rw [X.hR]; exact ⟨hdd, by show 8 + (ny + 11) + 64 * dy ≤ 64 * d; omega⟩
  have hcw : CallB (yR Z) (yS Z) (yA Z) own ix y cy ny ry (ws_ y cy ny ry) (xRm dy (xc h1 - xc h) (xs h1 - xs h)) (xc h1 - xc h) (xs h1 - xs h) n ∧ (Cond.static y).before (yA Z) (yS Z) = true := va_cwS n X.hts hw rfl rfl rfl hd hroom
  have hcnt : cells + (xc h1 - xc h) ≤ (yR Z).cells ∧ slots + (xs h1 - xs h) ≤ (yR Z).slots := by
    have p7 := hS.2.2.2.2.2.2.1
    have p8 := hS.2.2.2.2.2.2.2
    rw [X.hR]
    exact ⟨by show _ ≤ xc (fh (yF Z)) - xc (yH Z); omega, by show _ ≤ xs (fh (yF Z)) - xs (yH Z); omega⟩
  have hstk : ((args.reverse ++ st).map (cX ad)) = (args.map (cX ad)).reverse ++ st.map (cX ad) := by rw [List.map_append, List.map_reverse]
  refine va_calli (A1 := va_A (xW (yCT Z) ad h) H.size) (va_runS (As := args.map (cX ad)) (rest := st.map (cX ad)) ⟨X.hx, X.hb, X.hml, X.hown, X.hts⟩ hMM hcw ⟨xPre_blind, fun U hU hW => ⟨rfl, x_pre X hS hU hW⟩⟩ rfl (by rw [List.length_map]; exact hn) (hl.1.trans X.hml) hstk (lv_room (cat_sumX hcat)) hdg hcnt) hS.hS (fun q _ hq => x_subA X hS q hq) (fun q hq => x_subA X hS q hq) ?_
  intro r' u t H1 locs1 ht hvm hpost hB hsz hkeep hS1
  obtain ⟨hr, hres⟩ := hpost
  obtain ⟨g1, g2, g3, g4, g5⟩ := x_back (fin := (r, h1)) X hS hl hlv hst2 hmc hres hB ht hS1
  have h9 := (kk r h1).2 X u H1 locs1 ls _ _ g1 g2 g3 (g4.c hres.1) hf
  rw [List.map_cons, g5] at h9
  rw [show r' = _ from hr]
  exact h9⟩
theorem x_callSl {y : MethodName} {cy : ByteArray} {ny dy ix : Nat} {ry : Option FieldType} (args : List AV) (n : Nat) (hm : XM xfh h f) (hM : okH h → okXs (xn h) (args) → ∀ fin, f = some fin → xSpec (yL Z) y cy ny ry dy 1 (args) h fin) (hw : GoodIn lw_all (va_wsS own ix y (ws_ y cy ny ry))) (hd : y.cls ≠ "java/lang/invoke/MethodHandle" ∧ y.cls ≠ "java/lang/invoke/VarHandle" ∧ (parseMethodDescriptor y.desc).map (fun d => d.parameters.length) = some n) (hn : args.length = n) (hdd : dy + 1 ≤ d) (hny : ny ≤ 40) (hs0 : st0 = args.reverse ++ st) (hcat : (st.map fun v => if v.1 = 1 then 2 else 1).sum ≤ 8) (hdg : decode cc pc = .ok (.invokestatic ix, 3)) (kk : ∀ r h1, XG fh QQ own mn cc nL ret d Z (pc + 3) lv ((1, r) :: st) h1 (g r h1)) : XG fh QQ own mn cc nL ret d Z pc lv st0 h (mb f g) := ⟨XM.mb hm (fun r h1 => (kk r h1).1), fun X ad H locs ls cells slots hS hl hlv hst hf9 => by
  have hf0 := hf9
  obtain ⟨r, h1, hf1, hf⟩ := mb_eq hf0
  subst hs0
  have ho := hst.app
  have hst2 : okXs (xn h) st := ho.2
  have hoa : okXs (xn h) args := ho.1.rev
  have hmc := hm (r, h1) hf1
  have hmf := (kk r h1).1 (yF Z) hf
  dsimp only [xfh] at hmc
  have hMM := hM hS.okh hoa (r, h1) hf1 (yD Z) (yCT Z) (yAF Z) ad H.size (x_negs X hS)
  have hroom : (xRm dy (xc h1 - xc h) (xs h1 - xs h)).frames + 1 ≤ (yR Z).frames ∧ 8 + (ny + 11) + (xRm dy (xc h1 - xc h) (xs h1 - xs h)).locals ≤ (yR Z).locals := by rw [X.hR]; exact ⟨hdd, by show 8 + (ny + 11) + 64 * dy ≤ 64 * d; omega⟩
  have hcw : CallB (yR Z) (yS Z) (yA Z) own ix y cy ny ry (ws_ y cy ny ry) (xRm dy (xc h1 - xc h) (xs h1 - xs h)) (xc h1 - xc h) (xs h1 - xs h) n ∧ (Cond.static y).before (yA Z) (yS Z) = true := va_cwS n X.hts hw rfl rfl rfl hd hroom
  have hcnt : cells + (xc h1 - xc h) ≤ (yR Z).cells ∧ slots + (xs h1 - xs h) ≤ (yR Z).slots := by
    have p7 := hS.2.2.2.2.2.2.1
    have p8 := hS.2.2.2.2.2.2.2
    rw [X.hR]
    exact ⟨by show _ ≤ xc (fh (yF Z)) - xc (yH Z); omega, by show _ ≤ xs (fh (yF Z)) - xs (yH Z); omega⟩
  have hstk : ((args.reverse ++ st).map (cX ad)) = (args.map (cX ad)).reverse ++ st.map (cX ad) := by rw [List.map_append, List.map_reverse]
  refine va_calll (A1 := va_A (xW (yCT Z) ad h) H.size) (va_runS (As := args.map (cX ad)) (rest := st.map (cX ad)) ⟨X.hx, X.hb, X.hml, X.hown, X.hts⟩ hMM hcw ⟨xPre_blind, fun U hU hW => ⟨rfl, x_pre X hS hU hW⟩⟩ rfl (by rw [List.length_map]; exact hn) (hl.1.trans X.hml) hstk (lv_room (cat_sumX hcat)) hdg hcnt) hS.hS (fun q _ hq => x_subA X hS q hq) (fun q hq => x_subA X hS q hq) ?_
  intro r' u t H1 locs1 ht hvm hpost hB hsz hkeep hS1
  obtain ⟨hr, hres⟩ := hpost
  obtain ⟨g1, g2, g3, g4, g5⟩ := x_back (fin := (r, h1)) X hS hl hlv hst2 hmc hres hB ht hS1
  have h9 := (kk r h1).2 X u H1 locs1 ls _ _ g1 g2 g3 (g4.c hres.1) hf
  rw [List.map_cons, g5] at h9
  rw [show r' = _ from hr]
  exact h9⟩
theorem x_callSv {y : MethodName} {cy : ByteArray} {ny dy ix : Nat} {ry : Option FieldType} (args : List AV) (n : Nat) (hm : XM xfh h f) (hM : okH h → okXs (xn h) (args) → ∀ fin, f = some fin → xSpec (yL Z) y cy ny ry dy 2 (args) h fin) (hw : GoodIn lw_all (va_wsS own ix y (ws_ y cy ny ry))) (hd : y.cls ≠ "java/lang/invoke/MethodHandle" ∧ y.cls ≠ "java/lang/invoke/VarHandle" ∧ (parseMethodDescriptor y.desc).map (fun d => d.parameters.length) = some n) (hn : args.length = n) (hdd : dy + 1 ≤ d) (hny : ny ≤ 40) (hs0 : st0 = args.reverse ++ st) (hcat : (st.map fun v => if v.1 = 1 then 2 else 1).sum ≤ 8) (hdg : decode cc pc = .ok (.invokestatic ix, 3)) (kk : ∀ r h1, XG fh QQ own mn cc nL ret d Z (pc + 3) lv st h1 (g r h1)) : XG fh QQ own mn cc nL ret d Z pc lv st0 h (mb f g) := ⟨XM.mb hm (fun r h1 => (kk r h1).1), fun X ad H locs ls cells slots hS hl hlv hst hf9 => by
  have hf0 := hf9
  obtain ⟨r, h1, hf1, hf⟩ := mb_eq hf0
  subst hs0
  have ho := hst.app
  have hst2 : okXs (xn h) st := ho.2
  have hoa : okXs (xn h) args := ho.1.rev
  have hmc := hm (r, h1) hf1
  have hmf := (kk r h1).1 (yF Z) hf
  dsimp only [xfh] at hmc
  have hMM := hM hS.okh hoa (r, h1) hf1 (yD Z) (yCT Z) (yAF Z) ad H.size (x_negs X hS)
  have hroom : (xRm dy (xc h1 - xc h) (xs h1 - xs h)).frames + 1 ≤ (yR Z).frames ∧ 8 + (ny + 11) + (xRm dy (xc h1 - xc h) (xs h1 - xs h)).locals ≤ (yR Z).locals := by rw [X.hR]; exact ⟨hdd, by show 8 + (ny + 11) + 64 * dy ≤ 64 * d; omega⟩
  have hcw : CallB (yR Z) (yS Z) (yA Z) own ix y cy ny ry (ws_ y cy ny ry) (xRm dy (xc h1 - xc h) (xs h1 - xs h)) (xc h1 - xc h) (xs h1 - xs h) n ∧ (Cond.static y).before (yA Z) (yS Z) = true := va_cwS n X.hts hw rfl rfl rfl hd hroom
  have hcnt : cells + (xc h1 - xc h) ≤ (yR Z).cells ∧ slots + (xs h1 - xs h) ≤ (yR Z).slots := by
    have p7 := hS.2.2.2.2.2.2.1
    have p8 := hS.2.2.2.2.2.2.2
    rw [X.hR]
    exact ⟨by show _ ≤ xc (fh (yF Z)) - xc (yH Z); omega, by show _ ≤ xs (fh (yF Z)) - xs (yH Z); omega⟩
  have hstk : ((args.reverse ++ st).map (cX ad)) = (args.map (cX ad)).reverse ++ st.map (cX ad) := by rw [List.map_append, List.map_reverse]
  refine va_callv (A1 := va_A (xW (yCT Z) ad h) H.size) (va_runS (As := args.map (cX ad)) (rest := st.map (cX ad)) ⟨X.hx, X.hb, X.hml, X.hown, X.hts⟩ hMM hcw ⟨xPre_blind, fun U hU hW => ⟨rfl, x_pre X hS hU hW⟩⟩ rfl (by rw [List.length_map]; exact hn) (hl.1.trans X.hml) hstk (lv_room (cat_sumX hcat)) hdg hcnt) hS.hS (fun q _ hq => x_subA X hS q hq) (fun q hq => x_subA X hS q hq) ?_
  intro u t H1 locs1 ht hvm hpost hB hsz hkeep hS1
  obtain ⟨g1, g2, g3, g4, g5⟩ := x_back (fin := (0, h1)) X hS hl hlv hst2 hmc hpost hB ht hS1
  have h9 := (kk r h1).2 X u H1 locs1 ls _ _ g1 g2 g3 g4 hf
  rw [g5] at h9
  exact h9⟩
theorem x_callSr {y : MethodName} {cy : ByteArray} {ny dy ix : Nat} {ry : Option FieldType} (args : List AV) (n : Nat) (hm : XM xfh h f) (hM : okH h → okXs (xn h) (args) → ∀ fin, f = some fin → xSpec (yL Z) y cy ny ry dy 3 (args) h fin) (hw : GoodIn lw_all (va_wsS own ix y (ws_ y cy ny ry))) (hd : y.cls ≠ "java/lang/invoke/MethodHandle" ∧ y.cls ≠ "java/lang/invoke/VarHandle" ∧ (parseMethodDescriptor y.desc).map (fun d => d.parameters.length) = some n) (hn : args.length = n) (hdd : dy + 1 ≤ d) (hny : ny ≤ 40) (hs0 : st0 = args.reverse ++ st) (hcat : (st.map fun v => if v.1 = 1 then 2 else 1).sum ≤ 8) (hdg : decode cc pc = .ok (.invokestatic ix, 3)) (kk : ∀ r h1, XG fh QQ own mn cc nL ret d Z (pc + 3) lv ((2, r) :: st) h1 (g r h1)) : XG fh QQ own mn cc nL ret d Z pc lv st0 h (mb f g) := ⟨XM.mb hm (fun r h1 => (kk r h1).1), fun X ad H locs ls cells slots hS hl hlv hst hf9 => by
  have hf0 := hf9
  obtain ⟨r, h1, hf1, hf⟩ := mb_eq hf0
  subst hs0
  have ho := hst.app
  have hst2 : okXs (xn h) st := ho.2
  have hoa : okXs (xn h) args := ho.1.rev
  have hmc := hm (r, h1) hf1
  have hmf := (kk r h1).1 (yF Z) hf
  dsimp only [xfh] at hmc
  have hMM := hM hS.okh hoa (r, h1) hf1 (yD Z) (yCT Z) (yAF Z) ad H.size (x_negs X hS)
  have hroom : (xRm dy (xc h1 - xc h) (xs h1 - xs h)).frames + 1 ≤ (yR Z).frames ∧ 8 + (ny + 11) + (xRm dy (xc h1 - xc h) (xs h1 - xs h)).locals ≤ (yR Z).locals := by rw [X.hR]; exact ⟨hdd, by show 8 + (ny + 11) + 64 * dy ≤ 64 * d; omega⟩
  have hcw : CallB (yR Z) (yS Z) (yA Z) own ix y cy ny ry (ws_ y cy ny ry) (xRm dy (xc h1 - xc h) (xs h1 - xs h)) (xc h1 - xc h) (xs h1 - xs h) n ∧ (Cond.static y).before (yA Z) (yS Z) = true := va_cwS n X.hts hw rfl rfl rfl hd hroom
  have hcnt : cells + (xc h1 - xc h) ≤ (yR Z).cells ∧ slots + (xs h1 - xs h) ≤ (yR Z).slots := by
    have p7 := hS.2.2.2.2.2.2.1
    have p8 := hS.2.2.2.2.2.2.2
    rw [X.hR]
    exact ⟨by show _ ≤ xc (fh (yF Z)) - xc (yH Z); omega, by show _ ≤ xs (fh (yF Z)) - xs (yH Z); omega⟩
  have hstk : ((args.reverse ++ st).map (cX ad)) = (args.map (cX ad)).reverse ++ st.map (cX ad) := by rw [List.map_append, List.map_reverse]
  refine va_callq (A1 := va_A (xW (yCT Z) ad h) H.size) (va_runS (As := args.map (cX ad)) (rest := st.map (cX ad)) ⟨X.hx, X.hb, X.hml, X.hown, X.hts⟩ hMM hcw ⟨xPre_blind, fun U hU hW => ⟨rfl, x_pre X hS hU hW⟩⟩ rfl (by rw [List.length_map]; exact hn) (hl.1.trans X.hml) hstk (lv_room (cat_sumX hcat)) hdg hcnt) hS.hS (fun q _ hq => x_subA X hS q hq) (fun q hq => x_subA X hS q hq) ?_
  intro r' u t H1 locs1 ht hvm hpost hB hsz hkeep hS1
  obtain ⟨hr, hres⟩ := hpost
  obtain ⟨g1, g2, g3, g4, g5⟩ := x_back (fin := (r, h1)) X hS hl hlv hst2 hmc hres hB ht hS1
  have h9 := (kk r h1).2 X u H1 locs1 ls _ _ g1 g2 g3 (g4.c hres.1) hf
  rw [List.map_cons, g5] at h9
  rw [show r' = _ from hr, rv_ro]
  exact h9⟩
theorem x_callQi {y : MethodName} {cy : ByteArray} {ny dy ix : Nat} {ry : Option FieldType} (args : List AV) (n : Nat) (hm : XM xfh h f) (hM : okH h → okXs (xn h) (args) → ∀ fin, f = some fin → xSpec (yL Z) y cy ny ry dy 0 (args) h fin) {host : String} (hnl : Cond.methodLinkNest own ix y host ∈ lw_tbl) (hini : Cond.initialized y.cls ∈ lw_all) (hsta : Cond.static y ∈ lw_all) (hG : GoodIn lw_all (ws_ y cy ny ry)) (hd : y.cls ≠ "java/lang/invoke/MethodHandle" ∧ y.cls ≠ "java/lang/invoke/VarHandle" ∧ (parseMethodDescriptor y.desc).map (fun d => d.parameters.length) = some n) (hn : args.length = n) (hdd : dy + 1 ≤ d) (hny : ny ≤ 40) (hs0 : st0 = args.reverse ++ st) (hcat : (st.map fun v => if v.1 = 1 then 2 else 1).sum ≤ 8) (hdg : decode cc pc = .ok (.invokestatic ix, 3)) (kk : ∀ r h1, XG fh QQ own mn cc nL ret d Z (pc + 3) lv ((0, r) :: st) h1 (g r h1)) : XG fh QQ own mn cc nL ret d Z pc lv st0 h (mb f g) := ⟨XM.mb hm (fun r h1 => (kk r h1).1), fun X ad H locs ls cells slots hS hl hlv hst hf9 => by
  have hf0 := hf9
  obtain ⟨r, h1, hf1, hf⟩ := mb_eq hf0
  subst hs0
  have ho := hst.app
  have hst2 : okXs (xn h) st := ho.2
  have hoa : okXs (xn h) args := ho.1.rev
  have hmc := hm (r, h1) hf1
  have hmf := (kk r h1).1 (yF Z) hf
  dsimp only [xfh] at hmc
  have hMM := hM hS.okh hoa (r, h1) hf1 (yD Z) (yCT Z) (yAF Z) ad H.size (x_negs X hS)
  have hroom : (xRm dy (xc h1 - xc h) (xs h1 - xs h)).frames + 1 ≤ (yR Z).frames ∧ 8 + (ny + 11) + (xRm dy (xc h1 - xc h) (xs h1 - xs h)).locals ≤ (yR Z).locals := by rw [X.hR]; exact ⟨hdd, by show 8 + (ny + 11) + 64 * dy ≤ 64 * d; omega⟩
  have hcw := And.intro (va_cnB (R := yR Z) (s := yS Z) (args := yA Z) (own := own) (mc := xc h1 - xc h) (ms := xs h1 - xs h) (rm := xRm dy (xc h1 - xc h) (xs h1 - xs h)) n X.hts hG rfl rfl rfl (X.hN.use hnl rfl) (X.hts _ hini) hd hroom) (And.intro (X.hts _ hsta) trivial)
  have hcnt : cells + (xc h1 - xc h) ≤ (yR Z).cells ∧ slots + (xs h1 - xs h) ≤ (yR Z).slots := by
    have p7 := hS.2.2.2.2.2.2.1
    have p8 := hS.2.2.2.2.2.2.2
    rw [X.hR]
    exact ⟨by show _ ≤ xc (fh (yF Z)) - xc (yH Z); omega, by show _ ≤ xs (fh (yF Z)) - xs (yH Z); omega⟩
  have hstk : ((args.reverse ++ st).map (cX ad)) = (args.map (cX ad)).reverse ++ st.map (cX ad) := by rw [List.map_append, List.map_reverse]
  refine va_calli (A1 := va_A (xW (yCT Z) ad h) H.size) (va_runSN (As := args.map (cX ad)) (rest := st.map (cX ad)) ⟨X.hx, X.hb, X.hml, X.hown, X.hts⟩ hMM hcw ⟨xPre_blind, fun U hU hW => ⟨rfl, x_pre X hS hU hW⟩⟩ rfl (by rw [List.length_map]; exact hn) (hl.1.trans X.hml) hstk (lv_room (cat_sumX hcat)) hdg hcnt) hS.hS (fun q _ hq => x_subA X hS q hq) (fun q hq => x_subA X hS q hq) ?_
  intro r' u t H1 locs1 ht hvm hpost hB hsz hkeep hS1
  obtain ⟨hr, hres⟩ := hpost
  obtain ⟨g1, g2, g3, g4, g5⟩ := x_back (fin := (r, h1)) X hS hl hlv hst2 hmc hres hB ht hS1
  have h9 := (kk r h1).2 X u H1 locs1 ls _ _ g1 g2 g3 (g4.c hres.1) hf
  rw [List.map_cons, g5] at h9
  rw [show r' = _ from hr]
  exact h9⟩
theorem x_callQl {y : MethodName} {cy : ByteArray} {ny dy ix : Nat} {ry : Option FieldType} (args : List AV) (n : Nat) (hm : XM xfh h f) (hM : okH h → okXs (xn h) (args) → ∀ fin, f = some fin → xSpec (yL Z) y cy ny ry dy 1 (args) h fin) {host : String} (hnl : Cond.methodLinkNest own ix y host ∈ lw_tbl) (hini : Cond.initialized y.cls ∈ lw_all) (hsta : Cond.static y ∈ lw_all) (hG : GoodIn lw_all (ws_ y cy ny ry)) (hd : y.cls ≠ "java/lang/invoke/MethodHandle" ∧ y.cls ≠ "java/lang/invoke/VarHandle" ∧ (parseMethodDescriptor y.desc).map (fun d => d.parameters.length) = some n) (hn : args.length = n) (hdd : dy + 1 ≤ d) (hny : ny ≤ 40) (hs0 : st0 = args.reverse ++ st) (hcat : (st.map fun v => if v.1 = 1 then 2 else 1).sum ≤ 8) (hdg : decode cc pc = .ok (.invokestatic ix, 3)) (kk : ∀ r h1, XG fh QQ own mn cc nL ret d Z (pc + 3) lv ((1, r) :: st) h1 (g r h1)) : XG fh QQ own mn cc nL ret d Z pc lv st0 h (mb f g) := ⟨XM.mb hm (fun r h1 => (kk r h1).1), fun X ad H locs ls cells slots hS hl hlv hst hf9 => by
  have hf0 := hf9
  obtain ⟨r, h1, hf1, hf⟩ := mb_eq hf0
  subst hs0
  have ho := hst.app
  have hst2 : okXs (xn h) st := ho.2
  have hoa : okXs (xn h) args := ho.1.rev
  have hmc := hm (r, h1) hf1
  have hmf := (kk r h1).1 (yF Z) hf
  dsimp only [xfh] at hmc
  have hMM := hM hS.okh hoa (r, h1) hf1 (yD Z) (yCT Z) (yAF Z) ad H.size (x_negs X hS)
  have hroom : (xRm dy (xc h1 - xc h) (xs h1 - xs h)).frames + 1 ≤ (yR Z).frames ∧ 8 + (ny + 11) + (xRm dy (xc h1 - xc h) (xs h1 - xs h)).locals ≤ (yR Z).locals := by rw [X.hR]; exact ⟨hdd, by show 8 + (ny + 11) + 64 * dy ≤ 64 * d; omega⟩
  have hcw := And.intro (va_cnB (R := yR Z) (s := yS Z) (args := yA Z) (own := own) (mc := xc h1 - xc h) (ms := xs h1 - xs h) (rm := xRm dy (xc h1 - xc h) (xs h1 - xs h)) n X.hts hG rfl rfl rfl (X.hN.use hnl rfl) (X.hts _ hini) hd hroom) (And.intro (X.hts _ hsta) trivial)
  have hcnt : cells + (xc h1 - xc h) ≤ (yR Z).cells ∧ slots + (xs h1 - xs h) ≤ (yR Z).slots := by
    have p7 := hS.2.2.2.2.2.2.1
    have p8 := hS.2.2.2.2.2.2.2
    rw [X.hR]
    exact ⟨by show _ ≤ xc (fh (yF Z)) - xc (yH Z); omega, by show _ ≤ xs (fh (yF Z)) - xs (yH Z); omega⟩
  have hstk : ((args.reverse ++ st).map (cX ad)) = (args.map (cX ad)).reverse ++ st.map (cX ad) := by rw [List.map_append, List.map_reverse]
  refine va_calll (A1 := va_A (xW (yCT Z) ad h) H.size) (va_runSN (As := args.map (cX ad)) (rest := st.map (cX ad)) ⟨X.hx, X.hb, X.hml, X.hown, X.hts⟩ hMM hcw ⟨xPre_blind, fun U hU hW => ⟨rfl, x_pre X hS hU hW⟩⟩ rfl (by rw [List.length_map]; exact hn) (hl.1.trans X.hml) hstk (lv_room (cat_sumX hcat)) hdg hcnt) hS.hS (fun q _ hq => x_subA X hS q hq) (fun q hq => x_subA X hS q hq) ?_
  intro r' u t H1 locs1 ht hvm hpost hB hsz hkeep hS1
  obtain ⟨hr, hres⟩ := hpost
  obtain ⟨g1, g2, g3, g4, g5⟩ := x_back (fin := (r, h1)) X hS hl hlv hst2 hmc hres hB ht hS1
  have h9 := (kk r h1).2 X u H1 locs1 ls _ _ g1 g2 g3 (g4.c hres.1) hf
  rw [List.map_cons, g5] at h9
  rw [show r' = _ from hr]
  exact h9⟩
theorem x_callQv {y : MethodName} {cy : ByteArray} {ny dy ix : Nat} {ry : Option FieldType} (args : List AV) (n : Nat) (hm : XM xfh h f) (hM : okH h → okXs (xn h) (args) → ∀ fin, f = some fin → xSpec (yL Z) y cy ny ry dy 2 (args) h fin) {host : String} (hnl : Cond.methodLinkNest own ix y host ∈ lw_tbl) (hini : Cond.initialized y.cls ∈ lw_all) (hsta : Cond.static y ∈ lw_all) (hG : GoodIn lw_all (ws_ y cy ny ry)) (hd : y.cls ≠ "java/lang/invoke/MethodHandle" ∧ y.cls ≠ "java/lang/invoke/VarHandle" ∧ (parseMethodDescriptor y.desc).map (fun d => d.parameters.length) = some n) (hn : args.length = n) (hdd : dy + 1 ≤ d) (hny : ny ≤ 40) (hs0 : st0 = args.reverse ++ st) (hcat : (st.map fun v => if v.1 = 1 then 2 else 1).sum ≤ 8) (hdg : decode cc pc = .ok (.invokestatic ix, 3)) (kk : ∀ r h1, XG fh QQ own mn cc nL ret d Z (pc + 3) lv st h1 (g r h1)) : XG fh QQ own mn cc nL ret d Z pc lv st0 h (mb f g) := ⟨XM.mb hm (fun r h1 => (kk r h1).1), fun X ad H locs ls cells slots hS hl hlv hst hf9 => by
  have hf0 := hf9
  obtain ⟨r, h1, hf1, hf⟩ := mb_eq hf0
  subst hs0
  have ho := hst.app
  have hst2 : okXs (xn h) st := ho.2
  have hoa : okXs (xn h) args := ho.1.rev
  have hmc := hm (r, h1) hf1
  have hmf := (kk r h1).1 (yF Z) hf
  dsimp only [xfh] at hmc
  have hMM := hM hS.okh hoa (r, h1) hf1 (yD Z) (yCT Z) (yAF Z) ad H.size (x_negs X hS)
  have hroom : (xRm dy (xc h1 - xc h) (xs h1 - xs h)).frames + 1 ≤ (yR Z).frames ∧ 8 + (ny + 11) + (xRm dy (xc h1 - xc h) (xs h1 - xs h)).locals ≤ (yR Z).locals := by rw [X.hR]; exact ⟨hdd, by show 8 + (ny + 11) + 64 * dy ≤ 64 * d; omega⟩
  have hcw := And.intro (va_cnB (R := yR Z) (s := yS Z) (args := yA Z) (own := own) (mc := xc h1 - xc h) (ms := xs h1 - xs h) (rm := xRm dy (xc h1 - xc h) (xs h1 - xs h)) n X.hts hG rfl rfl rfl (X.hN.use hnl rfl) (X.hts _ hini) hd hroom) (And.intro (X.hts _ hsta) trivial)
  have hcnt : cells + (xc h1 - xc h) ≤ (yR Z).cells ∧ slots + (xs h1 - xs h) ≤ (yR Z).slots := by
    have p7 := hS.2.2.2.2.2.2.1
    have p8 := hS.2.2.2.2.2.2.2
    rw [X.hR]
    exact ⟨by show _ ≤ xc (fh (yF Z)) - xc (yH Z); omega, by show _ ≤ xs (fh (yF Z)) - xs (yH Z); omega⟩
  have hstk : ((args.reverse ++ st).map (cX ad)) = (args.map (cX ad)).reverse ++ st.map (cX ad) := by rw [List.map_append, List.map_reverse]
  refine va_callv (A1 := va_A (xW (yCT Z) ad h) H.size) (va_runSN (As := args.map (cX ad)) (rest := st.map (cX ad)) ⟨X.hx, X.hb, X.hml, X.hown, X.hts⟩ hMM hcw ⟨xPre_blind, fun U hU hW => ⟨rfl, x_pre X hS hU hW⟩⟩ rfl (by rw [List.length_map]; exact hn) (hl.1.trans X.hml) hstk (lv_room (cat_sumX hcat)) hdg hcnt) hS.hS (fun q _ hq => x_subA X hS q hq) (fun q hq => x_subA X hS q hq) ?_
  intro u t H1 locs1 ht hvm hpost hB hsz hkeep hS1
  obtain ⟨g1, g2, g3, g4, g5⟩ := x_back (fin := (0, h1)) X hS hl hlv hst2 hmc hpost hB ht hS1
  have h9 := (kk r h1).2 X u H1 locs1 ls _ _ g1 g2 g3 g4 hf
  rw [g5] at h9
  exact h9⟩
theorem x_callQr {y : MethodName} {cy : ByteArray} {ny dy ix : Nat} {ry : Option FieldType} (args : List AV) (n : Nat) (hm : XM xfh h f) (hM : okH h → okXs (xn h) (args) → ∀ fin, f = some fin → xSpec (yL Z) y cy ny ry dy 3 (args) h fin) {host : String} (hnl : Cond.methodLinkNest own ix y host ∈ lw_tbl) (hini : Cond.initialized y.cls ∈ lw_all) (hsta : Cond.static y ∈ lw_all) (hG : GoodIn lw_all (ws_ y cy ny ry)) (hd : y.cls ≠ "java/lang/invoke/MethodHandle" ∧ y.cls ≠ "java/lang/invoke/VarHandle" ∧ (parseMethodDescriptor y.desc).map (fun d => d.parameters.length) = some n) (hn : args.length = n) (hdd : dy + 1 ≤ d) (hny : ny ≤ 40) (hs0 : st0 = args.reverse ++ st) (hcat : (st.map fun v => if v.1 = 1 then 2 else 1).sum ≤ 8) (hdg : decode cc pc = .ok (.invokestatic ix, 3)) (kk : ∀ r h1, XG fh QQ own mn cc nL ret d Z (pc + 3) lv ((2, r) :: st) h1 (g r h1)) : XG fh QQ own mn cc nL ret d Z pc lv st0 h (mb f g) := ⟨XM.mb hm (fun r h1 => (kk r h1).1), fun X ad H locs ls cells slots hS hl hlv hst hf9 => by
  have hf0 := hf9
  obtain ⟨r, h1, hf1, hf⟩ := mb_eq hf0
  subst hs0
  have ho := hst.app
  have hst2 : okXs (xn h) st := ho.2
  have hoa : okXs (xn h) args := ho.1.rev
  have hmc := hm (r, h1) hf1
  have hmf := (kk r h1).1 (yF Z) hf
  dsimp only [xfh] at hmc
  have hMM := hM hS.okh hoa (r, h1) hf1 (yD Z) (yCT Z) (yAF Z) ad H.size (x_negs X hS)
  have hroom : (xRm dy (xc h1 - xc h) (xs h1 - xs h)).frames + 1 ≤ (yR Z).frames ∧ 8 + (ny + 11) + (xRm dy (xc h1 - xc h) (xs h1 - xs h)).locals ≤ (yR Z).locals := by rw [X.hR]; exact ⟨hdd, by show 8 + (ny + 11) + 64 * dy ≤ 64 * d; omega⟩
  have hcw := And.intro (va_cnB (R := yR Z) (s := yS Z) (args := yA Z) (own := own) (mc := xc h1 - xc h) (ms := xs h1 - xs h) (rm := xRm dy (xc h1 - xc h) (xs h1 - xs h)) n X.hts hG rfl rfl rfl (X.hN.use hnl rfl) (X.hts _ hini) hd hroom) (And.intro (X.hts _ hsta) trivial)
  have hcnt : cells + (xc h1 - xc h) ≤ (yR Z).cells ∧ slots + (xs h1 - xs h) ≤ (yR Z).slots := by
    have p7 := hS.2.2.2.2.2.2.1
    have p8 := hS.2.2.2.2.2.2.2
    rw [X.hR]
    exact ⟨by show _ ≤ xc (fh (yF Z)) - xc (yH Z); omega, by show _ ≤ xs (fh (yF Z)) - xs (yH Z); omega⟩
  have hstk : ((args.reverse ++ st).map (cX ad)) = (args.map (cX ad)).reverse ++ st.map (cX ad) := by rw [List.map_append, List.map_reverse]
  refine va_callq (A1 := va_A (xW (yCT Z) ad h) H.size) (va_runSN (As := args.map (cX ad)) (rest := st.map (cX ad)) ⟨X.hx, X.hb, X.hml, X.hown, X.hts⟩ hMM hcw ⟨xPre_blind, fun U hU hW => ⟨rfl, x_pre X hS hU hW⟩⟩ rfl (by rw [List.length_map]; exact hn) (hl.1.trans X.hml) hstk (lv_room (cat_sumX hcat)) hdg hcnt) hS.hS (fun q _ hq => x_subA X hS q hq) (fun q hq => x_subA X hS q hq) ?_
  intro r' u t H1 locs1 ht hvm hpost hB hsz hkeep hS1
  obtain ⟨hr, hres⟩ := hpost
  obtain ⟨g1, g2, g3, g4, g5⟩ := x_back (fin := (r, h1)) X hS hl hlv hst2 hmc hres hB ht hS1
  have h9 := (kk r h1).2 X u H1 locs1 ls _ _ g1 g2 g3 (g4.c hres.1) hf
  rw [List.map_cons, g5] at h9
  rw [show r' = _ from hr, rv_ro]
  exact h9⟩
theorem x_callIv {y : MethodName} {cy : ByteArray} {ny dy ix : Nat} {b : Int} (args : List AV) (n : Nat) (hm : XM xfh h f) (hM : okH h → okXs (xn h) ((2, b) :: args) → ∀ fin, f = some fin → xSpec (yL Z) y cy ny none dy 2 ((2, b) :: args) h fin) (hG : GoodIn lw_all (ws_ y cy ny none)) (hini : Cond.initialized y.cls ∈ lw_all) (hli : Cond.methodLink own ix y ∈ lw_all) (hin : Cond.instanceMethod y ∈ lw_all) (hy1 : y.name = "<init>") (hd : y.cls ≠ "java/lang/invoke/MethodHandle" ∧ y.cls ≠ "java/lang/invoke/VarHandle" ∧ (parseMethodDescriptor y.desc).map (fun d => d.parameters.length) = some n) (hn : args.length = n) (hdd : dy + 1 ≤ d) (hny : ny ≤ 40) (hs0 : st0 = args.reverse ++ (2, b) :: st) (hcat : (st.map fun v => if v.1 = 1 then 2 else 1).sum ≤ 8) (hdg : decode cc pc = .ok (.invokespecial ix, 3)) (kk : ∀ r h1, XG fh QQ own mn cc nL ret d Z (pc + 3) lv st h1 (g r h1)) : XG fh QQ own mn cc nL ret d Z pc lv st0 h (pz b (mb f g)) := ⟨(XM.mb hm (fun r h1 => (kk r h1).1)).pz, fun X ad H locs ls cells slots hS hl hlv hst hf9 => by
  obtain ⟨o1, hf0⟩ := pz_some hf9
  obtain ⟨r, h1, hf1, hf⟩ := mb_eq hf0
  subst hs0
  have ho := hst.app
  have hst2 : okXs (xn h) st := ho.2.t
  have hoa : okXs (xn h) ((2, b) :: args) := ho.1.rev.c ho.2.hd
  have hmc := hm (r, h1) hf1
  have hmf := (kk r h1).1 (yF Z) hf
  dsimp only [xfh] at hmc
  have hMM := hM hS.okh hoa (r, h1) hf1 (yD Z) (yCT Z) (yAF Z) ad H.size (x_negs X hS)
  have hroom : (xRm dy (xc h1 - xc h) (xs h1 - xs h)).frames + 1 ≤ (yR Z).frames ∧ 8 + (ny + 11) + (xRm dy (xc h1 - xc h) (xs h1 - xs h)).locals ≤ (yR Z).locals := by rw [X.hR]; exact ⟨hdd, by show 8 + (ny + 11) + 64 * dy ≤ 64 * d; omega⟩
  have hcw := cwI (R := yR Z) (s := yS Z) (args := yA Z) (mc := xc h1 - xc h) (ms := xs h1 - xs h) (rm := xRm dy (xc h1 - xc h) (xs h1 - xs h)) n X.hts hG rfl rfl rfl (X.hts _ hini) (X.hts _ hli) (X.hts _ hin) hy1 hd hroom
  have hcnt : cells + (xc h1 - xc h) ≤ (yR Z).cells ∧ slots + (xs h1 - xs h) ≤ (yR Z).slots := by
    have p7 := hS.2.2.2.2.2.2.1
    have p8 := hS.2.2.2.2.2.2.2
    rw [X.hR]
    exact ⟨by show _ ≤ xc (fh (yF Z)) - xc (yH Z); omega, by show _ ≤ xs (fh (yF Z)) - xs (yH Z); omega⟩
  have hrb : cX ad (2, b) = .ref (ad b) := by show rv ad b = _; unfold rv; rw [if_neg o1]
  have hstk : ((args.reverse ++ (2, b) :: st).map (cX ad)) = (args.map (cX ad)).reverse ++ .ref (ad b) :: st.map (cX ad) := by rw [List.map_append, List.map_reverse, List.map_cons, hrb]
  refine va_callv (A1 := va_A (xW (yCT Z) ad h) H.size) (va_runI (As := args.map (cX ad)) (rest := st.map (cX ad)) (b := ad b) ⟨X.hx, X.hb, X.hml, X.hown, X.hts⟩ hMM hcw ⟨xPre_blind, fun U hU hW => ⟨by rw [List.map_cons, hrb], x_pre X hS hU hW⟩⟩ rfl (by rw [List.length_map]; exact hn) (hl.1.trans X.hml) hstk (lv_room (cat_sumX hcat)) hdg hcnt) hS.hS (fun q _ hq => x_subA X hS q hq) (fun q hq => x_subA X hS q hq) ?_
  intro u t H1 locs1 ht hvm hpost hB hsz hkeep hS1
  obtain ⟨g1, g2, g3, g4, g5⟩ := x_back (fin := (0, h1)) X hS hl hlv hst2 hmc hpost hB ht hS1
  have h9 := (kk r h1).2 X u H1 locs1 ls _ _ g1 g2 g3 g4 hf
  rw [g5] at h9
  exact h9⟩
theorem x_callJv {y : MethodName} {cy : ByteArray} {ny dy ix : Nat} {b : Int} (args : List AV) (n : Nat) (hm : XM xfh h f) (hM : okH h → okXs (xn h) ((2, b) :: args) → ∀ fin, f = some fin → xSpec (yL Z) y cy ny none dy 2 ((2, b) :: args) h fin) {host : String} (hG : GoodIn lw_all (ws_ y cy ny none)) (hini : Cond.initialized y.cls ∈ lw_all) (hnl : Cond.methodLinkNest own ix y host ∈ lw_tbl) (hin : Cond.instanceMethod y ∈ lw_all) (hy1 : y.name = "<init>") (hd : y.cls ≠ "java/lang/invoke/MethodHandle" ∧ y.cls ≠ "java/lang/invoke/VarHandle" ∧ (parseMethodDescriptor y.desc).map (fun d => d.parameters.length) = some n) (hn : args.length = n) (hdd : dy + 1 ≤ d) (hny : ny ≤ 40) (hs0 : st0 = args.reverse ++ (2, b) :: st) (hcat : (st.map fun v => if v.1 = 1 then 2 else 1).sum ≤ 8) (hdg : decode cc pc = .ok (.invokespecial ix, 3)) (kk : ∀ r h1, XG fh QQ own mn cc nL ret d Z (pc + 3) lv st h1 (g r h1)) : XG fh QQ own mn cc nL ret d Z pc lv st0 h (pz b (mb f g)) := ⟨(XM.mb hm (fun r h1 => (kk r h1).1)).pz, fun X ad H locs ls cells slots hS hl hlv hst hf9 => by
  obtain ⟨o1, hf0⟩ := pz_some hf9
  obtain ⟨r, h1, hf1, hf⟩ := mb_eq hf0
  subst hs0
  have ho := hst.app
  have hst2 : okXs (xn h) st := ho.2.t
  have hoa : okXs (xn h) ((2, b) :: args) := ho.1.rev.c ho.2.hd
  have hmc := hm (r, h1) hf1
  have hmf := (kk r h1).1 (yF Z) hf
  dsimp only [xfh] at hmc
  have hMM := hM hS.okh hoa (r, h1) hf1 (yD Z) (yCT Z) (yAF Z) ad H.size (x_negs X hS)
  have hroom : (xRm dy (xc h1 - xc h) (xs h1 - xs h)).frames + 1 ≤ (yR Z).frames ∧ 8 + (ny + 11) + (xRm dy (xc h1 - xc h) (xs h1 - xs h)).locals ≤ (yR Z).locals := by rw [X.hR]; exact ⟨hdd, by show 8 + (ny + 11) + 64 * dy ≤ 64 * d; omega⟩
  have hcw := And.intro (va_cnB (R := yR Z) (s := yS Z) (args := yA Z) (own := own) (mc := xc h1 - xc h) (ms := xs h1 - xs h) (rm := xRm dy (xc h1 - xc h) (xs h1 - xs h)) n X.hts hG rfl rfl rfl (X.hN.use hnl rfl) (X.hts _ hini) hd hroom) (And.intro hy1 (X.hts _ hin))
  have hcnt : cells + (xc h1 - xc h) ≤ (yR Z).cells ∧ slots + (xs h1 - xs h) ≤ (yR Z).slots := by
    have p7 := hS.2.2.2.2.2.2.1
    have p8 := hS.2.2.2.2.2.2.2
    rw [X.hR]
    exact ⟨by show _ ≤ xc (fh (yF Z)) - xc (yH Z); omega, by show _ ≤ xs (fh (yF Z)) - xs (yH Z); omega⟩
  have hrb : cX ad (2, b) = .ref (ad b) := by show rv ad b = _; unfold rv; rw [if_neg o1]
  have hstk : ((args.reverse ++ (2, b) :: st).map (cX ad)) = (args.map (cX ad)).reverse ++ .ref (ad b) :: st.map (cX ad) := by rw [List.map_append, List.map_reverse, List.map_cons, hrb]
  refine va_callv (A1 := va_A (xW (yCT Z) ad h) H.size) (va_runIN (As := args.map (cX ad)) (rest := st.map (cX ad)) (b := ad b) ⟨X.hx, X.hb, X.hml, X.hown, X.hts⟩ hMM hcw ⟨xPre_blind, fun U hU hW => ⟨by rw [List.map_cons, hrb], x_pre X hS hU hW⟩⟩ rfl (by rw [List.length_map]; exact hn) (hl.1.trans X.hml) hstk (lv_room (cat_sumX hcat)) hdg hcnt) hS.hS (fun q _ hq => x_subA X hS q hq) (fun q hq => x_subA X hS q hq) ?_
  intro u t H1 locs1 ht hvm hpost hB hsz hkeep hS1
  obtain ⟨g1, g2, g3, g4, g5⟩ := x_back (fin := (0, h1)) X hS hl hlv hst2 hmc hpost hB ht hS1
  have h9 := (kk r h1).2 X u H1 locs1 ls _ _ g1 g2 g3 g4 hf
  rw [g5] at h9
  exact h9⟩
end CALLS
theorem avL_mapX (ad : Int → Nat) : ∀ (vs : List AV) (i : Nat), (avL i vs).map (cX1 ad) = lv_args i (vs.map (cX ad))
  | [], _ => rfl
  | v :: vs, i => by
    have e : (if (cX ad v).category = 2 then i + 2 else i + 1) = (if v.1 = 1 then i + 2 else i + 1) := by
      match v with
      | (0, x) => rfl
      | (1, x) => rfl
      | (n + 2, x) =>
        show (if (rv ad x).category = 2 then i + 2 else i + 1) = _
        rw [rv_cat]; rfl
    show (i, cX ad v) :: (avL (if v.1 = 1 then i + 2 else i + 1) vs).map (cX1 ad) = (i, cX ad v) :: lv_args (if (cX ad v).category = 2 then i + 2 else i + 1) (vs.map (cX ad))
    rw [avL_mapX ad vs, e]
theorem avL_okX {N : Nat} {vs : List AV} (h : okXs N vs) : ∀ i, okXl N (avL i vs) := by
  induction vs with
  | nil => intro i q hq; cases hq
  | cons v vs ih =>
    intro i q hq
    rcases List.mem_cons.mp hq with rfl | hq
    · exact h.hd
    · exact ih h.t _ q hq
theorem avN_slX (ad : Int → Nat) : ∀ vs : List AV, (lg_sl (vs.map (cX ad))).length = avN vs
  | [] => rfl
  | v :: vs => by
    have ih := avN_slX ad vs
    unfold lg_sl at ih ⊢
    rw [List.map_cons, List.flatMap_cons, List.length_append, ih]
    match v with
    | (0, x) => rfl
    | (1, x) => rfl
    | (n + 2, x) =>
      show (if (rv ad x).category = 2 then [Slot.val (rv ad x), .second] else [.val (rv ad x)]).length + _ = _
      rw [rv_cat]; rfl
/-- a method's contract out of its walk -/
theorem x_enter {l : Launch} {y : MethodName} {own mn : String} {cc : ByteArray} {nL : Nat} {ret : Option FieldType} {d rk : Nat} {avs : List AV} {h : XH} {f : Option XR} (hy : plainName y.cls = true) (hyc : y.cls = own) (hmn : y.name = mn) (hn : avN avs ≤ nL) {lv : List (Nat × AV)} (hlv : avL 0 avs = lv) (walk : ∀ Z : XZ XR, yL Z = l → XG xfh (xQ rk) own mn cc nL ret d Z 0 lv [] h f) (hok : okH h) (hav : okXs (xn h) avs) (fin : XR) (hf : f = some fin) : xSpec l y cc nL ret d rk avs h fin := by
  intro D cT adF ad sz hneg
  refine Met.ofW (cc := cc) (maxL := nL) (ret := ret) hy rfl ?_
  intro p e s m args below meth c s₁ B hml hv
  obtain ⟨hargs, hsz, hP, hD, hK, hN, hZ⟩ := hv
  subst hargs
  subst hsz
  have hts := atoms_spec (ws := ws_ y cc nL ret) B.pre
  have hts : ∀ w ∈ lw_all, w.before _ s = true := fun w h => hts w (List.mem_cons_of_mem _ h)
  have hown : s.vm.findClass own = some m.cls := by rw [← hyc]; exact findClass_of_methodNamed B.named
  have hnm : meth.name = mn := by rw [← hmn]; exact (name_of_methodNamed B.named B.method).1
  rw [lg_entry_eq]
  have hl := lv_entry (avs.map (cX ad)) (n := nL) (by rw [avN_slX]; exact hn)
  have hw := (walk ((p, l, e, (headSpec (ws_ y cc nL ret) (xRm d (xc fin.2 - xc h) (xs fin.2 - xs h))).room, s, m, (avs.map (cX ad)).toArray, below, meth, c), (D, cT, adF, ad, va_A (xW cT ad h) s.heap.size), (fin, h)) rfl).2
  exact hw ⟨rfl, B.exec, B.bytes, hml, hown, hts, hK, B.notSynchronized, B.returns, hN, hZ, fun q hq => Or.inr hq, hneg, hnm⟩ ad s.heap [] _ 0 0 ⟨hP, hD.self, va_S.rf, hok, ⟨fun a _ => rfl, fun a j _ => rfl⟩, Nat.le_refl _, rfl, rfl⟩ (by rw [← hlv, avL_mapX]; show lv_has _ c.maxLocals _; rw [hml]; exact hl) (by rw [← hlv]; exact avL_okX hav 0) okXs.nil hf
