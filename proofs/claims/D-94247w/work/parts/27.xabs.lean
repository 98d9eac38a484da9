/-! the system's layer: abstract calls, switches, ArrayList's empty array -/
set_option maxRecDepth 100000
set_option maxHeartbeats 2000000
def vMono (R : Int → Int → XH → Option XR) : Prop := ∀ (Z : XZ XR) (b c : Int) (h : XH), XM xfh h (R b c h)
section ROWS
variable {ρ : Type} {fh : ρ → XH} {QQ : XZ ρ → State → Prop} {own mn : String} {cc : ByteArray} {nL : Nat} {ret : Option FieldType} {d : Nat} {Z : XZ ρ} {pc : Nat} {lv : List (Nat × AV)} {st st0 : List AV} {h : XH} {res : Option ρ} {f : Option XR} {g : Int → XH → Option ρ}
theorem x_noV {push : Int → List AV} (args : List AV) {pcn : Nat} (hm : XM xfh h f) (hno : okH h → okXs (xn h) args → ∀ fin, f = some fin → False) (hs0 : st0 = args ++ st) (kk : ∀ r h1, XG fh QQ own mn cc nL ret d Z pcn lv (push r) h1 (g r h1)) : XG fh QQ own mn cc nL ret d Z pc lv st0 h (mb f g) := ⟨XM.mb hm (fun r h1 => (kk r h1).1), fun X ad H locs ls cells slots hS hl hlv hst hf => by
  obtain ⟨r, h1, hf1, -⟩ := mb_eq hf
  subst hs0
  exact (hno hS.okh (okXs.app hst).1 _ hf1).elim⟩
theorem x_callAi {x y : MethodName} {cy : ByteArray} {ny dy ix : Nat} {ry : Option FieldType} {b : Int} (args : List AV) (n : Nat) (hm : XM xfh h f) (hM : okH h → okXs (xn h) ((2, b) :: args) → ∀ fin, f = some fin → xSpec (yL Z) y cy ny ry dy 0 ((2, b) :: args) h fin) (C owner : String) (ci : Nat) {T : u_T} {N : Nat} (hc : gcl[ci]? = some (C, T, N)) (hci : ci < 100) (hk : xk h b = ci) (hbb : okH h → okXs (xn h) ((2, b) :: args) → ∀ fin, f = some fin → 1 ≤ b ∧ b ≤ (xn h : Int)) (hw : GoodIn lw_all (va_wsU own ix C owner x y (ws_ y cy ny ry))) (hdecl : Cond.declares ⟨owner, x.name, x.desc⟩ ∈ lw_tbl) (hd : owner ≠ "java/lang/invoke/MethodHandle" ∧ owner ≠ "java/lang/invoke/VarHandle" ∧ (parseMethodDescriptor x.desc).map (fun d => d.parameters.length) = some n) (hn : args.length = n) (hdd : dy + 1 ≤ d) (hny : ny ≤ 40) (hs0 : st0 = args.reverse ++ (2, b) :: st) (hcat : (st.map fun v => if v.1 = 1 then 2 else 1).sum ≤ 8) (hdg : decode cc pc = .ok (.invokevirtual ix, 3)) (kk : ∀ r h1, XG fh QQ own mn cc nL ret d Z (pc + 3) lv ((0, r) :: st) h1 (g r h1)) : XG fh QQ own mn cc nL ret d Z pc lv st0 h (mb f g) := ⟨XM.mb hm (fun r h1 => (kk r h1).1), fun X ad H locs ls cells slots hS hl hlv hst hf9 => by
  have hf0 := hf9
  have o3 := hk
  obtain ⟨r, h1, hf1, hf⟩ := mb_eq hf0
  subst hs0
  have ho := hst.app
  have hst2 : okXs (xn h) st := ho.2.t
  have hoa : okXs (xn h) ((2, b) :: args) := ho.1.rev.c ho.2.hd
  obtain ⟨o1, o2⟩ := hbb hS.okh hoa (r, h1) hf1
  have hmc := hm (r, h1) hf1
  have hmf := (kk r h1).1 (yF Z) hf
  dsimp only [xfh] at hmc
  have hMM := hM hS.okh hoa (r, h1) hf1 (yD Z) (yCT Z) (yAF Z) ad H.size (x_negs X hS)
  have hroom : (xRm dy (xc h1 - xc h) (xs h1 - xs h)).frames + 1 ≤ (yR Z).frames ∧ 8 + (ny + 11) + (xRm dy (xc h1 - xc h) (xs h1 - xs h)).locals ≤ (yR Z).locals := by rw [X.hR]; exact ⟨hdd, by show 8 + (ny + 11) + 64 * dy ≤ 64 * d; omega⟩
  have hcw : va_CU (yR Z) (yS Z) (yA Z) own C owner ix x y cy ny ry (ws_ y cy ny ry) (xRm dy (xc h1 - xc h) (xs h1 - xs h)) (xc h1 - xc h) (xs h1 - xs h) n := va_cwA n X.hts hw rfl rfl rfl (X.hN.use hdecl rfl) hd hroom
  have hcnt : cells + (xc h1 - xc h) ≤ (yR Z).cells ∧ slots + (xs h1 - xs h) ≤ (yR Z).slots := by
    have p7 := hS.2.2.2.2.2.2.1
    have p8 := hS.2.2.2.2.2.2.2
    rw [X.hR]
    exact ⟨by show _ ≤ xc (fh (yF Z)) - xc (yH Z); omega, by show _ ≤ xs (fh (yF Z)) - xs (yH Z); omega⟩
  have hrb : cX ad (2, b) = .ref (ad b) := by show rv ad b = _; unfold rv; rw [if_neg (by omega)]
  have hstk : ((args.reverse ++ (2, b) :: st).map (cX ad)) = (args.map (cX ad)).reverse ++ .ref (ad b) :: st.map (cX ad) := by rw [List.map_append, List.map_reverse, List.map_cons, hrb]
  have hq := xW_at (cT := yCT Z) (ad := ad) o1 o2
  rw [xcell_o o3 hci] at hq
  refine va_calli (A1 := va_A (xW (yCT Z) ad h) H.size) (va_runU (As := args.map (cX ad)) (rest := st.map (cX ad)) (b := ad b) ⟨X.hx, X.hb, X.hml, X.hown, X.hts⟩ hMM hcw ⟨xPre_blind, va_recv X.hK hS.hP hc hq, fun U hU hW => ⟨by rw [List.map_cons, hrb], x_pre X hS hU hW⟩⟩ rfl (by rw [List.length_map]; exact hn) (hl.1.trans X.hml) hstk (lv_room (cat_sumX hcat)) hdg hcnt) hS.hS (fun q _ hq => x_subA X hS q hq) (fun q hq => x_subA X hS q hq) ?_
  intro r' u t H1 locs1 ht hvm hpost hB hsz hkeep hS1
  obtain ⟨hr, hres⟩ := hpost
  obtain ⟨g1, g2, g3, g4, g5⟩ := x_back (fin := (r, h1)) X hS hl hlv hst2 hmc hres hB ht hS1
  have h9 := (kk r h1).2 X u H1 locs1 ls _ _ g1 g2 g3 (g4.c hres.1) hf
  rw [List.map_cons, g5] at h9
  rw [show r' = _ from hr]
  exact h9⟩
theorem x_callAl {x y : MethodName} {cy : ByteArray} {ny dy ix : Nat} {ry : Option FieldType} {b : Int} (args : List AV) (n : Nat) (hm : XM xfh h f) (hM : okH h → okXs (xn h) ((2, b) :: args) → ∀ fin, f = some fin → xSpec (yL Z) y cy ny ry dy 1 ((2, b) :: args) h fin) (C owner : String) (ci : Nat) {T : u_T} {N : Nat} (hc : gcl[ci]? = some (C, T, N)) (hci : ci < 100) (hk : xk h b = ci) (hbb : okH h → okXs (xn h) ((2, b) :: args) → ∀ fin, f = some fin → 1 ≤ b ∧ b ≤ (xn h : Int)) (hw : GoodIn lw_all (va_wsU own ix C owner x y (ws_ y cy ny ry))) (hdecl : Cond.declares ⟨owner, x.name, x.desc⟩ ∈ lw_tbl) (hd : owner ≠ "java/lang/invoke/MethodHandle" ∧ owner ≠ "java/lang/invoke/VarHandle" ∧ (parseMethodDescriptor x.desc).map (fun d => d.parameters.length) = some n) (hn : args.length = n) (hdd : dy + 1 ≤ d) (hny : ny ≤ 40) (hs0 : st0 = args.reverse ++ (2, b) :: st) (hcat : (st.map fun v => if v.1 = 1 then 2 else 1).sum ≤ 8) (hdg : decode cc pc = .ok (.invokevirtual ix, 3)) (kk : ∀ r h1, XG fh QQ own mn cc nL ret d Z (pc + 3) lv ((1, r) :: st) h1 (g r h1)) : XG fh QQ own mn cc nL ret d Z pc lv st0 h (mb f g) := ⟨XM.mb hm (fun r h1 => (kk r h1).1), fun X ad H locs ls cells slots hS hl hlv hst hf9 => by
  have hf0 := hf9
  have o3 := hk
  obtain ⟨r, h1, hf1, hf⟩ := mb_eq hf0
  subst hs0
  have ho := hst.app
  have hst2 : okXs (xn h) st := ho.2.t
  have hoa : okXs (xn h) ((2, b) :: args) := ho.1.rev.c ho.2.hd
  obtain ⟨o1, o2⟩ := hbb hS.okh hoa (r, h1) hf1
  have hmc := hm (r, h1) hf1
  have hmf := (kk r h1).1 (yF Z) hf
  dsimp only [xfh] at hmc
  have hMM := hM hS.okh hoa (r, h1) hf1 (yD Z) (yCT Z) (yAF Z) ad H.size (x_negs X hS)
  have hroom : (xRm dy (xc h1 - xc h) (xs h1 - xs h)).frames + 1 ≤ (yR Z).frames ∧ 8 + (ny + 11) + (xRm dy (xc h1 - xc h) (xs h1 - xs h)).locals ≤ (yR Z).locals := by rw [X.hR]; exact ⟨hdd, by show 8 + (ny + 11) + 64 * dy ≤ 64 * d; omega⟩
  have hcw : va_CU (yR Z) (yS Z) (yA Z) own C owner ix x y cy ny ry (ws_ y cy ny ry) (xRm dy (xc h1 - xc h) (xs h1 - xs h)) (xc h1 - xc h) (xs h1 - xs h) n := va_cwA n X.hts hw rfl rfl rfl (X.hN.use hdecl rfl) hd hroom
  have hcnt : cells + (xc h1 - xc h) ≤ (yR Z).cells ∧ slots + (xs h1 - xs h) ≤ (yR Z).slots := by
    have p7 := hS.2.2.2.2.2.2.1
    have p8 := hS.2.2.2.2.2.2.2
    rw [X.hR]
    exact ⟨by show _ ≤ xc (fh (yF Z)) - xc (yH Z); omega, by show _ ≤ xs (fh (yF Z)) - xs (yH Z); omega⟩
  have hrb : cX ad (2, b) = .ref (ad b) := by show rv ad b = _; unfold rv; rw [if_neg (by omega)]
  have hstk : ((args.reverse ++ (2, b) :: st).map (cX ad)) = (args.map (cX ad)).reverse ++ .ref (ad b) :: st.map (cX ad) := by rw [List.map_append, List.map_reverse, List.map_cons, hrb]
  have hq := xW_at (cT := yCT Z) (ad := ad) o1 o2
  rw [xcell_o o3 hci] at hq
  refine va_calll (A1 := va_A (xW (yCT Z) ad h) H.size) (va_runU (As := args.map (cX ad)) (rest := st.map (cX ad)) (b := ad b) ⟨X.hx, X.hb, X.hml, X.hown, X.hts⟩ hMM hcw ⟨xPre_blind, va_recv X.hK hS.hP hc hq, fun U hU hW => ⟨by rw [List.map_cons, hrb], x_pre X hS hU hW⟩⟩ rfl (by rw [List.length_map]; exact hn) (hl.1.trans X.hml) hstk (lv_room (cat_sumX hcat)) hdg hcnt) hS.hS (fun q _ hq => x_subA X hS q hq) (fun q hq => x_subA X hS q hq) ?_
  intro r' u t H1 locs1 ht hvm hpost hB hsz hkeep hS1
  obtain ⟨hr, hres⟩ := hpost
  obtain ⟨g1, g2, g3, g4, g5⟩ := x_back (fin := (r, h1)) X hS hl hlv hst2 hmc hres hB ht hS1
  have h9 := (kk r h1).2 X u H1 locs1 ls _ _ g1 g2 g3 (g4.c hres.1) hf
  rw [List.map_cons, g5] at h9
  rw [show r' = _ from hr]
  exact h9⟩
theorem x_tswC {x c dflt lo hi off : Int} {offs : Array Int} {len : Nat} {A B : Option ρ} (tgt : Nat) (hd : decode cc pc = .ok (.tableswitch dflt lo hi offs, len)) (hc : in32 c) (h1 : ¬ c < lo) (h2 : ¬ hi < c) (ho : offs[(c - lo).toNat]? = some off) (ht : (pc : Int) + off = (tgt : Int)) (kt : x = c → XG fh QQ own mn cc nL ret d Z tgt lv st h A) (kf : x ≠ c → XG fh QQ own mn cc nL ret d Z pc lv ((0, x) :: st) h B) : XG fh QQ own mn cc nL ret d Z pc lv ((0, x) :: st) h (if x = c then A else B) := ⟨XM.ite (fun e => (kt e).1) (fun e => (kf e).1), fun X ad H locs ls cells slots hS hl hlv hst hf => by
  by_cases e : x = c
  · rw [if_pos e] at hf
    subst e
    exact lv_tableIn X.hx X.hb hd (by rw [toI32 hst.i]; exact h1) (by rw [toI32 hst.i]; exact h2) (by rw [toI32 hst.i]; exact ho) ht ((kt rfl).2 X ad H locs ls cells slots hS hl hlv hst.t hf)
  · rw [if_neg e] at hf
    exact (kf e).2 X ad H locs ls cells slots hS hl hlv hst hf⟩
theorem x_tswO {x dflt lo hi : Int} {offs : Array Int} {len : Nat} (tgt : Nat) (hd : decode cc pc = .ok (.tableswitch dflt lo hi offs, len)) (ho : x < lo ∨ hi < x) (ht : (pc : Int) + dflt = (tgt : Int)) (kk : XG fh QQ own mn cc nL ret d Z tgt lv st h res) : XG fh QQ own mn cc nL ret d Z pc lv ((0, x) :: st) h res := ⟨kk.1, fun X ad H locs ls cells slots hS hl hlv hst hf =>
  lv_tableOut X.hx X.hb hd (by rw [toI32 hst.i]; exact ho) ht (kk.2 X ad H locs ls cells slots hS hl hlv hst.t hf)⟩
/-- the static empty array of ArrayList has the name -1 -/
theorem x_dflt {ix : Nat} {ref : String} (hT : "java/util/ArrayList" = ref) (hq : Cond.fieldLink own ix ref "DEFAULTCAPACITY_EMPTY_ELEMENTDATA" "[Ljava/lang/Object;" ∈ lw_all) (hd : decode cc pc = .ok (.getstatic ix, 3)) (kk : XG fh QQ own mn cc nL ret d Z (pc + 3) lv ((2, -1) :: st) h res) : XG fh QQ own mn cc nL ret d Z pc lv st h res := ⟨kk.1, fun X ad H locs ls cells slots hS hl hlv hst hf => by
  have h2 := kk.2 X ad H locs ls cells slots hS hl hlv (hst.c (okX.r (by omega))) hf
  have e : rv ad (-1) = .ref (yAF Z (-1)) := by unfold rv; rw [if_neg (by omega), x_negs X hS (-1) (by omega)]
  change W _ _ _ _ _ _ _ _ _ _ _ _ _ _ _ (F0 _ _ _ (rv ad (-1) :: _)) at h2
  rw [e] at h2
  exact va_gets X.hx X.hb X.hZ.1 hS.hS X.hown (X.hts _ hq) (fun x e => by subst hT; exact e) hd h2⟩
/-- arraylength of an array of objects, the empty one among them -/
def xln (h : XH) (a : Int) : Int := if a = -1 then 0 else (xl h a : Int)
def alo {β : Type} (h : XH) (a : Int) (r : Option β) : Option β := if a = -1 ∨ (1 ≤ a ∧ a ≤ (xn h : Int) ∧ xk h a = 109) then r else none
theorem alo_some {β : Type} {h : XH} {a : Int} {r : Option β} {b : β} (q : alo h a r = some b) : (a = -1 ∨ (1 ≤ a ∧ a ≤ (xn h : Int) ∧ xk h a = 109)) ∧ r = some b := by
  unfold alo at q; split at q
  · rename_i g; exact ⟨g, q⟩
  · cases q
theorem alo_ok {β : Type} {h : XH} {a : Int} {r : Option β} (g : a = -1 ∨ (1 ≤ a ∧ a ≤ (xn h : Int) ∧ xk h a = 109)) : alo h a r = r := if_pos g
theorem XM.alo {h0 : XH} {a : Int} {r : Option ρ} (k : XM fh h r) : XM fh h (alo h0 a r) := fun fin hf => k fin (alo_some hf).2
theorem x_alenO {a : Int} (hd : decode cc pc = .ok (.arraylength, 1)) (kk : XG fh QQ own mn cc nL ret d Z (pc + 1) lv ((0, xln h a) :: st) h res) : XG fh QQ own mn cc nL ret d Z pc lv ((2, a) :: st) h (alo h a res) := ⟨kk.1.alo, fun X ad H locs ls cells slots hS hl hlv hst hf0 => by
  obtain ⟨ha, hf⟩ := alo_some hf0
  by_cases e : a = -1
  · subst e
    have e2 : rv ad (-1) = .ref (yAF Z (-1)) := by unfold rv; rw [if_neg (by omega), x_negs X hS (-1) (by omega)]
    show W _ _ _ _ _ _ _ _ _ _ _ _ _ _ _ (F0 _ _ _ (rv ad (-1) :: _))
    rw [e2]
    have hz : xln h (-1) = 0 := if_pos rfl
    rw [hz] at kk
    exact va_tlen X.hx X.hb X.hZ.2.1 hS.hS (v := I32 0) rfl hd (kk.2 X ad H locs ls cells slots hS hl hlv (hst.t.c (okX.i in32_0)) hf)
  · rcases ha with ha | ⟨h1, h2, h3⟩
    · exact absurd ha e
    · have hz : xln h a = (xl h a : Int) := if_neg e
      rw [hz] at kk
      exact (x_alen 9 (by decide) hd kk).2 X ad H locs ls cells slots hS hl hlv hst (by rw [al_ok h1 h2 h3]; exact hf)⟩
/-- is it the empty array? -/
def gm {β : Type} (a : Int) (r : Option β) : Option β := if -1 ≤ a then r else none
theorem gm_some {β : Type} {a : Int} {r : Option β} {b : β} (q : gm a r = some b) : -1 ≤ a ∧ r = some b := by
  unfold gm at q; split at q
  · rename_i g; exact ⟨g, q⟩
  · cases q
theorem gm_ok {β : Type} {a : Int} {r : Option β} (g : -1 ≤ a) : gm a r = r := if_pos g
theorem XM.gm {a : Int} {r : Option ρ} (k : XM fh h r) : XM fh h (gm a r) := fun fin hf => k fin (gm_some hf).2
theorem x_acmpD {a off : Int} {A B : Option ρ} (tgt : Nat) (hd : decode cc pc = .ok (.if_acmp .eq off, 3)) (ht : (pc : Int) + off = (tgt : Int)) (kt : a = -1 → XG fh QQ own mn cc nL ret d Z tgt lv st h A) (kf : ¬ a = -1 → XG fh QQ own mn cc nL ret d Z (pc + 3) lv st h B) : XG fh QQ own mn cc nL ret d Z pc lv ((2, -1) :: (2, a) :: st) h (gm a (if a = -1 then A else B)) := ⟨(XM.ite (fun e => (kt e).1) (fun e => (kf e).1)).gm, fun X ad H locs ls cells slots hS hl hlv hst hf0 => by
  obtain ⟨ha, hf⟩ := gm_some hf0
  show W _ _ _ _ _ _ _ _ _ _ _ _ _ _ _ (F0 _ _ _ (rv ad (-1) :: rv ad a :: _))
  rw [← rv_ro, ← rv_ro]
  have e1 : ro ad (-1) = some (yAF Z (-1)) := by unfold ro; rw [if_neg (by omega), x_negs X hS (-1) (by omega)]
  have key : ro ad a = ro ad (-1) ↔ a = -1 := by
    constructor
    · intro e
      rw [e1] at e
      unfold ro at e
      split at e
      · cases e
      · rename_i a0
        have e3 := Option.some.inj e
        by_cases h1 : 1 ≤ a
        · exfalso
          have hA := (hS.hD.2 (a.toNat - 1) _ (xW_at (cT := yCT Z) (ad := ad) h1 hst.t.r))
          have hA2 : yAA Z (ad a) := hA
          rw [e3] at hA2
          obtain ⟨_, _, _, _, _, _, _, hn⟩ := X.hZ.2.1
          exact hn hA2
        · omega
    · intro e; rw [e]
  refine lv_acmp_eq X.hx X.hb hd ht (fun c => ?_) (fun c => ?_)
  · have c2 : a = -1 := key.mp c
    rw [if_pos c2] at hf
    exact (kt c2).2 X ad H locs ls cells slots hS hl hlv hst.t.t hf
  · have c2 : ¬ a = -1 := fun q => c (key.mpr q)
    rw [if_neg c2] at hf
    exact (kf c2).2 X ad H locs ls cells slots hS hl hlv hst.t.t hf⟩
end ROWS
