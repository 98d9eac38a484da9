/-! printed by tools/gen_xthrow.py: a callee that may leave by the machine's index error, and its catching -/
set_option maxRecDepth 100000
set_option maxHeartbeats 2000000
def xXA (D : va_G) (cT : Nat → ClassId) (ad : Int → Nat) (A : Nat → Prop) (h0 : XH) (fin : XR3) : Addr → String → State → State → Prop := vx_X (S := Int → Nat) (fun u => fin.1 = true ∧ okRes 2 ad h0 (0, fin.2.2) u) (fun q E u t => E = AIO ∧ okB D cT A (0, fin.2.2) u t) A
def xTA (rk : Nat) (Z : XZ XR3) : State → Prop := fun t => ((yL Z).stackTraces = false ∧ ∀ x ∈ (yC Z).exceptionTable.toList, False) → vx_MQ (yB Z) (xQc3 rk (yD Z) (yCT Z) (yA0 Z) (yAA Z) (yH Z) (yF Z)) (xXA (yD Z) (yCT Z) (yA0 Z) (yAA Z) (yH Z) (yF Z)) (yA Z) (yS Z) (xc (yF Z).2.2 - xc (yH Z)) (xs (yF Z).2.2 - xs (yH Z)) (yAA Z) t
theorem xTA_q {rk : Nat} (Z : XZ XR3) (t : State) (h : ¬ (yL Z).stackTraces = false) : xTA rk Z t := fun q => absurd q.1 h
def xSpecA (l : Launch) (y : MethodName) (cc : ByteArray) (nL : Nat) (ret : Option FieldType) (d rk : Nat) (avs : List AV) (h : XH) (fin : XR3) : Prop :=
  ∀ (D : va_G) (cT : Nat → ClassId) (adF ad : Int → Nat) (sz : Nat), (∀ a : Int, a < 0 → ad a = adF a) → vx_Met l y (ws_ y cc nL ret) (xRm d (xc fin.2.2 - xc h) (xs fin.2.2 - xs h)) (va_Pc (avs.map (cX ad)) (xPre D cT adF ad sz h)) (xQc3 rk D cT ad (va_A (xW cT ad h) sz) h fin) (xXA D cT ad (va_A (xW cT ad h) sz) h fin) (xc fin.2.2 - xc h) (xs fin.2.2 - xs h) (va_A (xW cT ad h) sz)
theorem xQ_xTA {rk : Nat} (hrk : rk = 0 ∨ rk = 2 ∨ rk = 3) {z1 : Program × Launch × Env × Room × State × MethodId × Array Value × List Frame × Method × Code} {z2 : va_G × (Nat → ClassId) × (Int → Nat) × (Int → Nat) × (Nat → Prop)} {f : XR} {h : XH} (t : State) (q : xQ rk (z1, z2, (f, h)) t) : xTA rk (z1, z2, ((false, f), h)) t := by
  intro _
  obtain ⟨o, b1, b2, b3, b4⟩ := q
  refine ⟨o, b1, b2, Or.inl ⟨?_, b4⟩⟩
  rcases hrk with rfl | rfl | rfl
  · obtain ⟨⟨r, u, c1, c2, c3⟩, c4⟩ := b3
    exact ⟨⟨r, u, c1, ⟨rfl, c2⟩, c3⟩, c4⟩
  · obtain ⟨⟨u, c1, c2, c3⟩, c4⟩ := b3
    exact ⟨⟨u, c1, ⟨rfl, c2⟩, c3⟩, c4⟩
  · obtain ⟨⟨r, u, c1, c2, c3⟩, c4⟩ := b3
    exact ⟨⟨r, u, c1, ⟨rfl, c2⟩, c3⟩, c4⟩
theorem x3A_ret {own mn : String} {cc : ByteArray} {nL : Nat} {ret : Option FieldType} {d : Nat} {Z : XZ XR3} {pc : Nat} {lv : List (Nat × AV)} {st : List AV} {h : XH} {rk : Nat} {f : XR} (hrk : rk = 0 ∨ rk = 2 ∨ rk = 3) (k : ∀ Z' : XZ XR, XG xfh (xQ rk) own mn cc nL ret d Z' pc lv st h (some f)) : XG xf3 (xTA rk) own mn cc nL ret d Z pc lv st h (some (false, f)) := ⟨fun fin e => by
  have e := Option.some.inj e
  subst e
  exact (k (Z.1, Z.2.1, (f, yH Z))).1 f rfl, fun X ad H locs ls cells slots hS hl hlv hst hf => by
  obtain ⟨z1, z2, zF, zH⟩ := Z
  have hf : (false, f) = zF := Option.some.inj hf
  subst hf
  exact W_mono (xQ_xTA hrk) ((k (z1, z2, (f, zH))).2 X ad H locs ls cells slots hS hl hlv hst rfl)⟩
theorem x3A_out {own mn : String} {cc : ByteArray} {nL : Nat} {ret : Option FieldType} {d : Nat} {Z : XZ XR3} {pc : Nat} {lv : List (Nat × AV)} {h : XH} {rk : Nat} : XTA xf3 (xTA rk) own mn cc nL ret d Z pc lv h (some (true, 0, h)) := ⟨fun fin e => by
  have e := Option.some.inj e
  subst e
  exact ⟨Nat.le_refl _, Nat.le_refl _, Nat.le_refl _⟩, fun X ad H locs ls cells slots hS hl hlv hf q9 ce hce hcv hcl rest => by
  obtain ⟨⟨p9, l9, e9, R9, s9, m9, a9, b9, t9, c9⟩, z2, zF, zH⟩ := Z
  have hf : (true, 0, h) = zF := Option.some.inj hf
  subst hf
  obtain ⟨p1, p2, p3, p4, p5, p6, p7, p8⟩ := hS
  by_cases hT : l9.stackTraces = false ∧ ∀ x ∈ c9.exceptionTable.toList, False
  case neg => exact fun T hT0 X0 => ⟨_, Steps.refl _, fun q => absurd q hT⟩
  intro T9 hT9 X9
  have hh : vx_W p9 l9 e9 R9 s9 m9 a9 b9 t9 c9 H locs cells slots (vx_MQ b9 (xQc3 rk z2.1 z2.2.1 z2.2.2.2.1 z2.2.2.2.2 zH (true, 0, h)) (xXA z2.1 z2.2.1 z2.2.2.2.1 z2.2.2.2.2 zH (true, 0, h)) a9 s9 (xc h - xc zH) (xs h - xs zH) z2.2.2.2.2) (F0 m9 pc ls rest) q9 := ?_
  · obtain ⟨t, c1, c2⟩ := hh T9 hT9 X9
    exact ⟨t, c1, fun _ => c2⟩
  refine vx_out (fun z hz => absurd (hT.2 z hz) id) X.hlk hce hcv hcl (fun t ht ha => ?_) p3.2.2 (by have p7' : xc h = xc zH + cells := p7; show cells ≤ xc h - xc zH; omega) (by have p8' : xs h = xs zH + slots := p8; show slots ≤ xs h - xs zH; omega)
  exact ⟨ad, ⟨rfl, okX.r (Int.natCast_nonneg _), p4, p6, p5.1, p5.2⟩, ⟨rfl, by show va_P _ _ _ t.heap; rw [ht]; exact p1, p2⟩, p3.F ht⟩⟩
theorem xA_enter {l : Launch} {y : MethodName} {own mn : String} {cc : ByteArray} {nL : Nat} {ret : Option FieldType} {d rk : Nat} {avs : List AV} {h : XH} {f : Option XR3} (hy : plainName y.cls = true) (hyc : y.cls = own) (hmn : y.name = mn) (hn : avN avs ≤ nL) {lv : List (Nat × AV)} (hlv : avL 0 avs = lv) (walk : ∀ Z : XZ XR3, yL Z = l → XG xf3 (xTA rk) own mn cc nL ret d Z 0 lv [] h f) (hst : l.stackTraces = false) (hok : okH h) (hav : okXs (xn h) avs) (fin : XR3) (hf : f = some fin) : xSpecA l y cc nL ret d rk avs h fin := by
  intro D cT adF ad sz hneg
  refine vx_ofW (cc := cc) (maxL := nL) (ret := ret) hy rfl ?_
  intro p e s m args below meth c s₁ B hml htab hv
  obtain ⟨hargs, hsz, hP, hD, hK, hN, hZ⟩ := hv
  subst hargs
  subst hsz
  have hts := atoms_spec (ws := ws_ y cc nL ret) B.pre
  have hts : ∀ w ∈ lw_all, w.before _ s = true := fun w h => hts w (List.mem_cons_of_mem _ h)
  have hown : s.vm.findClass own = some m.cls := by rw [← hyc]; exact findClass_of_methodNamed B.named
  have hnm : meth.name = mn := by rw [← hmn]; exact (name_of_methodNamed B.named B.method).1
  rw [lg_entry_eq]
  have hl := lv_entry (avs.map (cX ad)) (n := nL) (by rw [avN_slX]; exact hn)
  have hw := (walk ((p, l, e, (headSpec (ws_ y cc nL ret) (xRm d (xc fin.2.2 - xc h) (xs fin.2.2 - xs h))).room, s, m, (avs.map (cX ad)).toArray, below, meth, c), (D, cT, adF, ad, va_A (xW cT ad h) s.heap.size), (fin, h)) rfl).2
  exact W_mono (fun t q => q ⟨hst, htab⟩) (hw ⟨rfl, B.exec, B.bytes, hml, hown, hts, hK, B.notSynchronized, B.returns, hN, hZ, fun q hq => Or.inr hq, hneg, hnm⟩ ad s.heap [] _ 0 0 ⟨hP, hD.self, va_S.rf, hok, ⟨fun a _ => rfl, fun a j _ => rfl⟩, Nat.le_refl _, rfl, rfl⟩ (by rw [← hlv, avL_mapX]; show lv_has _ c.maxLocals _; rw [hml]; exact hl) (by rw [← hlv]; exact avL_okX hav 0) okXs.nil hf)
abbrev aiU (h : XH) (a j : Int) (t r : Option XR3) : Option XR3 := aiT h a j r t
section CATCHA
variable {own mn : String} {cc : ByteArray} {nL : Nat} {ret : Option FieldType} {d : Nat} {Z : XZ XR} {pc : Nat} {lv : List (Nat × AV)} {st : List AV} {h : XH} {hh tl : List (Nat × Nat × Nat × Nat)} {rk : Nat} {res : Option XR}
theorem x_catchA {a b hp ct i : Nat} {lv' : List (Nat × AV)} (hc : (decide (a ≤ pc) && decide (pc < b)) = true) (h0 : ct ≠ 0) (hlk : Cond.classLink own ct AIO ∈ lw_all) (hda : decode cc hp = .ok (.astore i, 2)) (hn : i < nL) (hl' : lvs1 i (2, 0) lv = (i, (2, 0)) :: lv') (kk : XG xfh (xQW ((a, b, hp, ct) :: tl) rk) own mn cc nL ret d Z (hp + 2) lv' [] h res) : XTA xfh (xQW ((a, b, hp, ct) :: tl) rk) own mn cc nL ret d Z pc lv h res := ⟨kk.1, fun X ad H locs ls cells slots hS hl hlv hf q9 ce hce hcv hcl rest => by
  by_cases hT : (yL Z).stackTraces = false ∧ (yC Z).exceptionTable.toList = tableOf ((a, b, hp, ct) :: tl)
  case neg => exact fun T hT0 X0 => ⟨_, Steps.refl _, fun q => absurd q hT⟩
  have hmap := lvs1_mapX ad i (2, 0) lv
  rw [hl', List.map_cons] at hmap
  have hmap := (List.cons.inj hmap).2
  have hlv2 : okXl (xn h) lv' := fun q hq => hlv.s1 (i := i) (v := (2, 0)) (okX.r (Int.natCast_nonneg _)) q (by rw [hl']; exact List.mem_cons_of_mem _ hq)
  refine vx_catch (name := AIO) (E := AIO) X.hown [] ⟨a, b, hp, ct⟩ (tableOf tl) hT.2 (fun z hz => nomatch hz) hc h0 (X.hts _ hlk) ((X.hN.use q1482 rfl).use rfl) hce hcv hcl ?_
  refine lv_astore X.hx X.hb hda hl (by rw [X.hml]; exact hn) rfl (fun ls' hl2 => ?_)
  exact kk.2 X ad H locs ls' cells slots hS ⟨hl2.1, hl2.2.1, fun q hq => hl2.2.2 q (List.mem_cons_of_mem _ (by rw [← hmap]; exact hq))⟩ hlv2 okXs.nil hf⟩
end CATCHA
section ROWS
variable {ρ : Type} {fh : ρ → XH} {QQ : XZ ρ → State → Prop} {own mn : String} {cc : ByteArray} {nL : Nat} {ret : Option FieldType} {d : Nat} {Z : XZ ρ} {pc : Nat} {lv : List (Nat × AV)} {st st0 : List AV} {h : XH}
theorem x3_callSi {f : Option XR3} {g k : Int → XH → Option ρ} {y : MethodName} {cy : ByteArray} {ny dy ix : Nat} {ry : Option FieldType} (args : List AV) (n : Nat) (hm : XM xf3 h f) (hM : okH h → okXs (xn h) (args) → ∀ fin, f = some fin → xSpecA (yL Z) y cy ny ry dy 0 (args) h fin) (hw : GoodIn lw_all (va_wsS own ix y (ws_ y cy ny ry))) (hd : y.cls ≠ "java/lang/invoke/MethodHandle" ∧ y.cls ≠ "java/lang/invoke/VarHandle" ∧ (parseMethodDescriptor y.desc).map (fun d => d.parameters.length) = some n) (hn : args.length = n) (hdd : dy + 1 ≤ d) (hny : ny ≤ 40) (hs0 : st0 = args.reverse ++ st) (hcat : (st.map fun v => if v.1 = 1 then 2 else 1).sum ≤ 8) (hdg : decode cc pc = .ok (.invokestatic ix, 3)) (kk : ∀ r h1, XG fh QQ own mn cc nL ret d Z (pc + 3) lv ((0, r) :: st) h1 (g r h1)) (kx : ∀ r h1, XTA fh QQ own mn cc nL ret d Z pc lv h1 (k r h1)) : XG fh QQ own mn cc nL ret d Z pc lv st0 h (mb3 f g k) := ⟨XM.mb3 hm (fun r h1 => (kk r h1).1) (fun r h1 => (kx r h1).1), fun X ad H locs ls cells slots hS hl hlv hst hf0 => by
  obtain ⟨⟨tb, r, h1⟩, hf1, hfa, hfb⟩ := mb3_some hf0
  dsimp only at hfa hfb
  subst hs0
  have ho := hst.app
  have hst2 : okXs (xn h) st := ho.2
  have hoa : okXs (xn h) args := ho.1.rev
  have hmc := hm (tb, r, h1) hf1
  have hmf : xc h1 ≤ xc (fh (yF Z)) ∧ xs h1 ≤ xs (fh (yF Z)) ∧ xn h1 ≤ xn (fh (yF Z)) := by
    cases tb with
    | false => exact (kk r h1).1 (yF Z) (hfa rfl)
    | true => exact (kx r h1).1 (yF Z) (hfb rfl)
  dsimp only [xf3] at hmc
  have hMM := hM hS.okh hoa (tb, r, h1) hf1 (yD Z) (yCT Z) (yAF Z) ad H.size (x_negs X hS)
  have hroom : (xRm dy (xc h1 - xc h) (xs h1 - xs h)).frames + 1 ≤ (yR Z).frames ∧ 8 + (ny + 11) + (xRm dy (xc h1 - xc h) (xs h1 - xs h)).locals ≤ (yR Z).locals := by rw [X.hR]; exact ⟨hdd, by show 8 + (ny + 11) + 64 * dy ≤ 64 * d; omega⟩
  have hcw : CallB (yR Z) (yS Z) (yA Z) own ix y cy ny ry (ws_ y cy ny ry) (xRm dy (xc h1 - xc h) (xs h1 - xs h)) (xc h1 - xc h) (xs h1 - xs h) n ∧ (Cond.static y).before (yA Z) (yS Z) = true := va_cwS n X.hts hw rfl rfl rfl hd hroom
  have hcnt : cells + (xc h1 - xc h) ≤ (yR Z).cells ∧ slots + (xs h1 - xs h) ≤ (yR Z).slots := by
    have p7 := hS.2.2.2.2.2.2.1
    have p8 := hS.2.2.2.2.2.2.2
    rw [X.hR]
    exact ⟨by show _ ≤ xc (fh (yF Z)) - xc (yH Z); omega, by show _ ≤ xs (fh (yF Z)) - xs (yH Z); omega⟩
  have hstk : ((args.reverse ++ st).map (cX ad)) = (args.map (cX ad)).reverse ++ st.map (cX ad) := by rw [List.map_append, List.map_reverse]
  refine vx_calli (AX := va_A (xW (yCT Z) ad h) H.size) (A1 := va_A (xW (yCT Z) ad h) H.size) (vx_runS (As := args.map (cX ad)) (rest := st.map (cX ad)) ⟨X.hx, X.hb, X.hml, X.hown, X.hts⟩ hMM hcw ⟨xPre_blind, fun U hU hW => ⟨rfl, x_pre X hS hU hW⟩⟩ rfl (by rw [List.length_map]; exact hn) (hl.1.trans X.hml) hstk (lv_room (cat_sumX hcat)) hdg hcnt) hS.hS (fun q _ hq => x_subA X hS q hq) (fun q hq => x_subA X hS q hq) (fun q _ hq => x_subA X hS q hq) ?_ ?_
  · intro E ce q9 u t H1 locs1 ht hvm hpx hB hsz hkeep hS1 hce hcv hcl
    obtain ⟨ht1, hres⟩ := hpx
    obtain ⟨hE, hB⟩ := hB
    dsimp only at ht1
    subst ht1
    subst hE
    obtain ⟨g1, g2, g3, g4, g5⟩ := x_back (fin := (0, h1)) X hS hl hlv hst2 hmc hres hB ht hS1
    exact (kx r h1).2 X u H1 locs1 ls _ _ g1 g2 g3 (hfb rfl) q9 ce hce hcv hcl _
  · intro r' u t H1 locs1 ht hvm hpost hB hsz hkeep hS1
    obtain ⟨ht1, hr, hres⟩ := hpost
    dsimp only at ht1
    subst ht1
    obtain ⟨g1, g2, g3, g4, g5⟩ := x_back (fin := (r, h1)) X hS hl hlv hst2 hmc hres hB ht hS1
    have h9 := (kk r h1).2 X u H1 locs1 ls _ _ g1 g2 g3 (g4.c hres.1) (hfa rfl)
    rw [List.map_cons, g5] at h9
    rw [show r' = _ from hr]
    exact h9⟩
end ROWS
