/-! the system's layer: methods with a table of handlers that return -/
set_option maxRecDepth 100000
set_option maxHeartbeats 2000000
def xQW (hh : List (Nat × Nat × Nat × Nat)) (rk : Nat) (Z : XZ XR) : State → Prop := fun t => ((yL Z).stackTraces = false ∧ (yC Z).exceptionTable.toList = tableOf hh) → xQ rk Z t
section CATCH
variable {own mn : String} {cc : ByteArray} {nL : Nat} {ret : Option FieldType} {d : Nat} {Z : XZ XR} {pc : Nat} {lv : List (Nat × AV)} {st : List AV} {h : XH} {hh tl : List (Nat × Nat × Nat × Nat)} {rk : Nat} {res : Option XR}
theorem xW_ret (k : XG xfh (xQ rk) own mn cc nL ret d Z pc lv st h res) : XG xfh (xQW hh rk) own mn cc nL ret d Z pc lv st h res := ⟨k.1, fun X ad H locs ls cells slots hS hl hlv hst hf => W_mono (fun t q _ => q) (k.2 X ad H locs ls cells slots hS hl hlv hst hf)⟩
theorem x3_catch {a b hp ct : Nat} {x : Int} (hc : (decide (a ≤ pc) && decide (pc < b)) = true) (h0 : ct ≠ 0) (hlk : Cond.classLink own ct RX7 ∈ lw_all) (kk : XG xfh (xQW ((a, b, hp, ct) :: tl) rk) own mn cc nL ret d Z hp lv [(2, x)] h res) : XT xfh (xQW ((a, b, hp, ct) :: tl) rk) own mn cc nL ret d Z pc lv x h res := ⟨kk.1, fun X ad H locs ls cells slots hS hl hlv h1 h2 h3 hf ce hce hcv hcl rest => by
  by_cases hT : (yL Z).stackTraces = false ∧ (yC Z).exceptionTable.toList = tableOf ((a, b, hp, ct) :: tl)
  case neg => exact fun T hT0 X0 => ⟨_, Steps.refl _, fun q => absurd q hT⟩
  have k2 := kk.2 X ad H locs ls cells slots hS hl hlv (okXs.c (okX.r h2) okXs.nil) hf
  have hrb : cX ad (2, x) = .ref (ad x) := by show rv ad x = _; unfold rv; rw [if_neg (by omega)]
  rw [List.map_cons, hrb] at k2
  exact vx_catch (name := RX7) (E := RX7) X.hown [] ⟨a, b, hp, ct⟩ (tableOf tl) hT.2 (fun z hz => nomatch hz) hc h0 (X.hts _ hlk) ((X.hN.use q601 rfl).use rfl) hce hcv hcl k2⟩
end CATCH
def xSpecW (l : Launch) (y : MethodName) (cc : ByteArray) (nL : Nat) (ret : Option FieldType) (hh : List (Nat × Nat × Nat × Nat)) (d rk : Nat) (avs : List AV) (h : XH) (fin : XR) : Prop :=
  ∀ (D : va_G) (cT : Nat → ClassId) (adF ad : Int → Nat) (sz : Nat), (∀ a : Int, a < 0 → ad a = adF a) → vx_Met l y (wsW_ y cc nL ret hh) (xRm d (xc fin.2 - xc h) (xs fin.2 - xs h)) (va_Pc (avs.map (cX ad)) (xPre D cT adF ad sz h)) (xQc rk D cT ad (va_A (xW cT ad h) sz) h fin) (fun _ _ _ _ => False) (xc fin.2 - xc h) (xs fin.2 - xs h) (va_A (xW cT ad h) sz)
theorem xW_enter {l : Launch} {y : MethodName} {own mn : String} {cc : ByteArray} {nL : Nat} {ret : Option FieldType} {hh : List (Nat × Nat × Nat × Nat)} {d rk : Nat} {avs : List AV} {h : XH} {f : Option XR} (hy : plainName y.cls = true) (hyc : y.cls = own) (hmn : y.name = mn) (hn : avN avs ≤ nL) {lv : List (Nat × AV)} (hlv : avL 0 avs = lv) (walk : ∀ Z : XZ XR, yL Z = l → XG xfh (xQW hh rk) own mn cc nL ret d Z 0 lv [] h f) (hst : l.stackTraces = false) (hok : okH h) (hav : okXs (xn h) avs) (fin : XR) (hf : f = some fin) : xSpecW l y cc nL ret hh d rk avs h fin := by
  intro D cT adF ad sz hneg
  refine vx_ofWH (cc := cc) (maxL := nL) (ret := ret) (hh := hh) hy rfl ?_
  intro p e s m args below meth c s₁ B hml hv
  obtain ⟨hargs, hsz, hP, hD, hK, hN, hZ⟩ := hv
  subst hargs
  subst hsz
  have hts := atoms_spec (ws := wsW_ y cc nL ret hh) B.pre
  have htab := vx_table (x := y) B (hts _ List.mem_cons_self)
  have hts : ∀ w ∈ lw_all, w.before _ s = true := fun w h => hts w (List.mem_cons_of_mem _ h)
  have hown : s.vm.findClass own = some m.cls := by rw [← hyc]; exact findClass_of_methodNamed B.named
  have hnm : meth.name = mn := by rw [← hmn]; exact (name_of_methodNamed B.named B.method).1
  rw [lg_entry_eq]
  have hl := lv_entry (avs.map (cX ad)) (n := nL) (by rw [avN_slX]; exact hn)
  have hw := (walk ((p, l, e, (headSpec (wsW_ y cc nL ret hh) (xRm d (xc fin.2 - xc h) (xs fin.2 - xs h))).room, s, m, (avs.map (cX ad)).toArray, below, meth, c), (D, cT, adF, ad, va_A (xW cT ad h) s.heap.size), (fin, h)) rfl).2
  refine W_mono (fun t q => ?_) (hw ⟨rfl, B.exec, B.bytes, hml, hown, hts, hK, B.notSynchronized, B.returns, hN, hZ, fun q hq => Or.inr hq, hneg, hnm⟩ ad s.heap [] _ 0 0 ⟨hP, hD.self, va_S.rf, hok, ⟨fun a _ => rfl, fun a j _ => rfl⟩, Nat.le_refl _, rfl, rfl⟩ (by rw [← hlv, avL_mapX]; show lv_has _ c.maxLocals _; rw [hml]; exact hl) (by rw [← hlv]; exact avL_okX hav 0) okXs.nil hf)
  obtain ⟨o, b1, b2, b3, b4⟩ := q ⟨hst, htab⟩
  exact ⟨o, b1, b2, Or.inl ⟨b3, b4⟩⟩
