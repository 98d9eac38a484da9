/-! the law: what holds between two calls, and the calls -/
set_option maxRecDepth 100000
set_option maxHeartbeats 400000
def R_law : String := "ExamSlipsLaw"
def lw_P (b : Addr) (xs : List Int32) (args : Array Value) (s : State) : Prop := args = #[.ref b] ∧ s.IntsAt b xs ∧ xs.length ≤ 384 ∧ (Jvm.Cond.and given_1 narrow_1).before args s = true
def lw_Q (_ : Array Value) (s : State) (o : Outcome) (t : State) : Prop := o = .returned (some (.int 1)) ∧ Framed s o t [] 1200384 5488810
def lw_Z (below : List Frame) (a : Array Value) (s : State) : State → Prop := fun t => ∃ o, t.status = .running ∧ Ended t below o ∧ lw_Q a s o t
/-- the law's own end, with 1 on the stack, nothing written that was there before, its room as the claim has it -/
theorem lw_ret {p : Program} {l : Launch} {e : Env} {s : State} {m : MethodId} {below : List Frame} {meth : Method} {c : Code} {b : Nat} (hx : p.tables.exec = Jvm.exec) (hb : c.code = code) (hr : meth.sig.returnType = ret) (hlocks : meth.locks = false) {pc : Nat} {H : Heap} {ls : Array Slot} (hdg : decode code pc = .ok (.ireturn, 1)) : W p l e room_1 s m #[Value.ref b] below meth c H [] 1200384 5488810 (lw_Z below #[Value.ref b] s) (F0 m pc ls [.int 1]) := by
  intro T hT X
  obtain ⟨fs, hret, hrun, hended, hW, hframe⟩ := X.leave (v := some (.int 1)) (hlocks := hlocks) (fun h => by rw [hr] at h; cases h)
  have hmeth' : T.vm.method? m = some meth := X.method'
  refine ⟨T.setFrames fs, ?_, .returned (some (.int 1)), hrun, hended, rfl, ⟨_, rfl⟩, hW, hframe⟩
  jvm_step X.here [X.here.top, hx, hb, hdg, hmeth', hr, ret, narrow_b1]
  (try refine ⟨rfl, ?_⟩); (try refine ⟨rfl, ?_⟩)
  first | (intro acts; rw [hret _ acts rfl rfl rfl]) | rw [hret _ _ rfl rfl rfl]
  exact Steps.refl _
/-- what holds at the law's entry: the machine, the code, the tables' words (any of lw_tbl by 'hts w (by decide +kernel)'), the script of L ints xs at the cell b, what the Statement gives of the start (any of its parts by flat_of_before) -/
def lw_At (p : Program) (s : State) (m : MethodId) (meth : Method) (c : Code) (b L : Nat) (xs : Nat → Int32) : Prop :=
  p.tables.exec = Jvm.exec ∧ c.code = code ∧ meth.sig.returnType = ret ∧ c.maxLocals = 4 ∧ s.vm.findClass R_law = some m.cls ∧ (∀ w ∈ lw_tbl, w.before #[Value.ref b] s = true) ∧ va_X b L xs s s.heap ∧ b < s.heap.size ∧ meth.locks = false ∧ (Jvm.Cond.and given_1 narrow_1).before #[Value.ref b] s = true
def cTm (cT : Nat → ClassId) (k : Nat) : ClassId := cT (k - 3)
def lA (s : State) : Nat → Prop := fun q => s.heap.size ≤ q
def LWS (D : va_G) (cT : Nat → ClassId) (adF : Int → Nat) (A : Nat → Prop) (H0 : Heap) (h0 h : XH) (V : VV) (ad : Int → Nat) (aM : Nat → Nat) (a0 : Nat) (H : Heap) (locs : List Loc) : Prop :=
  va_P D gcl (xW cT ad h) H ∧ va_D A (xW cT ad h) ∧ va_P D gcl (mW (cTm cT) aM a0 V) H ∧ mDis aM a0 ∧ (∀ q, mA aM a0 q → A q ∧ q < H.size) ∧ (∀ (q k : Nat) (e : va_E), mA aM a0 q → (xW cT ad h)[k]? ≠ some (q, e)) ∧ va_S A H0 H locs ∧ okH h ∧ okV V ∧ (∀ a : Int, a < 0 → ad a = adF a) ∧ ∀ a j : Int, a < 0 → xv h a j = xv h0 a j
def LWX (p : Program) (s : State) (m : MethodId) (b : Nat) (c : Code) (D : va_G) (cT : Nat → ClassId) (adF : Int → Nat) (h0 : XH) : Prop :=
  p.tables.exec = Jvm.exec ∧ c.code = code ∧ c.maxLocals = 4 ∧ s.vm.findClass R_law = some m.cls ∧ (∀ w ∈ lw_all, w.before #[Value.ref b] s = true) ∧ va_K D gcl (xTys cT) s ∧ xFN s ∧ xFZ adF h0 (lA s) s s.heap
def SLM : Nat := 70 + (mArrs.map mLen).sum
theorem SLM_eq : SLM = 166705 := by decide +kernel
/-- a call answers alike on both sides, within the room -/
def opOK (f : Option XR) (g : Option (Int × VV)) (R' : XH → VV → Prop) : Prop := ∃ r h1 V1, f = some (r, h1) ∧ g = some (r, V1) ∧ R' h1 V1 ∧ xc h1 + 35 ≤ 1200384 ∧ xs h1 + SLM ≤ 5488810
theorem mW_mA {cT : Nat → ClassId} {aM : Nat → Nat} {a0 : Nat} {V : VV} {k : Nat} {q : Nat × va_E} (h : (mW cT aM a0 V)[k]? = some q) : mA aM a0 q.1 := by
  unfold mW at h
  cases k with
  | zero => cases h; exact Or.inl rfl
  | succ k =>
    rw [List.getElem?_cons_succ, List.getElem?_map] at h
    cases hk : mArrs[k]? with
    | none => rw [hk] at h; cases h
    | some a =>
      rw [hk] at h
      cases h
      exact Or.inr ⟨a, List.mem_of_getElem? hk, rfl⟩
section LAW
variable {p : Program} {l : Launch} {e : Env} {s : State} {m : MethodId} {b : Nat} {below : List Frame} {meth : Method} {c : Code} {D : va_G} {cT : Nat → ClassId} {adF : Int → Nat} {h0 h : XH} {V : VV} {ad : Int → Nat} {aM : Nat → Nat} {a0 : Nat} {H : Heap} {locs : List Loc} {cells slots : Nat} {Q : State → Prop}
theorem law_subA (hS : LWS D cT adF (lA s) s.heap h0 h V ad aM a0 H locs) : ∀ q, va_A (xW cT ad h) H.size q → lA s q := fun q hq => by
  rcases hq with ⟨k, e, hk⟩ | hq
  · exact hS.2.1.2 k (q, e) hk
  · exact Nat.le_trans hS.2.2.2.2.2.2.1.1 hq
theorem law_subM (hS : LWS D cT adF (lA s) s.heap h0 h V ad aM a0 H locs) : ∀ q, mA aM a0 q → lA s q := fun q hq => (hS.2.2.2.2.1 q hq).1
theorem lawX_pre (X : LWX p s m b c D cT adF h0) (hS : LWS D cT adF (lA s) s.heap h0 h V ad aM a0 H locs) {U : State} (hU : U.heap = H) (hW : s.WarmedH U.vm) : xPre D cT adF ad H.size h U := by
  have hsub := law_subA hS
  obtain ⟨p1, p2, p3, p4, p5, p6, p7, p8, p9, p10, p11⟩ := hS
  obtain ⟨-, -, -, -, -, x6, x7, x8⟩ := X
  refine ⟨by rw [hU], by rw [hU]; exact p1, p2.weaken (fun _ _ _ _ => trivial), va_K.moved hW.alike x6, x7.warm hW, ?_⟩
  rw [hU]
  have h1 := ((x8.heap p11).kept (H1 := H) (fun a ha hn => p7.2.1 a ha hn)).moved (U := U) hW
  exact h1.narrow hsub
theorem lawX_back {tag : Nat} {fin : XR} {u : Int → Nat} {t : State} {H1 : Heap} {locs1 : List Loc} (hS : LWS D cT adF (lA s) s.heap h0 h V ad aM a0 H locs) (hr : okRes tag ad h fin u) (hB : okB D cT (va_A (xW cT ad h) H.size) fin u t) (ht : t.heap = H1) (hsz : H.size ≤ H1.size) (hk : ∀ q : Nat, q < H.size → ¬ va_A (xW cT ad h) H.size q → H1[q]? = H[q]?) (hS1 : va_S (lA s) s.heap H1 locs1) : LWS D cT adF (lA s) s.heap h0 fin.2 V u aM a0 H1 locs1 := by
  have hsub := law_subA hS
  obtain ⟨p1, p2, p3, p4, p5, p6, p7, p8, p9, p10, p11⟩ := hS
  obtain ⟨r1, r2, r3, r4, r5⟩ := hr
  obtain ⟨b1, b2⟩ := hB
  have hno : ∀ q, mA aM a0 q → ¬ va_A (xW cT ad h) H.size q := fun q hq hz => by
    rcases hz with ⟨k, e, hk⟩ | hz
    · exact p6 q k e hq hk
    · have := (p5 q hq).2; omega
  refine ⟨by rw [← ht]; exact b1, b2.weaken (fun _ q _ hq => hsub q.1 hq), fun k q hq => (p3 k q hq).kept (hk q.1 (p5 q.1 (mW_mA hq)).2 (hno q.1 (mW_mA hq))), p4, fun q hq => ⟨(p5 q hq).1, Nat.lt_of_lt_of_le (p5 q hq).2 hsz⟩, fun q k e hq hz => hno q hq (b2.2 k (q, e) hz), hS1, r2, p9, fun a ha => ?_, fun a j ha => by rw [r5 a j ha]; exact p11 a j ha⟩
  rw [r4 a (by omega)]; exact p10 a ha
theorem lawM_back {V1 : VV} {H1 : Heap} {locs1 : List Loc} (hS : LWS D cT adF (lA s) s.heap h0 h V ad aM a0 H locs) (hV : okV V1) (hP : va_P D gcl (mW (cTm cT) aM a0 V1) H1) (hsz : H.size ≤ H1.size) (hk : ∀ q : Nat, q < H.size → ¬ mA aM a0 q → H1[q]? = H[q]?) (hS1 : va_S (lA s) s.heap H1 locs1) : LWS D cT adF (lA s) s.heap h0 h V1 ad aM a0 H1 locs1 := by
  obtain ⟨p1, p2, p3, p4, p5, p6, p7, p8, p9, p10, p11⟩ := hS
  exact ⟨fun k q hq => (p1 k q hq).kept (hk q.1 (p1 k q hq).lt (fun hm => p6 q.1 k q.2 hm hq)), p2, hP, p4, fun q hq => ⟨(p5 q hq).1, Nat.lt_of_lt_of_le (p5 q hq).2 hsz⟩, p6, hS1, p8, hV, p10, p11⟩
variable {pc : Nat} {ls : Array Slot} {st0 rest : List Value}
/-- a call on the system: an int comes back -/
theorem lawX_i {mc ms : Nat} {args : List AV} {r : Int} {h' : XH} (X : LWX p s m b c D cT adF h0) (hS : LWS D cT adF (lA s) s.heap h0 h V ad aM a0 H locs) (hn1 : 1 ≤ xn h) (hk1 : xk h 1 = 1)
    (hrun : PreV s H RX0 (ad 1) (va_Pc (((2, (1 : Int)) :: args).map (cX ad)) (xPre D cT adF ad H.size h)) (args.map (cX ad)) → va_Run p l e room_1 s m #[Value.ref b] below meth c H locs cells slots mc ms (F0 m pc ls st0) rest (xQc 0 D cT ad (va_A (xW cT ad h) H.size) h (r, h') ((Value.ref (ad 1) :: args.map (cX ad)).toArray)) (va_A (xW cT ad h) H.size))
    (kk : ∀ u H1 locs1, LWS D cT adF (lA s) s.heap h0 h' V u aM a0 H1 locs1 → u 1 = ad 1 → in32 r → W p l e room_1 s m #[Value.ref b] below meth c H1 locs1 (cells + mc) (slots + ms) Q (F0 m (pc + 3) ls (.int (I32 r) :: rest))) : W p l e room_1 s m #[Value.ref b] below meth c H locs cells slots Q (F0 m pc ls st0) := by
  have hsub := law_subA hS
  have hrb : cX ad (2, (1 : Int)) = .ref (ad 1) := rfl
  have hq := xW_at (cT := cT) (ad := ad) (h := h) (a := 1) (by decide) (by omega)
  rw [xcell_o hk1 (by decide)] at hq
  refine va_calli (a := (Value.ref (ad 1) :: args.map (cX ad)).toArray) (A1 := va_A (xW cT ad h) H.size) (hrun ⟨xPre_blind, va_recv X.2.2.2.2.2.1 hS.1 (ci := 1) rfl hq, fun U hU hW => ⟨by rw [List.map_cons, hrb], lawX_pre X hS hU hW⟩⟩) hS.2.2.2.2.2.2.1 (fun q _ hq => hsub q hq) (fun q hq => hsub q hq) ?_
  intro r' u t H1 locs1 ht hvm hpost hB hsz hkeep hS1
  obtain ⟨hr, hres⟩ := hpost
  rw [show r' = _ from hr]
  exact kk u H1 locs1 (lawX_back (fin := (r, h')) hS hres hB ht hsz hkeep hS1) (hres.2.2.2.1 1 (by omega)) hres.1
/-- .. a long -/
theorem lawX_l {mc ms : Nat} {args : List AV} {r : Int} {h' : XH} (X : LWX p s m b c D cT adF h0) (hS : LWS D cT adF (lA s) s.heap h0 h V ad aM a0 H locs) (hn1 : 1 ≤ xn h) (hk1 : xk h 1 = 1)
    (hrun : PreV s H RX0 (ad 1) (va_Pc (((2, (1 : Int)) :: args).map (cX ad)) (xPre D cT adF ad H.size h)) (args.map (cX ad)) → va_Run p l e room_1 s m #[Value.ref b] below meth c H locs cells slots mc ms (F0 m pc ls st0) rest (xQc 1 D cT ad (va_A (xW cT ad h) H.size) h (r, h') ((Value.ref (ad 1) :: args.map (cX ad)).toArray)) (va_A (xW cT ad h) H.size))
    (kk : ∀ u H1 locs1, LWS D cT adF (lA s) s.heap h0 h' V u aM a0 H1 locs1 → u 1 = ad 1 → in64 r → W p l e room_1 s m #[Value.ref b] below meth c H1 locs1 (cells + mc) (slots + ms) Q (F0 m (pc + 3) ls (.long (I64 r) :: rest))) : W p l e room_1 s m #[Value.ref b] below meth c H locs cells slots Q (F0 m pc ls st0) := by
  have hsub := law_subA hS
  have hrb : cX ad (2, (1 : Int)) = .ref (ad 1) := rfl
  have hq := xW_at (cT := cT) (ad := ad) (h := h) (a := 1) (by decide) (by omega)
  rw [xcell_o hk1 (by decide)] at hq
  refine va_calll (a := (Value.ref (ad 1) :: args.map (cX ad)).toArray) (A1 := va_A (xW cT ad h) H.size) (hrun ⟨xPre_blind, va_recv X.2.2.2.2.2.1 hS.1 (ci := 1) rfl hq, fun U hU hW => ⟨by rw [List.map_cons, hrb], lawX_pre X hS hU hW⟩⟩) hS.2.2.2.2.2.2.1 (fun q _ hq => hsub q hq) (fun q hq => hsub q hq) ?_
  intro r' u t H1 locs1 ht hvm hpost hB hsz hkeep hS1
  obtain ⟨hr, hres⟩ := hpost
  rw [show r' = _ from hr]
  exact kk u H1 locs1 (lawX_back (fin := (r, h')) hS hres hB ht hsz hkeep hS1) (hres.2.2.2.1 1 (by omega)) hres.1
/-- a method of the system, run from the law -/
theorem lawX_run {y : MethodName} {cy : ByteArray} {ny dy ix rk : Nat} {ry : Option FieldType} {args : List AV} {n : Nat} {r : Int} {h' : XH} (X : LWX p s m b c D cT adF h0) (hS : LWS D cT adF (lA s) s.heap h0 h V ad aM a0 H locs)
    (hM : xSpec l y cy ny ry dy rk ((2, 1) :: args) h (r, h')) (hw : GoodIn lw_all (wsV R_law ix RX0 y (ws_ y cy ny ry))) (hd : y.cls = RX0 ∧ y.cls ≠ "java/lang/invoke/MethodHandle" ∧ y.cls ≠ "java/lang/invoke/VarHandle" ∧ (parseMethodDescriptor y.desc).map (fun d => d.parameters.length) = some n) (hn : args.length = n) (hdd : dy ≤ 1500) (hny : ny ≤ 40) (hl : ls.size = 4) (hs0 : st0 = (args.map (cX ad)).reverse ++ .ref (ad 1) :: rest) (hcat : (rest.map fun v => v.category).sum ≤ 8) (hdg : decode code pc = .ok (.invokevirtual ix, 3)) (hcnt : cells + (xc h' - xc h) ≤ 1200384 ∧ slots + (xs h' - xs h) ≤ 5488810)
    (hp : PreV s H RX0 (ad 1) (va_Pc (((2, (1 : Int)) :: args).map (cX ad)) (xPre D cT adF ad H.size h)) (args.map (cX ad))) : va_Run p l e room_1 s m #[Value.ref b] below meth c H locs cells slots (xc h' - xc h) (xs h' - xs h) (F0 m pc ls st0) rest (xQc rk D cT ad (va_A (xW cT ad h) H.size) h (r, h') ((Value.ref (ad 1) :: args.map (cX ad)).toArray)) (va_A (xW cT ad h) H.size) := by
  obtain ⟨x1, x2, x3, x4, x5, x6, x7, x8⟩ := X
  have hMM := hM D cT adF ad H.size hS.2.2.2.2.2.2.2.2.2.1
  have hcw : CallW room_1 s #[Value.ref b] R_law RX0 ix y cy ny ry (ws_ y cy ny ry) (xRm dy (xc h' - xc h) (xs h' - xs h)) (xc h' - xc h) (xs h' - xs h) n := cwV n x5 hw rfl rfl rfl hd ⟨by show dy + 1 ≤ 8192; omega, by show 8 + (ny + 11) + 64 * dy ≤ 104096; omega⟩
  exact va_runV (As := args.map (cX ad)) (rest := rest) (b := ad 1) ⟨x1, x2, x3, x4, x5⟩ hMM hcw hp rfl (by rw [List.length_map]; exact hn) hl hs0 (lv_room hcat) hdg hcnt
/-- .. one with handlers -/
theorem vx_Run_no {R : Room} {args : Array Value} {mc ms : Nat} {g : JFrame} {Qa : State → Outcome → State → Prop} {free : Addr → Prop} (h : vx_Run p l e R s m args below meth c H locs cells slots mc ms g rest Qa (fun _ _ _ _ => False) free) : va_Run p l e R s m args below meth c H locs cells slots mc ms g rest Qa free := fun T hT X => by
  rcases h T hT X with q | ⟨q, st₀, t, T', L, E, ce, -, -, -, -, -, hx, -⟩
  · exact q
  · exact hx.elim
theorem lawX_runW {y : MethodName} {cy : ByteArray} {ny dy ix rk : Nat} {ry : Option FieldType} {hh : List (Nat × Nat × Nat × Nat)} {args : List AV} {n : Nat} {r : Int} {h' : XH} (X : LWX p s m b c D cT adF h0) (hS : LWS D cT adF (lA s) s.heap h0 h V ad aM a0 H locs)
    (hM : xSpecW l y cy ny ry hh dy rk ((2, 1) :: args) h (r, h')) (hw : GoodIn lw_all (wsV R_law ix RX0 y (wsW_ y cy ny ry hh))) (hd : y.cls = RX0 ∧ y.cls ≠ "java/lang/invoke/MethodHandle" ∧ y.cls ≠ "java/lang/invoke/VarHandle" ∧ (parseMethodDescriptor y.desc).map (fun d => d.parameters.length) = some n) (hn : args.length = n) (hdd : dy ≤ 1500) (hny : ny ≤ 40) (hl : ls.size = 4) (hs0 : st0 = (args.map (cX ad)).reverse ++ .ref (ad 1) :: rest) (hcat : (rest.map fun v => v.category).sum ≤ 8) (hdg : decode code pc = .ok (.invokevirtual ix, 3)) (hcnt : cells + (xc h' - xc h) ≤ 1200384 ∧ slots + (xs h' - xs h) ≤ 5488810)
    (hp : PreV s H RX0 (ad 1) (va_Pc (((2, (1 : Int)) :: args).map (cX ad)) (xPre D cT adF ad H.size h)) (args.map (cX ad))) : va_Run p l e room_1 s m #[Value.ref b] below meth c H locs cells slots (xc h' - xc h) (xs h' - xs h) (F0 m pc ls st0) rest (xQc rk D cT ad (va_A (xW cT ad h) H.size) h (r, h') ((Value.ref (ad 1) :: args.map (cX ad)).toArray)) (va_A (xW cT ad h) H.size) := by
  obtain ⟨x1, x2, x3, x4, x5, x6, x7, x8⟩ := X
  have hMM := hM D cT adF ad H.size hS.2.2.2.2.2.2.2.2.2.1
  have hcw : vx_CVW room_1 s #[Value.ref b] R_law RX0 ix y cy ny ry hh (wsW_ y cy ny ry hh) (xRm dy (xc h' - xc h) (xs h' - xs h)) (xc h' - xc h) (xs h' - xs h) n := vx_cwVW n x5 hw rfl rfl rfl hd ⟨by show dy + 1 ≤ 8192; omega, by show 8 + (ny + 11) + 64 * dy ≤ 104096; omega⟩
  exact vx_Run_no (vx_runVX (As := args.map (cX ad)) (rest := rest) (b := ad 1) ⟨x1, x2, x3, x4, x5⟩ hMM hcw hp rfl (by rw [List.length_map]; exact hn) hl hs0 (lv_room hcat) hdg hcnt)
theorem lawM_i {y : MethodName} {cy : ByteArray} {ny dy ix : Nat} {ry : Option FieldType} {args : List AV} {n : Nat} {r : Int} {V1 : VV} (X : LWX p s m b c D cT adF h0) (hS : LWS D cT adF (lA s) s.heap h0 h V ad aM a0 H locs)
    (hM : mSpec l y cy ny ry dy 0 ((3, 0) :: args) V (r, V1)) (hw : GoodIn lw_all (wsV R_law ix RX4 y (ws_ y cy ny ry))) (hd : y.cls = RX4 ∧ y.cls ≠ "java/lang/invoke/MethodHandle" ∧ y.cls ≠ "java/lang/invoke/VarHandle" ∧ (parseMethodDescriptor y.desc).map (fun d => d.parameters.length) = some n) (hn : args.length = n) (hdd : dy ≤ 1500) (hny : ny ≤ 40) (hl : ls.size = 4) (hs0 : st0 = (args.map (cA aM a0)).reverse ++ .ref a0 :: rest) (hcat : (rest.map fun v => v.category).sum ≤ 8) (hdg : decode code pc = .ok (.invokevirtual ix, 3)) (hcnt : cells ≤ 1200384 ∧ slots ≤ 5488810)
    (kk : ∀ H1 locs1, LWS D cT adF (lA s) s.heap h0 h V1 ad aM a0 H1 locs1 → in32 r → W p l e room_1 s m #[Value.ref b] below meth c H1 locs1 cells slots Q (F0 m (pc + 3) ls (.int (I32 r) :: rest))) : W p l e room_1 s m #[Value.ref b] below meth c H locs cells slots Q (F0 m pc ls st0) := by
  obtain ⟨x1, x2, x3, x4, x5, x6, x7, x8⟩ := X
  have hsub := law_subM hS
  have hMM := hM D (cTm cT) aM a0 hS.2.2.2.1
  have hcw : CallW room_1 s #[Value.ref b] R_law RX4 ix y cy ny ry (ws_ y cy ny ry) (mRm dy) 0 0 n := cwV n x5 hw rfl rfl rfl hd ⟨by show dy + 1 ≤ 8192; omega, by show 8 + (ny + 11) + 64 * dy ≤ 104096; omega⟩
  refine va_calli (A1 := mA aM a0) (va_runV (As := args.map (cA aM a0)) (rest := rest) (b := a0) ⟨x1, x2, x3, x4, x5⟩ hMM hcw ⟨mS_blind, va_recv x6 hS.2.2.1 (ci := 0) (q0 := 0) rfl rfl, fun U hU hW => ⟨rfl, by rw [hU]; exact hS.2.2.1, va_K.moved hW.alike (x6.sub [0, 1, 2, 3] rfl)⟩⟩ rfl (by rw [List.length_map]; exact hn) hl hs0 (lv_room hcat) hdg hcnt) hS.2.2.2.2.2.2.1 (fun q _ hq => hsub q hq) (fun q hq => hsub q hq) ?_
  intro r' u t H1 locs1 ht hvm hpost hB hsz hkeep hS1
  obtain ⟨hr, hri, hV1⟩ := hpost
  have hP1 : va_P D gcl (mW (cTm cT) aM a0 V1) H1 := by rw [← ht]; exact hB
  rw [show r' = _ from hr]
  exact kk H1 locs1 (lawM_back hS hV1 hP1 hsz hkeep hS1) hri
theorem lawM_l {y : MethodName} {cy : ByteArray} {ny dy ix : Nat} {ry : Option FieldType} {args : List AV} {n : Nat} {r : Int} {V1 : VV} (X : LWX p s m b c D cT adF h0) (hS : LWS D cT adF (lA s) s.heap h0 h V ad aM a0 H locs)
    (hM : mSpec l y cy ny ry dy 1 ((3, 0) :: args) V (r, V1)) (hw : GoodIn lw_all (wsV R_law ix RX4 y (ws_ y cy ny ry))) (hd : y.cls = RX4 ∧ y.cls ≠ "java/lang/invoke/MethodHandle" ∧ y.cls ≠ "java/lang/invoke/VarHandle" ∧ (parseMethodDescriptor y.desc).map (fun d => d.parameters.length) = some n) (hn : args.length = n) (hdd : dy ≤ 1500) (hny : ny ≤ 40) (hl : ls.size = 4) (hs0 : st0 = (args.map (cA aM a0)).reverse ++ .ref a0 :: rest) (hcat : (rest.map fun v => v.category).sum ≤ 8) (hdg : decode code pc = .ok (.invokevirtual ix, 3)) (hcnt : cells ≤ 1200384 ∧ slots ≤ 5488810)
    (kk : ∀ H1 locs1, LWS D cT adF (lA s) s.heap h0 h V1 ad aM a0 H1 locs1 → in64 r → W p l e room_1 s m #[Value.ref b] below meth c H1 locs1 cells slots Q (F0 m (pc + 3) ls (.long (I64 r) :: rest))) : W p l e room_1 s m #[Value.ref b] below meth c H locs cells slots Q (F0 m pc ls st0) := by
  obtain ⟨x1, x2, x3, x4, x5, x6, x7, x8⟩ := X
  have hsub := law_subM hS
  have hMM := hM D (cTm cT) aM a0 hS.2.2.2.1
  have hcw : CallW room_1 s #[Value.ref b] R_law RX4 ix y cy ny ry (ws_ y cy ny ry) (mRm dy) 0 0 n := cwV n x5 hw rfl rfl rfl hd ⟨by show dy + 1 ≤ 8192; omega, by show 8 + (ny + 11) + 64 * dy ≤ 104096; omega⟩
  refine va_calll (A1 := mA aM a0) (va_runV (As := args.map (cA aM a0)) (rest := rest) (b := a0) ⟨x1, x2, x3, x4, x5⟩ hMM hcw ⟨mS_blind, va_recv x6 hS.2.2.1 (ci := 0) (q0 := 0) rfl rfl, fun U hU hW => ⟨rfl, by rw [hU]; exact hS.2.2.1, va_K.moved hW.alike (x6.sub [0, 1, 2, 3] rfl)⟩⟩ rfl (by rw [List.length_map]; exact hn) hl hs0 (lv_room hcat) hdg hcnt) hS.2.2.2.2.2.2.1 (fun q _ hq => hsub q hq) (fun q hq => hsub q hq) ?_
  intro r' u t H1 locs1 ht hvm hpost hB hsz hkeep hS1
  obtain ⟨hr, hri, hV1⟩ := hpost
  have hP1 : va_P D gcl (mW (cTm cT) aM a0 V1) H1 := by rw [← ht]; exact hB
  rw [show r' = _ from hr]
  exact kk H1 locs1 (lawM_back hS hV1 hP1 hsz hkeep hS1) hri
end LAW
