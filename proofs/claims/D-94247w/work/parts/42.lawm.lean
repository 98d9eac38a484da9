/-! the law: an object made on a heap of its own; the two worlds at the start -/
set_option maxRecDepth 100000
set_option maxHeartbeats 400000
section LAW
variable {p : Program} {l : Launch} {e : Env} {s : State} {m : MethodId} {b : Nat} {below : List Frame} {meth : Method} {c : Code} {D : va_G} {cT : Nat → ClassId} {adF : Int → Nat} {g0 hF : XH} {H : Heap} {locs : List Loc} {cells slots pc : Nat} {Q : State → Prop} {ls : Array Slot} {rest : List Value}
theorem law_make {C : String} {T : u_T} {N ix iy ci ny dy : Nat} {ty0 : Nat → FieldType} {y : MethodName} {cy : ByteArray} {ws : va_W} (X : LWX p s m b c D cT adF g0) (hg : xn g0 = 0) (hok : okH g0) (hc : gcl[ci]? = some (C, T, N)) (hin : ∀ w ∈ u_ws C T N, w ∈ lw_all) (hty : ∀ k, k < N → parseFieldDescriptor (T k).2.2.1 = some (ty0 k)) (hci : ci < 27) (hN : xNF ci = N) (hN2 : N < 100) (hfit : ∀ k, k < N → fitk (xft ci k) (ty0 k)) (hcl : Cond.classLink R_law ix C ∈ lw_all) (hinst : Cond.instantiable C N ∈ lw_all) (hini : Cond.initialized C ∈ lw_all)
    (hd0 : decode code pc = .ok (.new ix, 3)) (hd1 : decode code (pc + 3) = .ok (.dup, 1)) (hd2 : decode code (pc + 3 + 1) = .ok (.invokespecial iy, 3))
    (hM : xSpec l y cy ny none dy 2 [(2, 1)] (hnew g0 ci N) (0, hF)) (hG : GoodIn lw_all (ws_ y cy ny none)) (hiniy : Cond.initialized y.cls ∈ lw_all) (hli : Cond.methodLink R_law iy y ∈ lw_all) (hiny : Cond.instanceMethod y ∈ lw_all) (hy1 : y.name = "<init>") (hd : y.cls ≠ "java/lang/invoke/MethodHandle" ∧ y.cls ≠ "java/lang/invoke/VarHandle" ∧ (parseMethodDescriptor y.desc).map (fun d => d.parameters.length) = some 0) (hdd : dy ≤ 1500) (hny : ny ≤ 40) (hl : ls.size = 4) (hcat : ((Value.ref 0 :: rest).map fun v => v.category).sum ≤ 8)
    (hP : va_P D gcl ws H) (hD : va_D (lA s) ws) (hS : va_S (lA s) s.heap H locs) (hcnt : cells + 1 + (xc hF - xc (hnew g0 ci N)) ≤ 1200384 ∧ slots + N + (xs hF - xs (hnew g0 ci N)) ≤ 5488810)
    (kk : ∀ u H1 locs1, va_P D gcl ws H1 → va_P D gcl (xW cT u hF) H1 → va_D (lA s) (xW cT u hF) → (∀ (q k k' : Nat) (e e' : va_E), ws[k]? = some (q, e) → (xW cT u hF)[k']? ≠ some (q, e')) → va_S (lA s) s.heap H1 locs1 → okH hF → (∀ a : Int, a < 0 → u a = adF a) → (∀ a j : Int, a < 0 → xv hF a j = xv g0 a j) → W p l e room_1 s m #[Value.ref b] below meth c H1 locs1 (cells + 1 + (xc hF - xc (hnew g0 ci N))) (slots + N + (xs hF - xs (hnew g0 ci N))) Q (F0 m (pc + 3 + 1 + 3) ls (.ref (u 1) :: rest))) : W p l e room_1 s m #[Value.ref b] below meth c H locs cells slots Q (F0 m pc ls rest) := by
  obtain ⟨x1, x2, x3, x4, x5, x6, x7, x8⟩ := X
  have hx1 : hnx g0 = 1 := by unfold hnx; rw [hg]; rfl
  refine va_new (c0 := c) (fs := xfs adF (hnew g0 ci N) (hnx g0) ci) x1 x2 x5 hin ty0 hty x4 (x5 _ hcl) (x5 _ hinst) (x5 _ hini) x6 hP hD hS (fun q hq => hq) hc (fun j hj => by rw [xfs_new _ _ _ _ _ (by omega)]; exact dflt_fit (hfit j hj)) (by show cells + 1 ≤ 1200384; omega) (by show slots + N ≤ 5488810; omega) hd0 (fun q H1 hP1 hD1 hS1 => ?_)
  have ek : xk (hnew g0 ci N) (hnx g0) = ci := if_pos rfl
  have ec : xcell cT (adn adF g0 q) (hnew g0 ci N) (hnx g0) = (q, .inr (ci, xfs adF (hnew g0 ci N) (hnx g0) ci)) := by
    rw [xcell_o ek (by omega), adn_new]
    congr 3
    unfold xfs
    refine List.map_congr_left fun j _ => ?_
    have : xv (hnew g0 ci N) (hnx g0) j = 0 := if_pos rfl
    rw [this]
    unfold xval; split; rfl; split <;> rfl
  have hag : ∀ a : Int, a ≤ (xn g0 : Int) → adn adF g0 q a = adF a := fun a e => adn_old e
  have hW1 : xW cT (adn adF g0 q) (hnew g0 ci N) = [(q, .inr (ci, xfs adF (hnew g0 ci N) (hnx g0) ci))] := by
    rw [xW_new hok hag, ec]
    have : xW cT adF g0 = [] := by unfold xW; rw [hg]; rfl
    rw [this]; rfl
  generalize hfs : (Sum.inr (ci, xfs adF (hnew g0 ci N) (hnx g0) ci) : va_E) = ce at hP1 hD1 hW1
  have hq1 : q < H1.size := (hP1 ws.length (q, ce) (by rw [List.getElem?_append_right (Nat.le_refl _), Nat.sub_self]; rfl)).lt
  have hPq : va_P D gcl [(q, ce)] H1 := fun k z hz => hP1 (ws.length + k) z (by rw [List.getElem?_append_right (Nat.le_add_right _ _), Nat.add_sub_cancel_left]; exact hz)
  have hDq : va_D (lA s) [(q, ce)] := ⟨fun i j a z ha hz _ => by
    have h1 := (List.getElem?_eq_some_iff.mp ha).1
    have h2 := (List.getElem?_eq_some_iff.mp hz).1
    simp at h1 h2; omega, fun k z hz => hD1.2 (ws.length + k) z (by rw [List.getElem?_append_right (Nat.le_add_right _ _), Nat.add_sub_cancel_left]; exact hz)⟩
  have hwq : ∀ (k : Nat) (z : Nat × va_E), ws[k]? = some z → z.1 ≠ q ∧ z.1 < H1.size := fun k z hz => by
    have hk : k < ws.length := (List.getElem?_eq_some_iff.mp hz).1
    have h1 : (ws ++ [(q, ce)])[k]? = some z := by rw [List.getElem?_append_left hk]; exact hz
    refine ⟨fun e => ?_, (hP1 k z h1).lt⟩
    have := hD1.1 k ws.length z (q, ce) h1 (by rw [List.getElem?_append_right (Nat.le_refl _), Nat.sub_self]; rfl) e
    omega
  refine lv_dup x1 x2 hd1 rfl ?_
  have hneg : ∀ a : Int, a < 0 → adn adF g0 q a = adF a := fun a ha => hag a (by omega)
  have hMM := hM D cT adF (adn adF g0 q) H1.size hneg
  have hsub : ∀ z, va_A (xW cT (adn adF g0 q) (hnew g0 ci N)) H1.size z → lA s z := fun z hz => by
    rw [hW1] at hz
    rcases hz with ⟨k, e, hk⟩ | hz
    · exact hDq.2 k (z, e) hk
    · exact Nat.le_trans hS1.1 hz
  have hcw := cwI (R := room_1) (s := s) (args := #[Value.ref b]) (mc := xc hF - xc (hnew g0 ci N)) (ms := xs hF - xs (hnew g0 ci N)) (rm := xRm dy (xc hF - xc (hnew g0 ci N)) (xs hF - xs (hnew g0 ci N))) 0 x5 hG rfl rfl rfl (x5 _ hiniy) (x5 _ hli) (x5 _ hiny) hy1 hd ⟨by show dy + 1 ≤ 8192; omega, by show 8 + (ny + 11) + 64 * dy ≤ 104096; omega⟩
  have hrb : cX (adn adF g0 q) (2, (1 : Int)) = .ref q := by
    show rv (adn adF g0 q) 1 = _
    unfold rv
    rw [if_neg (by decide), ← hx1, adn_new]
  refine va_callv (A1 := va_A (xW cT (adn adF g0 q) (hnew g0 ci N)) H1.size) (va_runI (As := []) (rest := .ref q :: rest) (b := q) ⟨x1, x2, x3, x4, x5⟩ hMM hcw ⟨xPre_blind, fun U hU hW => ⟨by show _ = ([(2, (1 : Int))].map (cX (adn adF g0 q))).toArray; rw [List.map_cons, hrb]; rfl, by rw [hU], by rw [hU, hW1]; exact hPq, by rw [hW1]; exact hDq.weaken (fun _ _ _ _ => trivial), va_K.moved hW.alike x6, x7.warm hW, ?_⟩⟩ rfl rfl hl rfl (lv_room hcat) hd2 hcnt) hS1 (fun z _ hz => hsub z hz) (fun z hz => hsub z hz) ?_
  · rw [hU]
    exact (((x8.heap (h' := hnew g0 ci N) (fun a j ha => if_neg (by omega))).kept (H1 := H1) (fun a _ hn => hS1.2.1 a ‹_› hn)).moved (U := U) hW).narrow hsub
  · intro u t H2 locs2 ht hvm hpost hB hsz hkeep hS2
    obtain ⟨r1, r2, r3, r4, r5⟩ := hpost
    obtain ⟨b1, b2⟩ := hB
    rw [hW1] at hkeep b2
    have hu1 : u 1 = q := by
      rw [r4 1 (by show (1 : Int) ≤ ((xn g0 + 1 : Nat) : Int); omega), ← hx1, adn_new]
    have hno : ∀ (k : Nat) (z : Nat × va_E), ws[k]? = some z → ¬ va_A [(q, ce)] H1.size z.1 := fun k z hz hA => by
      obtain ⟨w1, w2⟩ := hwq k z hz
      rcases hA with ⟨i, e, hi⟩ | hA
      · have h1 := (List.getElem?_eq_some_iff.mp hi).1
        simp at h1; subst h1
        cases hi; exact w1 rfl
      · omega
    rw [← hu1]
    refine kk u H2 locs2 (fun k z hz => ((hP1 k z (by rw [List.getElem?_append_left (List.getElem?_eq_some_iff.mp hz).1]; exact hz)).kept (hkeep z.1 (hwq k z hz).2 (hno k z hz)))) (by rw [← ht]; exact b1) (b2.weaken fun k z _ hz => hsub z.1 (by rw [hW1]; exact hz)) (fun z k k' e e' hz hz' => hno k (z, e) hz (b2.2 k' (z, e') hz')) hS2 r2 (fun a ha => by rw [r4 a (by omega)]; exact hneg a ha) (fun a j ha => by rw [r5 a j ha]; exact if_neg (by omega))
end LAW
/-- the two heaps at the start -/
def oget (x : Option XR) (d : XH) : XH := match x with | some f => f.2 | none => d
theorem oget_eq {x : Option XR} {d : XH} (h : x.map (fun f => f.1) = some 0) : x = some (0, oget x d) := by
  cases x with
  | none => cases h
  | some f =>
    have h2 : f.1 = 0 := Option.some.inj h
    show some f = some (0, f.2)
    rw [← h2]
def wordsT : List Int := [104, 111, 117, 114, 115, 32, 107, 101, 101, 112, 115, 32, 99, 104, 97, 110, 99, 101, 32, 105, 102, 32, 111, 114, 32, 97, 110, 100, 32, 110, 111, 116, 32, 107, 105, 110, 103, 32, 112, 97, 103, 101, 115, 32, 108, 101, 118, 101, 108, 32, 104, 101, 108, 112, 101, 100, 32, 108, 105, 107, 101, 100, 32, 100, 97, 121, 32, 113, 117, 101, 115, 116, 105, 111, 110, 32]
/-- the model's fields out of its heap -/
def VM (hM : XH) : VV := fun k j => if k < 70 then (if 3 ≤ mKind k then (if 0 ≤ j ∧ j < (mLen k : Int) then xv hM (xv hM 1 k) j else 0) else if j = 0 then xv hM 1 k else 0) else 0
abbrev MB1 (hM : XH) : Prop := xn hM = 35 ∧ xk hM 1 = 0 ∧ (∀ k : Nat, k < 70 → (3 ≤ mKind k → xft 0 k = 8 ∧ k ∈ mArrs ∧ 2 ≤ xv hM 1 k ∧ xv hM 1 k ≤ 35) ∧ (¬ 3 ≤ mKind k → xft 0 k = mKind k))
abbrev MB2 (hM : XH) : Prop := ∀ k ∈ mArrs, k < 70 ∧ 3 ≤ mKind k ∧ mKind k < 7 ∧ xk hM (xv hM 1 k) = 100 + (mKind k - 3) ∧ xl hM (xv hM 1 k) = mLen k
abbrev MB3 (hM : XH) : Prop := ∀ k ∈ mArrs, ∀ j ∈ mArrs, xv hM 1 k = xv hM 1 j → k = j
abbrev MB4 (hM : XH) : Prop := xc hM = 35 ∧ xs hM = SLM
abbrev MB5 (hM : XH) : Prop := (VM hM 3 390 = 0 ∧ VM hM 3 391 = 0 ∧ VM hM 3 392 = 0 ∧ VM hM 3 393 = 0 ∧ VM hM 3 394 = -1) ∧ (VM hM 3 100 = 8 ∧ VM hM 3 101 = 3 ∧ VM hM 3 102 = 2 ∧ VM hM 3 103 = 0 ∧ VM hM 3 104 = 10 ∧ VM hM 3 105 = 19 ∧ VM hM 3 106 = 6) ∧ (VM hM 3 347 = 0 ∧ VM hM 3 348 = 0 ∧ VM hM 3 349 = 0) ∧ (VM hM 5 0 = 0 ∧ VM hM 5 1 = 0) ∧ (VM hM 0 0 = 0 ∧ VM hM 1 0 = 0 ∧ VM hM 9 0 = 0 ∧ VM hM 10 0 = -1 ∧ VM hM 59 0 = 0 ∧ VM hM 64 0 = -1 ∧ VM hM 35 0 = -1 ∧ VM hM 58 0 = -1) ∧ (∀ k : Nat, k < 7 → VM hM 2 k = 0) ∧ (∀ k : Nat, k < 400 → VM hM 7 k = 0) ∧ ∀ j : Nat, j < 76 → VM hM 6 j = wordsT.getD j 0
def MBase (hM : XH) : Prop := MB1 hM ∧ MB2 hM ∧ MB3 hM ∧ MB4 hM ∧ MB5 hM
abbrev XB1 (h : XH) : Prop := xn h = 16 ∧ xk h 1 = 1 ∧ (xk h 9 = 105 ∧ xl h 9 = 2) ∧ xk h 10 = 3 ∧ (xk h 11 = 101 ∧ xl h 11 = 7) ∧ xk h 12 = 4 ∧ (xk h 13 = 104 ∧ xl h 13 = 0) ∧ (xk h 14 = 100 ∧ xl h 14 = 7) ∧ (xk h 15 = 100 ∧ xl h 15 = 148176) ∧ (xk h 16 = 102 ∧ xl h 16 = 400) ∧ (xv h 1 1 = 9 ∧ xv h 1 2 = 10 ∧ xv h 1 3 = 12 ∧ xv h 1 4 = 14 ∧ xv h 1 10 = 15 ∧ xv h 1 11 = 16) ∧ xv h 10 0 = 11 ∧ xv h 12 0 = 13
abbrev XB2 (h : XH) : Prop := (xv h 1 0 = 2 ∧ xv h 1 5 = 0 ∧ xv h 1 6 = -1 ∧ xv h 1 7 = 0 ∧ xv h 1 8 = 0 ∧ xv h 1 9 = 0 ∧ xv h 1 12 = 0) ∧ (xv h 9 0 = 0 ∧ xv h 9 1 = 0) ∧ (∀ k : Nat, k < 7 → xv h 14 k = 0) ∧ (∀ k : Nat, k < 400 → xv h 16 k = 0) ∧ xc h = 16 ∧ 13 ≤ xs h ∧ xs h ≤ 149000
abbrev XB3 (h : XH) : Prop := xk h 2 = 2 ∧ (xk h 3 = 26 ∧ xk h 4 = 26 ∧ xk h 5 = 26) ∧ (xk h 6 = 100 ∧ xl h 6 = 7) ∧ (xk h 7 = 100 ∧ xl h 7 = 3) ∧ (xk h 8 = 100 ∧ xl h 8 = 40) ∧ (xv h 2 0 = 3 ∧ xv h 2 1 = 4 ∧ xv h 2 2 = 5 ∧ xv h 2 3 = 6 ∧ xv h 2 4 = 7 ∧ xv h 2 5 = 8 ∧ xv h 2 6 = 0 ∧ xv h 2 7 = -1) ∧ (xv h 3 1 = -1 ∧ xv h 3 2 = 0 ∧ xv h 4 1 = -1 ∧ xv h 4 2 = 0 ∧ xv h 5 1 = -1 ∧ xv h 5 2 = 0) ∧ (xv h 6 0 = 8 ∧ xv h 6 1 = 3 ∧ xv h 6 2 = 2 ∧ xv h 6 3 = 0 ∧ xv h 6 4 = 10 ∧ xv h 6 5 = 19 ∧ xv h 6 6 = 6) ∧ (xv h 7 0 = 0 ∧ xv h 7 1 = 0 ∧ xv h 7 2 = 0)
def XBase (h : XH) : Prop := XB1 h ∧ XB2 h ∧ XB3 h
theorem lawX_h : ∀ b3 b4 b5 : Bool, (F_X0_init 1 (hnew (law_h0 b3 b4 b5) 1 13)).map (fun f => f.1) = some 0 := by decide +kernel
theorem lawX_1 : ∀ b3 b4 b5 : Bool, XB1 (oget (F_X0_init 1 (hnew (law_h0 b3 b4 b5) 1 13)) (law_h0 b3 b4 b5)) := by decide +kernel
theorem lawX_2 : ∀ b3 b4 b5 : Bool, XB2 (oget (F_X0_init 1 (hnew (law_h0 b3 b4 b5) 1 13)) (law_h0 b3 b4 b5)) := by decide +kernel
theorem lawX_3 : ∀ b3 b4 b5 : Bool, XB3 (oget (F_X0_init 1 (hnew (law_h0 b3 b4 b5) 1 13)) (law_h0 b3 b4 b5)) := by decide +kernel
theorem law_X (b3 b4 b5 : Bool) : ∃ hX, F_X0_init 1 (hnew (law_h0 b3 b4 b5) 1 13) = some (0, hX) ∧ XBase hX := ⟨_, oget_eq (lawX_h b3 b4 b5), lawX_1 b3 b4 b5, lawX_2 b3 b4 b5, lawX_3 b3 b4 b5⟩
theorem lawM_h : ∀ b3 b4 b5 : Bool, (F_X4_init 1 (hnew (law_h0 b3 b4 b5) 0 70)).map (fun f => f.1) = some 0 := by decide +kernel
theorem lawM_1 : ∀ b3 b4 b5 : Bool, MB1 (oget (F_X4_init 1 (hnew (law_h0 b3 b4 b5) 0 70)) (law_h0 b3 b4 b5)) := by decide +kernel
theorem lawM_2 : ∀ b3 b4 b5 : Bool, MB2 (oget (F_X4_init 1 (hnew (law_h0 b3 b4 b5) 0 70)) (law_h0 b3 b4 b5)) := by decide +kernel
theorem lawM_3 : ∀ b3 b4 b5 : Bool, MB3 (oget (F_X4_init 1 (hnew (law_h0 b3 b4 b5) 0 70)) (law_h0 b3 b4 b5)) := by decide +kernel
theorem lawM_4 : ∀ b3 b4 b5 : Bool, MB4 (oget (F_X4_init 1 (hnew (law_h0 b3 b4 b5) 0 70)) (law_h0 b3 b4 b5)) := by decide +kernel
theorem lawM_5 : ∀ b3 b4 b5 : Bool, MB5 (oget (F_X4_init 1 (hnew (law_h0 b3 b4 b5) 0 70)) (law_h0 b3 b4 b5)) := by decide +kernel
theorem law_M (b3 b4 b5 : Bool) : ∃ hM, F_X4_init 1 (hnew (law_h0 b3 b4 b5) 0 70) = some (0, hM) ∧ MBase hM := ⟨_, oget_eq (lawM_h b3 b4 b5), lawM_1 b3 b4 b5, lawM_2 b3 b4 b5, lawM_3 b3 b4 b5, lawM_4 b3 b4 b5, lawM_5 b3 b4 b5⟩
theorem arrV_cong9 {cI : ClassId} {N : Nat} {f g : Nat → Value} (h : ∀ j, j < N → f j = g j) : arrV cI N f = arrV cI N g := by
  unfold arrV
  have : (fun j : Fin N => f j.val) = fun j : Fin N => g j.val := funext fun j => h j.val j.isLt
  rw [this]
theorem okx_0 (kd : Nat) : okx kd 0 := by
  unfold okx
  split
  · unfold in64; omega
  · split
    · unfold in8; omega
    · split
      · exact Or.inl rfl
      · exact in32_0
theorem VM_ok {hM : XH} (B : MBase hM) (hok : okH hM) : okV (VM hM) := by
  obtain ⟨⟨f1, f2, f3⟩, B2, B3, -⟩ := B
  intro k j
  unfold VM
  split
  · rename_i hk
    obtain ⟨g1, g2⟩ := f3 k hk
    split
    · rename_i h3
      split
      case isFalse => exact okx_0 _
      obtain ⟨-, hm, m1, m2⟩ := g1 h3
      obtain ⟨-, -, m3, m4, -⟩ := B2 k hm
      have ho := (hok (xv hM 1 k) (by omega) (by rw [f1]; exact m2)).2.2 j
      unfold xty at ho
      rw [m4, if_neg (by omega), Nat.add_sub_cancel_left] at ho
      generalize xv hM (xv hM 1 k) j = x at ho ⊢
      generalize mKind k = t at h3 m3 ho
      rcases (show t = 3 ∨ t = 4 ∨ t = 5 ∨ t = 6 by omega) with rfl | rfl | rfl | rfl <;> exact ho
    · rename_i h3
      split
      · have ho := (hok 1 (by decide) (by rw [f1]; decide)).2.2 (k : Int)
        unfold xty at ho
        rw [f2, if_pos (by decide), Int.toNat_natCast, g2 h3] at ho
        generalize xv hM 1 k = x at ho ⊢
        generalize mKind k = t at h3 ho
        rcases (show t = 0 ∨ t = 1 ∨ t = 2 by omega) with rfl | rfl | rfl <;> exact ho
      · exact okx_0 _
  · exact okx_0 _
theorem xW_apart {A : Nat → Prop} {cT : Nat → ClassId} {u : Int → Nat} {h : XH} (hD : va_D A (xW cT u h)) {a a' : Int} (h1 : 1 ≤ a) (h2 : a ≤ (xn h : Int)) (h3 : 1 ≤ a') (h4 : a' ≤ (xn h : Int)) (e : u a = u a') : a = a' := by
  have := hD.1 _ _ _ _ (xW_at (cT := cT) (ad := u) h1 h2) (xW_at (cT := cT) (ad := u) h3 h4) e
  omega
theorem law_mW {D : va_G} {cT : Nat → ClassId} {u : Int → Nat} {H : Heap} {hM : XH} (B : MBase hM) (hP : va_P D gcl (xW cT u hM) H) : va_P D gcl (mW (cTm cT) (fun k => u (xv hM 1 k)) (u 1) (VM hM)) H := by
  obtain ⟨⟨f1, f2, f3⟩, B2, B3, -⟩ := B
  intro k q hq
  unfold mW at hq
  cases k with
  | zero =>
    cases hq
    have h1 := hP _ _ (xW_at (cT := cT) (ad := u) (h := hM) (a := 1) (by decide) (by rw [f1]; decide))
    rw [xcell_o f2 (by decide)] at h1
    have e : xfs u hM 1 0 = mFs (fun k => u (xv hM 1 k)) (VM hM) := by
      unfold xfs mFs
      show (List.range 70).map _ = _
      refine List.map_congr_left fun k hk => ?_
      have hk : k < 70 := List.mem_range.mp hk
      obtain ⟨g1, g2⟩ := f3 k hk
      unfold mFld VM xval
      rw [if_pos hk]
      by_cases h3 : 3 ≤ mKind k
      · obtain ⟨m1, -, m2, -⟩ := g1 h3
        rw [m1, if_neg (by decide), if_pos rfl, if_neg (show ¬ mKind k = 1 by omega), if_neg (show ¬ mKind k < 3 by omega)]
        unfold rv
        rw [if_neg (by omega)]
      · have m1 := g2 h3
        rw [m1, if_neg h3, if_pos rfl]
        by_cases h1 : mKind k = 1
        · rw [if_pos h1, if_pos h1]
        · rw [if_neg h1, if_neg h1, if_neg (show ¬ mKind k = 8 by omega), if_pos (show mKind k < 3 by omega)]
    rw [← e]; exact h1
  | succ k =>
    rw [List.getElem?_cons_succ, List.getElem?_map] at hq
    cases hk : mArrs[k]? with
    | none => rw [hk] at hq; cases hq
    | some a =>
      rw [hk] at hq
      cases hq
      have ha := List.mem_of_getElem? hk
      obtain ⟨m0, m1, m2, m3, m4⟩ := B2 a ha
      obtain ⟨g1, -⟩ := f3 a m0
      obtain ⟨-, -, n1, n2⟩ := g1 m1
      have h1 := hP _ _ (xW_at (cT := cT) (ad := u) (h := hM) (a := xv hM 1 a) (by omega) (by rw [f1]; exact n2))
      have e1 : xcell cT u hM (xv hM 1 a) = (u (xv hM 1 a), .inl (cT (mKind a - 3), xarr u hM (xv hM 1 a) (mKind a - 3))) := by
        unfold xcell
        rw [m3, if_neg (by omega), Nat.add_sub_cancel_left]
      rw [e1] at h1
      have h2 : H[u (xv hM 1 a)]? = some (vp_cell (cT (mKind a - 3)) (xarr u hM (xv hM 1 a) (mKind a - 3))) := h1
      show H[u (xv hM 1 a)]? = some (vp_cell (cT (mKind a - 3)) (mArr (VM hM) a))
      rw [h2]
      congr 1
      have eV : ∀ j : Nat, j < mLen a → VM hM a j = xv hM (xv hM 1 a) j := fun j hj => by unfold VM; rw [if_pos m0, if_pos m1, if_pos ⟨by omega, by omega⟩]
      unfold xarr mArr
      rw [m4]
      by_cases h4 : mKind a = 4
      · rw [if_pos (by omega), if_pos h4]
        exact (vp_cell_l _ _ _).trans ((arrV_cong9 (f := fun j : Nat => Value.long (I64 (xv hM (xv hM 1 a) j))) (g := fun j : Nat => Value.long (I64 (VM hM a j))) fun j hj => by show Value.long _ = Value.long _; rw [eV j hj]).trans (vp_cell_l _ _ _).symm)
      · rw [if_neg (by omega), if_neg (by omega), if_neg h4]
        exact (vp_cell_i _ _ _).trans ((arrV_cong9 (f := fun j : Nat => Value.int (I32 (xv hM (xv hM 1 a) j))) (g := fun j : Nat => Value.int (I32 (VM hM a j))) fun j hj => by show Value.int _ = Value.int _; rw [eV j hj]).trans (vp_cell_i _ _ _).symm)
theorem law_mA {D : va_G} {cT : Nat → ClassId} {u : Int → Nat} {H : Heap} {A : Nat → Prop} {hM : XH} (B : MBase hM) (hP : va_P D gcl (xW cT u hM) H) (hD : va_D A (xW cT u hM)) : mDis (fun k => u (xv hM 1 k)) (u 1) ∧ ∀ q, mA (fun k => u (xv hM 1 k)) (u 1) q → A q ∧ q < H.size ∧ ∃ (k : Nat) (e : va_E), (xW cT u hM)[k]? = some (q, e) := by
  obtain ⟨⟨f1, f2, f3⟩, B2, B3, -⟩ := B
  have hr : ∀ k ∈ mArrs, 2 ≤ xv hM 1 k ∧ xv hM 1 k ≤ 35 := fun k hk => by
    obtain ⟨m0, m1, -⟩ := B2 k hk
    exact ((f3 k m0).1 m1).2.2
  refine ⟨⟨fun k hk e => ?_, fun k hk j hj e => ?_⟩, fun q hq => ?_⟩
  · have := xW_apart hD (a := xv hM 1 k) (a' := 1) (by have := hr k hk; omega) (by rw [f1]; exact (hr k hk).2) (by decide) (by rw [f1]; decide) e
    have := hr k hk; omega
  · exact B3 k hk j hj (xW_apart hD (by have := hr k hk; omega) (by rw [f1]; exact (hr k hk).2) (by have := hr j hj; omega) (by rw [f1]; exact (hr j hj).2) e)
  · obtain ⟨a, a1, a2, rfl⟩ : ∃ a : Int, 1 ≤ a ∧ a ≤ (xn hM : Int) ∧ q = u a := by
      rcases hq with rfl | ⟨k, hk, rfl⟩
      · exact ⟨1, by decide, by rw [f1]; decide, rfl⟩
      · exact ⟨_, by have := hr k hk; omega, by rw [f1]; exact (hr k hk).2, rfl⟩
    have h1 := xW_at (cT := cT) (ad := u) a1 a2
    exact ⟨hD.2 _ _ h1, (hP _ _ h1).lt, _, _, h1⟩
