/-! printed by tools/genx.py: the system's methods as pure functions over named cells, and their walks -/
set_option maxRecDepth 100000
set_option maxHeartbeats 4000000
theorem xg_X17_15 {ρ : Type} {fh : ρ → XH} {QQ : XZ ρ → State → Prop} {mn : String} {cc : ByteArray} {nL : Nat} {ret : Option FieldType} {d : Nat} {Z : XZ ρ} {pc : Nat} {lv : List (Nat × AV)} {st : List AV} {h : XH} {res : Option ρ} {a : Int} (hd : decode cc pc = .ok (.getfield 15, 3)) (kk : XG fh QQ RX17 mn cc nL ret d Z (pc + 3) lv ((2, xv h a 0) :: st) h res) : XG fh QQ RX17 mn cc nL ret d Z pc lv ((2, a) :: st) h (ob h a 15 res) := x_get (C := RX17) (ref := RX17) 15 0 rfl in_X17 (by decide) rfl (by decide) (Or.inl rfl) q1024 hd kk
theorem xg_X17_19 {ρ : Type} {fh : ρ → XH} {QQ : XZ ρ → State → Prop} {mn : String} {cc : ByteArray} {nL : Nat} {ret : Option FieldType} {d : Nat} {Z : XZ ρ} {pc : Nat} {lv : List (Nat × AV)} {st : List AV} {h : XH} {res : Option ρ} {a : Int} (hd : decode cc pc = .ok (.getfield 19, 3)) (kk : XG fh QQ RX17 mn cc nL ret d Z (pc + 3) lv ((2, xv h a 1) :: st) h res) : XG fh QQ RX17 mn cc nL ret d Z pc lv ((2, a) :: st) h (ob h a 15 res) := x_get (C := RX17) (ref := RX17) 15 1 rfl in_X17 (by decide) rfl (by decide) (Or.inl rfl) q1025 hd kk
noncomputable def F_X17_add (x0 : Int) (x1 : Int) (x2 : Int) (h : XH) : Option XR := ob h x0 15 <| ai h (xv h x0 0) 0 x1 <| ai h (xv h x0 0) 0 x1 <| nm (hset h (xv h x0 0) x1 (w32 ((xv h (xv h x0 0) x1) + 1))) fun h1 => ob h1 x0 15 <| ai h1 (xv h1 x0 1) 0 x1 <| nm (α := Int) (if x2 = 0 then 0 else 1) fun v2 => ai h1 (xv h1 x0 1) 0 x1 <| nm (hset h1 (xv h1 x0 1) x1 (w32 ((xv h1 (xv h1 x0 1) x1) + v2))) fun h3 => some (0, h3)
theorem WF_X17_add {d : Nat} {Z : XZ XR} (hdd : 1 ≤ d) : ∀ x0 x1 x2 h, XG xfh (xQ 2) RX17 "add" cX17_add 3 none d Z 0 [(0, (2, x0)), (1, (0, x1)), (2, (0, x2))] [] h (F_X17_add x0 x1 x2 h) := by
  intro x0 x1 x2 h
  unfold F_X17_add
  refine x_aload_n 0 dX17_add_0 rfl rfl ?_
  refine xg_X17_15 dX17_add_1 ?_
  refine x_iload_n 1 dX17_add_4 rfl rfl ?_
  refine x_dup2 dX17_add_5 rfl rfl ?_
  refine x_iald dX17_add_6 ?_
  refine x_ic dX17_add_7 (by decide) (by decide) ?_
  refine x_iadd dX17_add_8 ?_
  refine x_iast dX17_add_9 fun h1 => ?_
  refine x_aload_n 0 dX17_add_10 rfl rfl ?_
  refine xg_X17_19 dX17_add_11 ?_
  refine x_iload_n 1 dX17_add_14 rfl rfl ?_
  refine x_dup2 dX17_add_15 rfl rfl ?_
  refine x_iald dX17_add_16 ?_
  refine x_iload_n 2 dX17_add_17 rfl rfl ?_
  refine x_join 26 (fun v2 => [(0, v2), (0, xv h1 (xv h1 x0 1) x1), (0, x1), (2, xv h1 x0 1)]) (fun v2 => ?_) (fun hJ => ?_)
  · refine x_iadd dX17_add_26 ?_
    refine x_iast dX17_add_27 fun h3 => ?_
    exact x_vret rfl dX17_add_28
  · refine x_if_eqF 25 dX17_add_18 (by decide) (fun _ => ?_) (fun _ => ?_)
    · refine x_ic dX17_add_25 (by decide) (by decide) ?_
      exact hJ _
    · refine x_ic dX17_add_21 (by decide) (by decide) ?_
      refine x_goto 26 dX17_add_22 (by decide) ?_
      exact hJ _
theorem SF_X17_add (l : Launch) {d : Nat} (hdd : 1 ≤ d) (x0 : Int) (x1 : Int) (x2 : Int) (h : XH) (hok : okH h) (ho : okXs (xn h) [(2, x0), (0, x1), (0, x2)]) (fin : XR) (hf : F_X17_add x0 x1 x2 h = some fin) : xSpec l yX17_add cX17_add 3 none d 2 [(2, x0), (0, x1), (0, x2)] h fin := x_enter (lv := [(0, (2, x0)), (1, (0, x1)), (2, (0, x2))]) (by decide) rfl rfl (Nat.le_of_ble_eq_true rfl) rfl (fun Z _ => WF_X17_add hdd x0 x1 x2 h) hok ho fin hf
noncomputable def F_J2_size (x0 : Int) (h : XH) : Option XR := ob h x0 26 <| some (xv h x0 2, h)
theorem WF_J2_size {d : Nat} {Z : XZ XR} (hdd : 1 ≤ d) : ∀ x0 h, XG xfh (xQ 0) RJ2 "size" cJ2_size 1 (some .int) d Z 0 [(0, (2, x0))] [] h (F_J2_size x0 h) := by
  intro x0 h
  unfold F_J2_size
  refine x_aload_n 0 dJ2_size_0 rfl rfl ?_
  refine xg_J2_48 dJ2_size_1 ?_
  exact x_iret rfl dJ2_size_4
theorem SF_J2_size (l : Launch) {d : Nat} (hdd : 1 ≤ d) (x0 : Int) (h : XH) (hok : okH h) (ho : okXs (xn h) [(2, x0)]) (fin : XR) (hf : F_J2_size x0 h = some fin) : xSpec l yJ2_size cJ2_size 1 (some .int) d 0 [(2, x0)] h fin := x_enter (lv := [(0, (2, x0))]) (by decide) rfl rfl (Nat.le_of_ble_eq_true rfl) rfl (fun Z _ => WF_J2_size hdd x0 h) hok ho fin hf
theorem cl_X0_106 {ρ : Type} {fh : ρ → XH} {QQ : XZ ρ → State → Prop} {mn : String} {cc : ByteArray} {nL : Nat} {ret : Option FieldType} {d : Nat} {Z : XZ ρ} {pc : Nat} {lv : List (Nat × AV)} {st : List AV} {h : XH} {g : Int → XH → Option ρ} {b : Int} (hdd : 2 ≤ d) (hcat : (st.map fun v => if v.1 = 1 then 2 else 1).sum ≤ 8) (hdg : decode cc pc = .ok (.invokevirtual 106, 3)) (kk : ∀ r h1, XG fh QQ RX0 mn cc nL ret d Z (pc + 3) lv ((0, r) :: st) h1 (g r h1)) : XG fh QQ RX0 mn cc nL ret d Z pc lv ((2, b) :: st) h (ob h b 26 (mb (F_J2_size b h) g)) :=
  x_callVi [] 0 (WF_J2_size (Z := (Z.1, Z.2.1, ((0, h), h))) (Nat.le_refl 1) b h).1 (fun hok ho fin hf => SF_J2_size (yL Z) (Nat.le_refl 1) b h hok ho fin hf) RJ2 26 rfl (by decide) (lw_V q370 q371 q372 q128 q373) ⟨rfl, by decide +kernel, by decide +kernel, by decide +kernel⟩ rfl (by omega) (by decide) rfl hcat hdg kk
theorem xg_X0_21 {ρ : Type} {fh : ρ → XH} {QQ : XZ ρ → State → Prop} {mn : String} {cc : ByteArray} {nL : Nat} {ret : Option FieldType} {d : Nat} {Z : XZ ρ} {pc : Nat} {lv : List (Nat × AV)} {st : List AV} {h : XH} {res : Option ρ} {a : Int} (hd : decode cc pc = .ok (.getfield 21, 3)) (kk : XG fh QQ RX0 mn cc nL ret d Z (pc + 3) lv ((2, xv h a 0) :: st) h res) : XG fh QQ RX0 mn cc nL ret d Z pc lv ((2, a) :: st) h (ob h a 2 res) := x_getN (C := RX1) (ref := RX1) 2 0 rfl in_X1 (by decide) rfl (by decide) (Or.inl rfl) q214 hd kk
noncomputable def F_X0_many (x0 : Int) (h : XH) : Option XR := ob h x0 1 <| ob h (xv h x0 0) 2 <| ob h (xv h (xv h x0 0) 0) 26 <| mb (F_J2_size (xv h (xv h x0 0) 0) h) fun r1 h2 => some (r1, h2)
theorem WF_X0_many {d : Nat} {Z : XZ XR} (hdd : 2 ≤ d) : ∀ x0 h, XG xfh (xQ 0) RX0 "many" cX0_many 1 (some .int) d Z 0 [(0, (2, x0))] [] h (F_X0_many x0 h) := by
  intro x0 h
  unfold F_X0_many
  refine x_aload_n 0 dX0_many_0 rfl rfl ?_
  refine xg_X0_17 dX0_many_1 ?_
  refine xg_X0_21 dX0_many_4 ?_
  refine cl_X0_106 (by omega) (Nat.le_of_ble_eq_true rfl) dX0_many_7 fun r1 h2 => ?_
  exact x_iret rfl dX0_many_10
theorem SF_X0_many (l : Launch) {d : Nat} (hdd : 2 ≤ d) (x0 : Int) (h : XH) (hok : okH h) (ho : okXs (xn h) [(2, x0)]) (fin : XR) (hf : F_X0_many x0 h = some fin) : xSpec l yX0_many cX0_many 1 (some .int) d 0 [(2, x0)] h fin := x_enter (lv := [(0, (2, x0))]) (by decide) rfl rfl (Nat.le_of_ble_eq_true rfl) rfl (fun Z _ => WF_X0_many hdd x0 h) hok ho fin hf
theorem cl_X0_13 {ρ : Type} {fh : ρ → XH} {QQ : XZ ρ → State → Prop} {mn : String} {cc : ByteArray} {nL : Nat} {ret : Option FieldType} {d : Nat} {Z : XZ ρ} {pc : Nat} {lv : List (Nat × AV)} {st : List AV} {h : XH} {g : Int → XH → Option ρ} {b : Int} (hdd : 3 ≤ d) (hcat : (st.map fun v => if v.1 = 1 then 2 else 1).sum ≤ 8) (hdg : decode cc pc = .ok (.invokevirtual 13, 3)) (kk : ∀ r h1, XG fh QQ RX0 mn cc nL ret d Z (pc + 3) lv ((0, r) :: st) h1 (g r h1)) : XG fh QQ RX0 mn cc nL ret d Z pc lv ((2, b) :: st) h (ob h b 1 (mb (F_X0_many b h) g)) :=
  x_callVi [] 0 (WF_X0_many (Z := (Z.1, Z.2.1, ((0, h), h))) (Nat.le_refl 2) b h).1 (fun hok ho fin hf => SF_X0_many (yL Z) (Nat.le_refl 2) b h hok ho fin hf) RX0 1 rfl (by decide) (lw_V q366 q368 qs2 q124 q369) ⟨rfl, by decide +kernel, by decide +kernel, by decide +kernel⟩ rfl (by omega) (by decide) rfl hcat hdg kk
theorem cl_X0_46 {ρ : Type} {fh : ρ → XH} {QQ : XZ ρ → State → Prop} {mn : String} {cc : ByteArray} {nL : Nat} {ret : Option FieldType} {d : Nat} {Z : XZ ρ} {pc : Nat} {lv : List (Nat × AV)} {st : List AV} {h : XH} {g : Int → XH → Option ρ} {b a0 a1 : Int} (hdd : 2 ≤ d) (hcat : (st.map fun v => if v.1 = 1 then 2 else 1).sum ≤ 8) (hdg : decode cc pc = .ok (.invokevirtual 46, 3)) (kk : ∀ r h1, XG fh QQ RX0 mn cc nL ret d Z (pc + 3) lv st h1 (g r h1)) : XG fh QQ RX0 mn cc nL ret d Z pc lv ((0, a1) :: (0, a0) :: (2, b) :: st) h (ob h b 15 (mb (F_X17_add b a0 a1 h) g)) :=
  x_callVv [(0, a0), (0, a1)] 2 (WF_X17_add (Z := (Z.1, Z.2.1, ((0, h), h))) (Nat.le_refl 1) b a0 a1 h).1 (fun hok ho fin hf => SF_X17_add (yL Z) (Nat.le_refl 1) b a0 a1 h hok ho fin hf) RX17 15 rfl (by decide) (lw_V q1038 q1039 q1040 q155 q1041) ⟨rfl, by decide +kernel, by decide +kernel, by decide +kernel⟩ rfl (by omega) (by decide) rfl hcat hdg kk
theorem cl_X0_9 {ρ : Type} {fh : ρ → XH} {QQ : XZ ρ → State → Prop} {mn : String} {cc : ByteArray} {nL : Nat} {ret : Option FieldType} {d : Nat} {Z : XZ ρ} {pc : Nat} {lv : List (Nat × AV)} {st : List AV} {h : XH} {g : Int → XH → Option ρ} {b a0 : Int} (hdd : 129 ≤ d) (hcat : (st.map fun v => if v.1 = 1 then 2 else 1).sum ≤ 8) (hdg : decode cc pc = .ok (.invokespecial 9, 3)) (kk : ∀ r h1, XG fh QQ RX0 mn cc nL ret d Z (pc + 3) lv st h1 (g r h1)) : XG fh QQ RX0 mn cc nL ret d Z pc lv ((2, a0) :: (2, b) :: st) h (pz b (mb (F_X17_init b a0 h) g)) :=
  x_callJv [(2, a0)] 1 (WF_X17_init (Z := (Z.1, Z.2.1, ((0, h), h))) (Nat.le_refl 128) b a0 h).1 (fun hok ho fin hf => SF_X17_init (yL Z) (Nat.le_refl 128) b a0 h hok ho fin hf) (lw_meth q1001) q155 q999 q1000 rfl ⟨by decide +kernel, by decide +kernel, by decide +kernel⟩ rfl (by omega) (by decide) rfl hcat hdg kk
theorem xg_X0_35 {ρ : Type} {fh : ρ → XH} {QQ : XZ ρ → State → Prop} {mn : String} {cc : ByteArray} {nL : Nat} {ret : Option FieldType} {d : Nat} {Z : XZ ρ} {pc : Nat} {lv : List (Nat × AV)} {st : List AV} {h : XH} {res : Option ρ} {a : Int} (hd : decode cc pc = .ok (.getfield 35, 3)) (kk : XG fh QQ RX0 mn cc nL ret d Z (pc + 3) lv ((0, xv h a 5) :: st) h res) : XG fh QQ RX0 mn cc nL ret d Z pc lv ((2, a) :: st) h (ob h a 5 res) := x_getN (C := RX5) (ref := RX5) 5 5 rfl in_X5 (by decide) rfl (by decide) (Or.inl rfl) q396 hd kk
theorem xg_X0_39 {ρ : Type} {fh : ρ → XH} {QQ : XZ ρ → State → Prop} {mn : String} {cc : ByteArray} {nL : Nat} {ret : Option FieldType} {d : Nat} {Z : XZ ρ} {pc : Nat} {lv : List (Nat × AV)} {st : List AV} {h : XH} {res : Option ρ} {a : Int} (hd : decode cc pc = .ok (.getfield 39, 3)) (kk : XG fh QQ RX0 mn cc nL ret d Z (pc + 3) lv ((0, xv h a 3) :: st) h res) : XG fh QQ RX0 mn cc nL ret d Z pc lv ((2, a) :: st) h (ob h a 5 res) := x_getN (C := RX5) (ref := RX5) 5 3 rfl in_X5 (by decide) rfl (by decide) (Or.inl rfl) q391 hd kk
theorem xg_X0_43 {ρ : Type} {fh : ρ → XH} {QQ : XZ ρ → State → Prop} {mn : String} {cc : ByteArray} {nL : Nat} {ret : Option FieldType} {d : Nat} {Z : XZ ρ} {pc : Nat} {lv : List (Nat × AV)} {st : List AV} {h : XH} {res : Option ρ} {a : Int} (hd : decode cc pc = .ok (.getfield 43, 3)) (kk : XG fh QQ RX0 mn cc nL ret d Z (pc + 3) lv ((0, xv h a 4) :: st) h res) : XG fh QQ RX0 mn cc nL ret d Z pc lv ((2, a) :: st) h (ob h a 5 res) := x_getN (C := RX5) (ref := RX5) 5 4 rfl in_X5 (by decide) rfl (by decide) (Or.inl rfl) q393 hd kk
theorem xn_X0_7 {ρ : Type} {fh : ρ → XH} {QQ : XZ ρ → State → Prop} {mn : String} {cc : ByteArray} {nL : Nat} {ret : Option FieldType} {d : Nat} {Z : XZ ρ} {pc : Nat} {lv : List (Nat × AV)} {st : List AV} {h : XH} {f : Int → XH → Option ρ} (hd : decode cc pc = .ok (.new 7, 3)) (kk : ∀ r h1, XG fh QQ RX0 mn cc nL ret d Z (pc + 3) lv ((2, r) :: st) h1 (f r h1)) : XG fh QQ RX0 mn cc nL ret d Z pc lv st h (nw h 15 4 f) := x_new (C := RX17) 15 rfl in_X17 tyX17_ok (by decide) rfl (by decide) xfit_X17 q997 q998 q155 hd kk
noncomputable def F_X0_bowl_70 (K12 : Int → Int → Int → Int → Int → XH → Option XR) (x0 : Int) (x1 : Int) (x2 : Int) (x3 : Int) (x4 : Int) (h : XH) : Option XR := nm (w32 (x4 + 1)) fun v1 => K12 x0 x1 x2 x3 v1 h
theorem WF_X0_bowl_70 {d : Nat} {Z : XZ XR} (hdd : 129 ≤ d) {K12 : Int → Int → Int → Int → Int → XH → Option XR} (hK12 : ∀ x0 x1 x2 x3 x4 h, XG xfh (xQ 3) RX0 "bowl" cX0_bowl 6 (some (.object "ExamSlips$Bowl")) d Z 12 [(0, (2, x0)), (1, (0, x1)), (2, (0, x2)), (3, (2, x3)), (4, (0, x4))] [] h (K12 x0 x1 x2 x3 x4 h)) : ∀ x0 x1 x2 x3 x4 h, XG xfh (xQ 3) RX0 "bowl" cX0_bowl 6 (some (.object "ExamSlips$Bowl")) d Z 70 [(0, (2, x0)), (1, (0, x1)), (2, (0, x2)), (3, (2, x3)), (4, (0, x4))] [] h (F_X0_bowl_70 K12 x0 x1 x2 x3 x4 h) := by
  intro x0 x1 x2 x3 x4 h
  unfold F_X0_bowl_70
  refine x_iinc 4 dX0_bowl_70 rfl (by decide) fun v1 => x_lv (lv' := [(4, (0, v1)), (0, (2, x0)), (1, (0, x1)), (2, (0, x2)), (3, (2, x3))]) rfl ?_
  refine x_goto 12 dX0_bowl_73 (by decide) ?_
  exact x_sub [1, 2, 3, 4, 0] rfl (hK12 x0 x1 x2 x3 v1 h)
noncomputable def F_X0_bowl_62 (K12 : Int → Int → Int → Int → Int → XH → Option XR) (s0 : Int) (s1 : Int) (x0 : Int) (x1 : Int) (x2 : Int) (x3 : Int) (x4 : Int) (x5 : Int) (h : XH) : Option XR := ob h x5 5 <| ob h s0 15 <| mb (F_X17_add s0 s1 (xv h x5 4) h) fun r1 h2 => F_X0_bowl_70 K12 x0 x1 x2 x3 x4 h2
theorem WF_X0_bowl_62 {d : Nat} {Z : XZ XR} (hdd : 129 ≤ d) {K12 : Int → Int → Int → Int → Int → XH → Option XR} (hK12 : ∀ x0 x1 x2 x3 x4 h, XG xfh (xQ 3) RX0 "bowl" cX0_bowl 6 (some (.object "ExamSlips$Bowl")) d Z 12 [(0, (2, x0)), (1, (0, x1)), (2, (0, x2)), (3, (2, x3)), (4, (0, x4))] [] h (K12 x0 x1 x2 x3 x4 h)) : ∀ s0 s1 x0 x1 x2 x3 x4 x5 h, XG xfh (xQ 3) RX0 "bowl" cX0_bowl 6 (some (.object "ExamSlips$Bowl")) d Z 62 [(0, (2, x0)), (1, (0, x1)), (2, (0, x2)), (3, (2, x3)), (4, (0, x4)), (5, (2, x5))] [(0, s1), (2, s0)] h (F_X0_bowl_62 K12 s0 s1 x0 x1 x2 x3 x4 x5 h) := by
  intro s0 s1 x0 x1 x2 x3 x4 x5 h
  unfold F_X0_bowl_62
  refine x_aload 5 dX0_bowl_62 rfl ?_
  refine xg_X0_43 dX0_bowl_64 ?_
  refine cl_X0_46 (by omega) (Nat.le_of_ble_eq_true rfl) dX0_bowl_67 fun r1 h2 => ?_
  exact x_sub [0, 1, 2, 3, 4] rfl (WF_X0_bowl_70 hdd hK12 x0 x1 x2 x3 x4 h2)
noncomputable def F_X0_bowl_12 : Nat → Int → Int → Int → Int → Int → XH → Option XR
  | 0, _, _, _, _, _, _ => none
  | n + 1, x0, x1, x2, x3, x4, h => ob h x0 1 <| mb (F_X0_many x0 h) fun r1 h2 => if r1 ≤ x4 then (some (x3, h2)) else (ob h2 x0 1 <| ob h2 (xv h2 x0 0) 2 <| ob h2 (xv h2 (xv h2 x0 0) 0) 26 <| mb (F_J2_get (xv h2 (xv h2 x0 0) 0) x4 h2) fun r3 h4 => ob h4 r3 5 <| ob h4 r3 5 <| if xv h4 r3 5 = 0 then (if x4 = x1 then (F_X0_bowl_62 (F_X0_bowl_12 n) x3 x2 x0 x1 x2 x3 x4 r3 h4) else (ob h4 r3 5 <| F_X0_bowl_62 (F_X0_bowl_12 n) x3 (xv h4 r3 3) x0 x1 x2 x3 x4 r3 h4)) else (F_X0_bowl_70 (F_X0_bowl_12 n) x0 x1 x2 x3 x4 h4))
theorem WF_X0_bowl_12 {d : Nat} {Z : XZ XR} (hdd : 129 ≤ d) : ∀ n x0 x1 x2 x3 x4 h, XG xfh (xQ 3) RX0 "bowl" cX0_bowl 6 (some (.object "ExamSlips$Bowl")) d Z 12 [(0, (2, x0)), (1, (0, x1)), (2, (0, x2)), (3, (2, x3)), (4, (0, x4))] [] h (F_X0_bowl_12 n x0 x1 x2 x3 x4 h) := by
  intro n
  induction n with
  | zero => intro x0 x1 x2 x3 x4 h; exact x_none
  | succ n ih =>
    intro x0 x1 x2 x3 x4 h
    rw [F_X0_bowl_12]
    refine x_iload 4 dX0_bowl_12 rfl ?_
    refine x_aload_n 0 dX0_bowl_14 rfl rfl ?_
    refine cl_X0_13 (by omega) (Nat.le_of_ble_eq_true rfl) dX0_bowl_15 fun r1 h2 => ?_
    refine x_icmp_ge 76 dX0_bowl_18 (by decide) (fun _ => ?_) (fun _ => ?_)
    · refine x_aload_n 3 dX0_bowl_76 rfl rfl ?_
      exact x_aret rfl (Or.inl ⟨_, rfl⟩) dX0_bowl_77
    · refine x_aload_n 0 dX0_bowl_21 rfl rfl ?_
      refine xg_X0_17 dX0_bowl_22 ?_
      refine xg_X0_21 dX0_bowl_25 ?_
      refine x_iload 4 dX0_bowl_28 rfl ?_
      refine cl_X0_27 (by omega) (Nat.le_of_ble_eq_true rfl) dX0_bowl_30 fun r3 h4 => ?_
      refine x_cast (C := RX5) 5 rfl (by decide) q374 dX0_bowl_33 ?_
      refine x_astore (lv' := [(5, (2, r3)), (0, (2, x0)), (1, (0, x1)), (2, (0, x2)), (3, (2, x3)), (4, (0, x4))]) dX0_bowl_36 (by decide) rfl ?_
      refine x_aload 0 dX0_bowl_38 rfl ?_
      refine xg_X0_35 dX0_bowl_40 ?_
      refine x_if_ne 70 dX0_bowl_43 (by decide) (fun _ => ?_) (fun _ => ?_)
      · exact x_sub [1, 2, 3, 4, 5] rfl (WF_X0_bowl_70 hdd ih x0 x1 x2 x3 x4 h4)
      · refine x_aload_n 4 dX0_bowl_46 rfl rfl ?_
        refine x_iload 5 dX0_bowl_47 rfl ?_
        refine x_iload_n 2 dX0_bowl_49 rfl rfl ?_
        refine x_icmp_ne 57 dX0_bowl_50 (by decide) (fun _ => ?_) (fun _ => ?_)
        · refine x_aload 0 dX0_bowl_57 rfl ?_
          refine xg_X0_39 dX0_bowl_59 ?_
          exact x_sub [1, 2, 3, 4, 5, 0] rfl (WF_X0_bowl_62 hdd ih x3 (xv h4 r3 3) x0 x1 x2 x3 x4 r3 h4)
        · refine x_iload_n 3 dX0_bowl_53 rfl rfl ?_
          refine x_goto 62 dX0_bowl_54 (by decide) ?_
          exact x_sub [1, 2, 3, 4, 5, 0] rfl (WF_X0_bowl_62 hdd ih x3 x2 x0 x1 x2 x3 x4 r3 h4)
noncomputable def F_X0_bowl (x0 : Int) (x1 : Int) (x2 : Int) (h : XH) : Option XR := nw h 15 4 fun r1 h2 => pz r1 <| mb (F_X17_init r1 x0 h2) fun r3 h4 => F_X0_bowl_12 FU x0 x1 x2 r1 0 h4
theorem WF_X0_bowl {d : Nat} {Z : XZ XR} (hdd : 129 ≤ d) : ∀ x0 x1 x2 h, XG xfh (xQ 3) RX0 "bowl" cX0_bowl 6 (some (.object "ExamSlips$Bowl")) d Z 0 [(0, (2, x0)), (1, (0, x1)), (2, (0, x2))] [] h (F_X0_bowl x0 x1 x2 h) := by
  intro x0 x1 x2 h
  unfold F_X0_bowl
  refine xn_X0_7 dX0_bowl_0 fun r1 h2 => ?_
  refine x_dup dX0_bowl_3 rfl ?_
  refine x_aload_n 0 dX0_bowl_4 rfl rfl ?_
  refine cl_X0_9 (by omega) (Nat.le_of_ble_eq_true rfl) dX0_bowl_5 fun r3 h4 => ?_
  refine x_astore_n (lv' := [(3, (2, r1)), (0, (2, x0)), (1, (0, x1)), (2, (0, x2))]) dX0_bowl_8 rfl (by decide) rfl ?_
  refine x_ic dX0_bowl_9 (by decide) (by decide) ?_
  refine x_istore (lv' := [(4, (0, 0)), (3, (2, r1)), (0, (2, x0)), (1, (0, x1)), (2, (0, x2))]) dX0_bowl_10 (by decide) rfl ?_
  exact x_sub [2, 3, 4, 1, 0] rfl (WF_X0_bowl_12 hdd FU x0 x1 x2 r1 0 h4)
theorem SF_X0_bowl (l : Launch) {d : Nat} (hdd : 129 ≤ d) (x0 : Int) (x1 : Int) (x2 : Int) (h : XH) (hok : okH h) (ho : okXs (xn h) [(2, x0), (0, x1), (0, x2)]) (fin : XR) (hf : F_X0_bowl x0 x1 x2 h = some fin) : xSpec l yX0_bowl cX0_bowl 6 (some (.object "ExamSlips$Bowl")) d 3 [(2, x0), (0, x1), (0, x2)] h fin := x_enter (lv := [(0, (2, x0)), (1, (0, x1)), (2, (0, x2))]) (by decide) rfl rfl (Nat.le_of_ble_eq_true rfl) rfl (fun Z _ => WF_X0_bowl hdd x0 x1 x2 h) hok ho fin hf
theorem xpF_X2_7 {ρ : Type} {fh : ρ → XH} {QQ : XZ ρ → State → Prop} {cc : ByteArray} {nL : Nat} {ret : Option FieldType} {d : Nat} {Z : XZ ρ} {pc : Nat} {lv : List (Nat × AV)} {st : List AV} {h : XH} {f : XH → Option ρ} {a x : Int} (hd : decode cc pc = .ok (.putfield 7, 3)) (kk : ∀ h1, XG fh QQ RX2 "<init>" cc nL ret d Z (pc + 3) lv st h1 (f h1)) : XG fh QQ RX2 "<init>" cc nL ret d Z pc lv ((2, x) :: (2, a) :: st) h (ob h a 3 (nm (hset h a 0 x) f)) := x_putF (C := RX2) (ref := RX2) 3 0 rfl in_X2 tyX2_ok nmX2 (by decide) rfl (by decide) (Or.inl rfl) rfl rfl rfl (xfit_X2 0 (by decide)) 2 rfl q260 hd kk
noncomputable def F_X2_init (x0 : Int) (h : XH) : Option XR := pz x0 <| na h 1 7 fun r1 h2 => ob h2 x0 3 <| nm (hset h2 x0 0 r1) fun h3 => some (0, h3)
theorem WF_X2_init {d : Nat} {Z : XZ XR} (hdd : 1 ≤ d) : ∀ x0 h, XG xfh (xQ 2) RX2 "<init>" cX2_init 1 none d Z 0 [(0, (2, x0))] [] h (F_X2_init x0 h) := by
  intro x0 h
  unfold F_X2_init
  refine x_aload_n 0 dX2_init_0 rfl rfl ?_
  refine x_objinit q259 q176 q177 (by omega) (Nat.le_of_ble_eq_true rfl) dX2_init_1 ?_
  refine x_aload_n 0 dX2_init_4 rfl rfl ?_
  refine x_bp dX2_init_5 (by decide) (by decide) ?_
  refine x_newarr (atype := .long) 1 (by decide) rfl rfl q275 dX2_init_7 fun r1 h2 => ?_
  refine xpF_X2_7 dX2_init_9 fun h3 => ?_
  exact x_vret rfl dX2_init_12
theorem SF_X2_init (l : Launch) {d : Nat} (hdd : 1 ≤ d) (x0 : Int) (h : XH) (hok : okH h) (ho : okXs (xn h) [(2, x0)]) (fin : XR) (hf : F_X2_init x0 h = some fin) : xSpec l yX2_init cX2_init 1 none d 2 [(2, x0)] h fin := x_enter (lv := [(0, (2, x0))]) (by decide) rfl rfl (Nat.le_of_ble_eq_true rfl) rfl (fun Z _ => WF_X2_init hdd x0 h) hok ho fin hf
noncomputable def F_J0_init (x0 : Int) (h : XH) : Option XR := pz x0 <| some (0, h)
theorem WF_J0_init {d : Nat} {Z : XZ XR} (hdd : 1 ≤ d) : ∀ x0 h, XG xfh (xQ 2) RJ0 "<init>" cJ0_init 1 none d Z 0 [(0, (2, x0))] [] h (F_J0_init x0 h) := by
  intro x0 h
  unfold F_J0_init
  refine x_aload_n 0 dJ0_init_0 rfl rfl ?_
  refine x_objinit q195 q176 q177 (by omega) (Nat.le_of_ble_eq_true rfl) dJ0_init_1 ?_
  exact x_vret rfl dJ0_init_4
theorem SF_J0_init (l : Launch) {d : Nat} (hdd : 1 ≤ d) (x0 : Int) (h : XH) (hok : okH h) (ho : okXs (xn h) [(2, x0)]) (fin : XR) (hf : F_J0_init x0 h = some fin) : xSpec l yJ0_init cJ0_init 1 none d 2 [(2, x0)] h fin := x_enter (lv := [(0, (2, x0))]) (by decide) rfl rfl (Nat.le_of_ble_eq_true rfl) rfl (fun Z _ => WF_J0_init hdd x0 h) hok ho fin hf
theorem cl_J1_1 {ρ : Type} {fh : ρ → XH} {QQ : XZ ρ → State → Prop} {mn : String} {cc : ByteArray} {nL : Nat} {ret : Option FieldType} {d : Nat} {Z : XZ ρ} {pc : Nat} {lv : List (Nat × AV)} {st : List AV} {h : XH} {g : Int → XH → Option ρ} {b : Int} (hdd : 2 ≤ d) (hcat : (st.map fun v => if v.1 = 1 then 2 else 1).sum ≤ 8) (hdg : decode cc pc = .ok (.invokespecial 1, 3)) (kk : ∀ r h1, XG fh QQ RJ1 mn cc nL ret d Z (pc + 3) lv st h1 (g r h1)) : XG fh QQ RJ1 mn cc nL ret d Z pc lv ((2, b) :: st) h (pz b (mb (F_J0_init b h) g)) :=
  x_callIv [] 0 (WF_J0_init (Z := (Z.1, Z.2.1, ((0, h), h))) (Nat.le_refl 1) b h).1 (fun hok ho fin hf => SF_J0_init (yL Z) (Nat.le_refl 1) b h hok ho fin hf) (lw_meth q194) q126 q192 q193 rfl ⟨by decide +kernel, by decide +kernel, by decide +kernel⟩ rfl (by omega) (by decide) rfl hcat hdg kk
theorem xp_J1_7 {ρ : Type} {fh : ρ → XH} {QQ : XZ ρ → State → Prop} {mn : String} {cc : ByteArray} {nL : Nat} {ret : Option FieldType} {d : Nat} {Z : XZ ρ} {pc : Nat} {lv : List (Nat × AV)} {st : List AV} {h : XH} {f : XH → Option ρ} {a x : Int} (hd : decode cc pc = .ok (.putfield 7, 3)) (kk : ∀ h1, XG fh QQ RJ1 mn cc nL ret d Z (pc + 3) lv st h1 (f h1)) : XG fh QQ RJ1 mn cc nL ret d Z pc lv ((0, x) :: (2, a) :: st) h (ob h a 26 (nm (hset h a 0 x) f)) := x_put (C := RJ2) (ref := RJ1) 26 0 rfl in_J2 tyJ2_ok nmJ2 (by decide) rfl (by decide) (Or.inl rfl) (by decide) (xfit_J2 0 (by decide)) 0 rfl q200 hd kk
noncomputable def F_J1_init (x0 : Int) (h : XH) : Option XR := pz x0 <| mb (F_J0_init x0 h) fun r1 h2 => ob h2 x0 26 <| nm (hset h2 x0 0 0) fun h3 => some (0, h3)
theorem WF_J1_init {d : Nat} {Z : XZ XR} (hdd : 2 ≤ d) : ∀ x0 h, XG xfh (xQ 2) RJ1 "<init>" cJ1_init 1 none d Z 0 [(0, (2, x0))] [] h (F_J1_init x0 h) := by
  intro x0 h
  unfold F_J1_init
  refine x_aload_n 0 dJ1_init_0 rfl rfl ?_
  refine cl_J1_1 (by omega) (Nat.le_of_ble_eq_true rfl) dJ1_init_1 fun r1 h2 => ?_
  refine x_aload_n 0 dJ1_init_4 rfl rfl ?_
  refine x_ic dJ1_init_5 (by decide) (by decide) ?_
  refine xp_J1_7 dJ1_init_6 fun h3 => ?_
  exact x_vret rfl dJ1_init_9
theorem SF_J1_init (l : Launch) {d : Nat} (hdd : 2 ≤ d) (x0 : Int) (h : XH) (hok : okH h) (ho : okXs (xn h) [(2, x0)]) (fin : XR) (hf : F_J1_init x0 h = some fin) : xSpec l yJ1_init cJ1_init 1 none d 2 [(2, x0)] h fin := x_enter (lv := [(0, (2, x0))]) (by decide) rfl rfl (Nat.le_of_ble_eq_true rfl) rfl (fun Z _ => WF_J1_init hdd x0 h) hok ho fin hf
theorem cl_J2_1 {ρ : Type} {fh : ρ → XH} {QQ : XZ ρ → State → Prop} {mn : String} {cc : ByteArray} {nL : Nat} {ret : Option FieldType} {d : Nat} {Z : XZ ρ} {pc : Nat} {lv : List (Nat × AV)} {st : List AV} {h : XH} {g : Int → XH → Option ρ} {b : Int} (hdd : 3 ≤ d) (hcat : (st.map fun v => if v.1 = 1 then 2 else 1).sum ≤ 8) (hdg : decode cc pc = .ok (.invokespecial 1, 3)) (kk : ∀ r h1, XG fh QQ RJ2 mn cc nL ret d Z (pc + 3) lv st h1 (g r h1)) : XG fh QQ RJ2 mn cc nL ret d Z pc lv ((2, b) :: st) h (pz b (mb (F_J1_init b h) g)) :=
  x_callIv [] 0 (WF_J1_init (Z := (Z.1, Z.2.1, ((0, h), h))) (Nat.le_refl 2) b h).1 (fun hok ho fin hf => SF_J1_init (yL Z) (Nat.le_refl 2) b h hok ho fin hf) (lw_meth q191) q127 q189 q190 rfl ⟨by decide +kernel, by decide +kernel, by decide +kernel⟩ rfl (by omega) (by decide) rfl hcat hdg kk
theorem xp_J2_9 {ρ : Type} {fh : ρ → XH} {QQ : XZ ρ → State → Prop} {mn : String} {cc : ByteArray} {nL : Nat} {ret : Option FieldType} {d : Nat} {Z : XZ ρ} {pc : Nat} {lv : List (Nat × AV)} {st : List AV} {h : XH} {f : XH → Option ρ} {a x : Int} (hd : decode cc pc = .ok (.putfield 9, 3)) (kk : ∀ h1, XG fh QQ RJ2 mn cc nL ret d Z (pc + 3) lv st h1 (f h1)) : XG fh QQ RJ2 mn cc nL ret d Z pc lv ((2, x) :: (2, a) :: st) h (ob h a 26 (nm (hset h a 1 x) f)) := x_put (C := RJ2) (ref := RJ2) 26 1 rfl in_J2 tyJ2_ok nmJ2 (by decide) rfl (by decide) (Or.inl rfl) (by decide) (xfit_J2 1 (by decide)) 2 rfl q198 hd kk
noncomputable def F_J2_init (x0 : Int) (h : XH) : Option XR := pz x0 <| mb (F_J1_init x0 h) fun r1 h2 => ob h2 x0 26 <| nm (hset h2 x0 1 (-1)) fun h3 => some (0, h3)
theorem WF_J2_init {d : Nat} {Z : XZ XR} (hdd : 3 ≤ d) : ∀ x0 h, XG xfh (xQ 2) RJ2 "<init>" cJ2_init 1 none d Z 0 [(0, (2, x0))] [] h (F_J2_init x0 h) := by
  intro x0 h
  unfold F_J2_init
  refine x_aload_n 0 dJ2_init_0 rfl rfl ?_
  refine cl_J2_1 (by omega) (Nat.le_of_ble_eq_true rfl) dJ2_init_1 fun r1 h2 => ?_
  refine x_aload_n 0 dJ2_init_4 rfl rfl ?_
  refine x_dflt (ref := RJ2) rfl q196 dJ2_init_5 ?_
  refine xp_J2_9 dJ2_init_8 fun h3 => ?_
  exact x_vret rfl dJ2_init_11
theorem SF_J2_init (l : Launch) {d : Nat} (hdd : 3 ≤ d) (x0 : Int) (h : XH) (hok : okH h) (ho : okXs (xn h) [(2, x0)]) (fin : XR) (hf : F_J2_init x0 h = some fin) : xSpec l yJ2_init cJ2_init 1 none d 2 [(2, x0)] h fin := x_enter (lv := [(0, (2, x0))]) (by decide) rfl rfl (Nat.le_of_ble_eq_true rfl) rfl (fun Z _ => WF_J2_init hdd x0 h) hok ho fin hf
theorem cl_X1_11 {ρ : Type} {fh : ρ → XH} {QQ : XZ ρ → State → Prop} {mn : String} {cc : ByteArray} {nL : Nat} {ret : Option FieldType} {d : Nat} {Z : XZ ρ} {pc : Nat} {lv : List (Nat × AV)} {st : List AV} {h : XH} {g : Int → XH → Option ρ} {b : Int} (hdd : 4 ≤ d) (hcat : (st.map fun v => if v.1 = 1 then 2 else 1).sum ≤ 8) (hdg : decode cc pc = .ok (.invokespecial 11, 3)) (kk : ∀ r h1, XG fh QQ RX1 mn cc nL ret d Z (pc + 3) lv st h1 (g r h1)) : XG fh QQ RX1 mn cc nL ret d Z pc lv ((2, b) :: st) h (pz b (mb (F_J2_init b h) g)) :=
  x_callIv [] 0 (WF_J2_init (Z := (Z.1, Z.2.1, ((0, h), h))) (Nat.le_refl 3) b h).1 (fun hok ho fin hf => SF_J2_init (yL Z) (Nat.le_refl 3) b h hok ho fin hf) (lw_meth q188) q128 q186 q187 rfl ⟨by decide +kernel, by decide +kernel, by decide +kernel⟩ rfl (by omega) (by decide) rfl hcat hdg kk
theorem xpF_X1_12 {ρ : Type} {fh : ρ → XH} {QQ : XZ ρ → State → Prop} {cc : ByteArray} {nL : Nat} {ret : Option FieldType} {d : Nat} {Z : XZ ρ} {pc : Nat} {lv : List (Nat × AV)} {st : List AV} {h : XH} {f : XH → Option ρ} {a x : Int} (hd : decode cc pc = .ok (.putfield 12, 3)) (kk : ∀ h1, XG fh QQ RX1 "<init>" cc nL ret d Z (pc + 3) lv st h1 (f h1)) : XG fh QQ RX1 "<init>" cc nL ret d Z pc lv ((2, x) :: (2, a) :: st) h (ob h a 2 (nm (hset h a 0 x) f)) := x_putF (C := RX1) (ref := RX1) 2 0 rfl in_X1 tyX1_ok nmX1 (by decide) rfl (by decide) (Or.inl rfl) rfl rfl rfl (xfit_X1 0 (by decide)) 2 rfl q210 hd kk
theorem xpF_X1_18 {ρ : Type} {fh : ρ → XH} {QQ : XZ ρ → State → Prop} {cc : ByteArray} {nL : Nat} {ret : Option FieldType} {d : Nat} {Z : XZ ρ} {pc : Nat} {lv : List (Nat × AV)} {st : List AV} {h : XH} {f : XH → Option ρ} {a x : Int} (hd : decode cc pc = .ok (.putfield 18, 3)) (kk : ∀ h1, XG fh QQ RX1 "<init>" cc nL ret d Z (pc + 3) lv st h1 (f h1)) : XG fh QQ RX1 "<init>" cc nL ret d Z pc lv ((2, x) :: (2, a) :: st) h (ob h a 2 (nm (hset h a 1 x) f)) := x_putF (C := RX1) (ref := RX1) 2 1 rfl in_X1 tyX1_ok nmX1 (by decide) rfl (by decide) (Or.inl rfl) rfl rfl rfl (xfit_X1 1 (by decide)) 2 rfl q215 hd kk
theorem xpF_X1_21 {ρ : Type} {fh : ρ → XH} {QQ : XZ ρ → State → Prop} {cc : ByteArray} {nL : Nat} {ret : Option FieldType} {d : Nat} {Z : XZ ρ} {pc : Nat} {lv : List (Nat × AV)} {st : List AV} {h : XH} {f : XH → Option ρ} {a x : Int} (hd : decode cc pc = .ok (.putfield 21, 3)) (kk : ∀ h1, XG fh QQ RX1 "<init>" cc nL ret d Z (pc + 3) lv st h1 (f h1)) : XG fh QQ RX1 "<init>" cc nL ret d Z pc lv ((2, x) :: (2, a) :: st) h (ob h a 2 (nm (hset h a 2 x) f)) := x_putF (C := RX1) (ref := RX1) 2 2 rfl in_X1 tyX1_ok nmX1 (by decide) rfl (by decide) (Or.inl rfl) rfl rfl rfl (xfit_X1 2 (by decide)) 2 rfl q217 hd kk
theorem xpF_X1_24 {ρ : Type} {fh : ρ → XH} {QQ : XZ ρ → State → Prop} {cc : ByteArray} {nL : Nat} {ret : Option FieldType} {d : Nat} {Z : XZ ρ} {pc : Nat} {lv : List (Nat × AV)} {st : List AV} {h : XH} {f : XH → Option ρ} {a x : Int} (hd : decode cc pc = .ok (.putfield 24, 3)) (kk : ∀ h1, XG fh QQ RX1 "<init>" cc nL ret d Z (pc + 3) lv st h1 (f h1)) : XG fh QQ RX1 "<init>" cc nL ret d Z pc lv ((2, x) :: (2, a) :: st) h (ob h a 2 (nm (hset h a 3 x) f)) := x_putF (C := RX1) (ref := RX1) 2 3 rfl in_X1 tyX1_ok nmX1 (by decide) rfl (by decide) (Or.inl rfl) rfl rfl rfl (xfit_X1 3 (by decide)) 2 rfl q221 hd kk
theorem xpF_X1_28 {ρ : Type} {fh : ρ → XH} {QQ : XZ ρ → State → Prop} {cc : ByteArray} {nL : Nat} {ret : Option FieldType} {d : Nat} {Z : XZ ρ} {pc : Nat} {lv : List (Nat × AV)} {st : List AV} {h : XH} {f : XH → Option ρ} {a x : Int} (hd : decode cc pc = .ok (.putfield 28, 3)) (kk : ∀ h1, XG fh QQ RX1 "<init>" cc nL ret d Z (pc + 3) lv st h1 (f h1)) : XG fh QQ RX1 "<init>" cc nL ret d Z pc lv ((2, x) :: (2, a) :: st) h (ob h a 2 (nm (hset h a 4 x) f)) := x_putF (C := RX1) (ref := RX1) 2 4 rfl in_X1 tyX1_ok nmX1 (by decide) rfl (by decide) (Or.inl rfl) rfl rfl rfl (xfit_X1 4 (by decide)) 2 rfl q226 hd kk
theorem xpF_X1_31 {ρ : Type} {fh : ρ → XH} {QQ : XZ ρ → State → Prop} {cc : ByteArray} {nL : Nat} {ret : Option FieldType} {d : Nat} {Z : XZ ρ} {pc : Nat} {lv : List (Nat × AV)} {st : List AV} {h : XH} {f : XH → Option ρ} {a x : Int} (hd : decode cc pc = .ok (.putfield 31, 3)) (kk : ∀ h1, XG fh QQ RX1 "<init>" cc nL ret d Z (pc + 3) lv st h1 (f h1)) : XG fh QQ RX1 "<init>" cc nL ret d Z pc lv ((2, x) :: (2, a) :: st) h (ob h a 2 (nm (hset h a 5 x) f)) := x_putF (C := RX1) (ref := RX1) 2 5 rfl in_X1 tyX1_ok nmX1 (by decide) rfl (by decide) (Or.inl rfl) rfl rfl rfl (xfit_X1 5 (by decide)) 2 rfl q229 hd kk
theorem xp_X1_34 {ρ : Type} {fh : ρ → XH} {QQ : XZ ρ → State → Prop} {mn : String} {cc : ByteArray} {nL : Nat} {ret : Option FieldType} {d : Nat} {Z : XZ ρ} {pc : Nat} {lv : List (Nat × AV)} {st : List AV} {h : XH} {f : XH → Option ρ} {a x : Int} (hd : decode cc pc = .ok (.putfield 34, 3)) (kk : ∀ h1, XG fh QQ RX1 mn cc nL ret d Z (pc + 3) lv st h1 (f h1)) : XG fh QQ RX1 mn cc nL ret d Z pc lv ((0, x) :: (2, a) :: st) h (ob h a 2 (nm (hset h a 7 x) f)) := x_put (C := RX1) (ref := RX1) 2 7 rfl in_X1 tyX1_ok nmX1 (by decide) rfl (by decide) (Or.inl rfl) (by decide) (xfit_X1 7 (by decide)) 0 rfl q233 hd kk
theorem xn_X1_9 {ρ : Type} {fh : ρ → XH} {QQ : XZ ρ → State → Prop} {mn : String} {cc : ByteArray} {nL : Nat} {ret : Option FieldType} {d : Nat} {Z : XZ ρ} {pc : Nat} {lv : List (Nat × AV)} {st : List AV} {h : XH} {f : Int → XH → Option ρ} (hd : decode cc pc = .ok (.new 9, 3)) (kk : ∀ r h1, XG fh QQ RX1 mn cc nL ret d Z (pc + 3) lv ((2, r) :: st) h1 (f r h1)) : XG fh QQ RX1 mn cc nL ret d Z pc lv st h (nw h 26 3 f) := x_new (C := RJ2) 26 rfl in_J2 tyJ2_ok (by decide) rfl (by decide) xfit_J2 q184 q185 q128 hd kk
noncomputable def F_X1_init (x0 : Int) (h : XH) : Option XR := pz x0 <| nw h 26 3 fun r1 h2 => pz r1 <| mb (F_J2_init r1 h2) fun r3 h4 => ob h4 x0 2 <| nm (hset h4 x0 0 r1) fun h5 => nw h5 26 3 fun r6 h7 => pz r6 <| mb (F_J2_init r6 h7) fun r8 h9 => ob h9 x0 2 <| nm (hset h9 x0 1 r6) fun h10 => nw h10 26 3 fun r11 h12 => pz r11 <| mb (F_J2_init r11 h12) fun r13 h14 => ob h14 x0 2 <| nm (hset h14 x0 2 r11) fun h15 => na h15 0 7 fun r16 h17 => ai h17 r16 0 0 <| nm (hset h17 r16 0 8) fun h18 => ai h18 r16 0 1 <| nm (hset h18 r16 1 3) fun h19 => ai h19 r16 0 2 <| nm (hset h19 r16 2 2) fun h20 => ai h20 r16 0 3 <| nm (hset h20 r16 3 0) fun h21 => ai h21 r16 0 4 <| nm (hset h21 r16 4 10) fun h22 => ai h22 r16 0 5 <| nm (hset h22 r16 5 19) fun h23 => ai h23 r16 0 6 <| nm (hset h23 r16 6 6) fun h24 => ob h24 x0 2 <| nm (hset h24 x0 3 r16) fun h25 => na h25 0 3 fun r26 h27 => ob h27 x0 2 <| nm (hset h27 x0 4 r26) fun h28 => na h28 0 40 fun r29 h30 => ob h30 x0 2 <| nm (hset h30 x0 5 r29) fun h31 => ob h31 x0 2 <| nm (hset h31 x0 7 (-1)) fun h32 => some (0, h32)
theorem WF_X1_init {d : Nat} {Z : XZ XR} (hdd : 4 ≤ d) : ∀ x0 h, XG xfh (xQ 2) RX1 "<init>" cX1_init 1 none d Z 0 [(0, (2, x0))] [] h (F_X1_init x0 h) := by
  intro x0 h
  unfold F_X1_init
  refine x_aload_n 0 dX1_init_0 rfl rfl ?_
  refine x_objinit q183 q176 q177 (by omega) (Nat.le_of_ble_eq_true rfl) dX1_init_1 ?_
  refine x_aload_n 0 dX1_init_4 rfl rfl ?_
  refine xn_X1_9 dX1_init_5 fun r1 h2 => ?_
  refine x_dup dX1_init_8 rfl ?_
  refine cl_X1_11 (by omega) (Nat.le_of_ble_eq_true rfl) dX1_init_9 fun r3 h4 => ?_
  refine xpF_X1_12 dX1_init_12 fun h5 => ?_
  refine x_aload_n 0 dX1_init_15 rfl rfl ?_
  refine xn_X1_9 dX1_init_16 fun r6 h7 => ?_
  refine x_dup dX1_init_19 rfl ?_
  refine cl_X1_11 (by omega) (Nat.le_of_ble_eq_true rfl) dX1_init_20 fun r8 h9 => ?_
  refine xpF_X1_18 dX1_init_23 fun h10 => ?_
  refine x_aload_n 0 dX1_init_26 rfl rfl ?_
  refine xn_X1_9 dX1_init_27 fun r11 h12 => ?_
  refine x_dup dX1_init_30 rfl ?_
  refine cl_X1_11 (by omega) (Nat.le_of_ble_eq_true rfl) dX1_init_31 fun r13 h14 => ?_
  refine xpF_X1_21 dX1_init_34 fun h15 => ?_
  refine x_aload_n 0 dX1_init_37 rfl rfl ?_
  refine x_bp dX1_init_38 (by decide) (by decide) ?_
  refine x_newarr (atype := .int) 0 (by decide) rfl rfl q252 dX1_init_40 fun r16 h17 => ?_
  refine x_dup dX1_init_42 rfl ?_
  refine x_ic dX1_init_43 (by decide) (by decide) ?_
  refine x_bp dX1_init_44 (by decide) (by decide) ?_
  refine x_iast dX1_init_46 fun h18 => ?_
  refine x_dup dX1_init_47 rfl ?_
  refine x_ic dX1_init_48 (by decide) (by decide) ?_
  refine x_ic dX1_init_49 (by decide) (by decide) ?_
  refine x_iast dX1_init_50 fun h19 => ?_
  refine x_dup dX1_init_51 rfl ?_
  refine x_ic dX1_init_52 (by decide) (by decide) ?_
  refine x_ic dX1_init_53 (by decide) (by decide) ?_
  refine x_iast dX1_init_54 fun h20 => ?_
  refine x_dup dX1_init_55 rfl ?_
  refine x_ic dX1_init_56 (by decide) (by decide) ?_
  refine x_ic dX1_init_57 (by decide) (by decide) ?_
  refine x_iast dX1_init_58 fun h21 => ?_
  refine x_dup dX1_init_59 rfl ?_
  refine x_ic dX1_init_60 (by decide) (by decide) ?_
  refine x_bp dX1_init_61 (by decide) (by decide) ?_
  refine x_iast dX1_init_63 fun h22 => ?_
  refine x_dup dX1_init_64 rfl ?_
  refine x_ic dX1_init_65 (by decide) (by decide) ?_
  refine x_bp dX1_init_66 (by decide) (by decide) ?_
  refine x_iast dX1_init_68 fun h23 => ?_
  refine x_dup dX1_init_69 rfl ?_
  refine x_bp dX1_init_70 (by decide) (by decide) ?_
  refine x_bp dX1_init_72 (by decide) (by decide) ?_
  refine x_iast dX1_init_74 fun h24 => ?_
  refine xpF_X1_24 dX1_init_75 fun h25 => ?_
  refine x_aload_n 0 dX1_init_78 rfl rfl ?_
  refine x_ic dX1_init_79 (by decide) (by decide) ?_
  refine x_newarr (atype := .int) 0 (by decide) rfl rfl q252 dX1_init_80 fun r26 h27 => ?_
  refine xpF_X1_28 dX1_init_82 fun h28 => ?_
  refine x_aload_n 0 dX1_init_85 rfl rfl ?_
  refine x_bp dX1_init_86 (by decide) (by decide) ?_
  refine x_newarr (atype := .int) 0 (by decide) rfl rfl q252 dX1_init_88 fun r29 h30 => ?_
  refine xpF_X1_31 dX1_init_90 fun h31 => ?_
  refine x_aload_n 0 dX1_init_93 rfl rfl ?_
  refine x_ic dX1_init_94 (by decide) (by decide) ?_
  refine xp_X1_34 dX1_init_95 fun h32 => ?_
  exact x_vret rfl dX1_init_98
theorem SF_X1_init (l : Launch) {d : Nat} (hdd : 4 ≤ d) (x0 : Int) (h : XH) (hok : okH h) (ho : okXs (xn h) [(2, x0)]) (fin : XR) (hf : F_X1_init x0 h = some fin) : xSpec l yX1_init cX1_init 1 none d 2 [(2, x0)] h fin := x_enter (lv := [(0, (2, x0))]) (by decide) rfl rfl (Nat.le_of_ble_eq_true rfl) rfl (fun Z _ => WF_X1_init hdd x0 h) hok ho fin hf
theorem xpF_X3_7 {ρ : Type} {fh : ρ → XH} {QQ : XZ ρ → State → Prop} {cc : ByteArray} {nL : Nat} {ret : Option FieldType} {d : Nat} {Z : XZ ρ} {pc : Nat} {lv : List (Nat × AV)} {st : List AV} {h : XH} {f : XH → Option ρ} {a x : Int} (hd : decode cc pc = .ok (.putfield 7, 3)) (kk : ∀ h1, XG fh QQ RX3 "<init>" cc nL ret d Z (pc + 3) lv st h1 (f h1)) : XG fh QQ RX3 "<init>" cc nL ret d Z pc lv ((2, x) :: (2, a) :: st) h (ob h a 4 (nm (hset h a 0 x) f)) := x_putF (C := RX3) (ref := RX3) 4 0 rfl in_X3 tyX3_ok nmX3 (by decide) rfl (by decide) (Or.inl rfl) rfl rfl rfl (xfit_X3 0 (by decide)) 2 rfl q284 hd kk
noncomputable def F_X3_init (x0 : Int) (x1 : Int) (h : XH) : Option XR := pz x0 <| ob h x0 4 <| nm (hset h x0 0 x1) fun h1 => some (0, h1)
theorem WF_X3_init {d : Nat} {Z : XZ XR} (hdd : 1 ≤ d) : ∀ x0 x1 h, XG xfh (xQ 2) RX3 "<init>" cX3_init 2 none d Z 0 [(0, (2, x0)), (1, (2, x1))] [] h (F_X3_init x0 x1 h) := by
  intro x0 x1 h
  unfold F_X3_init
  refine x_aload_n 0 dX3_init_0 rfl rfl ?_
  refine x_objinit q283 q176 q177 (by omega) (Nat.le_of_ble_eq_true rfl) dX3_init_1 ?_
  refine x_aload_n 0 dX3_init_4 rfl rfl ?_
  refine x_aload_n 1 dX3_init_5 rfl rfl ?_
  refine xpF_X3_7 dX3_init_6 fun h1 => ?_
  exact x_vret rfl dX3_init_9
theorem SF_X3_init (l : Launch) {d : Nat} (hdd : 1 ≤ d) (x0 : Int) (x1 : Int) (h : XH) (hok : okH h) (ho : okXs (xn h) [(2, x0), (2, x1)]) (fin : XR) (hf : F_X3_init x0 x1 h = some fin) : xSpec l yX3_init cX3_init 2 none d 2 [(2, x0), (2, x1)] h fin := x_enter (lv := [(0, (2, x0)), (1, (2, x1))]) (by decide) rfl rfl (Nat.le_of_ble_eq_true rfl) rfl (fun Z _ => WF_X3_init hdd x0 x1 h) hok ho fin hf
theorem cl_X0_55 {ρ : Type} {fh : ρ → XH} {QQ : XZ ρ → State → Prop} {mn : String} {cc : ByteArray} {nL : Nat} {ret : Option FieldType} {d : Nat} {Z : XZ ρ} {pc : Nat} {lv : List (Nat × AV)} {st : List AV} {h : XH} {g : Int → XH → Option ρ} {b : Int} (hdd : 5 ≤ d) (hcat : (st.map fun v => if v.1 = 1 then 2 else 1).sum ≤ 8) (hdg : decode cc pc = .ok (.invokespecial 55, 3)) (kk : ∀ r h1, XG fh QQ RX0 mn cc nL ret d Z (pc + 3) lv st h1 (g r h1)) : XG fh QQ RX0 mn cc nL ret d Z pc lv ((2, b) :: st) h (pz b (mb (F_X1_init b h) g)) :=
  x_callJv [] 0 (WF_X1_init (Z := (Z.1, Z.2.1, ((0, h), h))) (Nat.le_refl 4) b h).1 (fun hok ho fin hf => SF_X1_init (yL Z) (Nat.le_refl 4) b h hok ho fin hf) (lw_meth q182) q125 q180 q181 rfl ⟨by decide +kernel, by decide +kernel, by decide +kernel⟩ rfl (by omega) (by decide) rfl hcat hdg kk
theorem cl_X0_62 {ρ : Type} {fh : ρ → XH} {QQ : XZ ρ → State → Prop} {mn : String} {cc : ByteArray} {nL : Nat} {ret : Option FieldType} {d : Nat} {Z : XZ ρ} {pc : Nat} {lv : List (Nat × AV)} {st : List AV} {h : XH} {g : Int → XH → Option ρ} {b : Int} (hdd : 2 ≤ d) (hcat : (st.map fun v => if v.1 = 1 then 2 else 1).sum ≤ 8) (hdg : decode cc pc = .ok (.invokespecial 62, 3)) (kk : ∀ r h1, XG fh QQ RX0 mn cc nL ret d Z (pc + 3) lv st h1 (g r h1)) : XG fh QQ RX0 mn cc nL ret d Z pc lv ((2, b) :: st) h (pz b (mb (F_X2_init b h) g)) :=
  x_callJv [] 0 (WF_X2_init (Z := (Z.1, Z.2.1, ((0, h), h))) (Nat.le_refl 1) b h).1 (fun hok ho fin hf => SF_X2_init (yL Z) (Nat.le_refl 1) b h hok ho fin hf) (lw_meth q258) q129 q256 q257 rfl ⟨by decide +kernel, by decide +kernel, by decide +kernel⟩ rfl (by omega) (by decide) rfl hcat hdg kk
theorem cl_X0_71 {ρ : Type} {fh : ρ → XH} {QQ : XZ ρ → State → Prop} {mn : String} {cc : ByteArray} {nL : Nat} {ret : Option FieldType} {d : Nat} {Z : XZ ρ} {pc : Nat} {lv : List (Nat × AV)} {st : List AV} {h : XH} {g : Int → XH → Option ρ} {b a0 : Int} (hdd : 2 ≤ d) (hcat : (st.map fun v => if v.1 = 1 then 2 else 1).sum ≤ 8) (hdg : decode cc pc = .ok (.invokespecial 71, 3)) (kk : ∀ r h1, XG fh QQ RX0 mn cc nL ret d Z (pc + 3) lv st h1 (g r h1)) : XG fh QQ RX0 mn cc nL ret d Z pc lv ((2, a0) :: (2, b) :: st) h (pz b (mb (F_X3_init b a0 h) g)) :=
  x_callIv [(2, a0)] 1 (WF_X3_init (Z := (Z.1, Z.2.1, ((0, h), h))) (Nat.le_refl 1) b a0 h).1 (fun hok ho fin hf => SF_X3_init (yL Z) (Nat.le_refl 1) b a0 h hok ho fin hf) (lw_meth q282) q130 q280 q281 rfl ⟨by decide +kernel, by decide +kernel, by decide +kernel⟩ rfl (by omega) (by decide) rfl hcat hdg kk
theorem xp_X0_17 {ρ : Type} {fh : ρ → XH} {QQ : XZ ρ → State → Prop} {mn : String} {cc : ByteArray} {nL : Nat} {ret : Option FieldType} {d : Nat} {Z : XZ ρ} {pc : Nat} {lv : List (Nat × AV)} {st : List AV} {h : XH} {f : XH → Option ρ} {a x : Int} (hd : decode cc pc = .ok (.putfield 17, 3)) (kk : ∀ h1, XG fh QQ RX0 mn cc nL ret d Z (pc + 3) lv st h1 (f h1)) : XG fh QQ RX0 mn cc nL ret d Z pc lv ((2, x) :: (2, a) :: st) h (ob h a 1 (nm (hset h a 0 x) f)) := x_put (C := RX0) (ref := RX0) 1 0 rfl in_X0 tyX0_ok nmX0 (by decide) rfl (by decide) (Or.inl rfl) (by decide) (xfit_X0 0 (by decide)) 2 rfl q294 hd kk
theorem xpF_X0_56 {ρ : Type} {fh : ρ → XH} {QQ : XZ ρ → State → Prop} {cc : ByteArray} {nL : Nat} {ret : Option FieldType} {d : Nat} {Z : XZ ρ} {pc : Nat} {lv : List (Nat × AV)} {st : List AV} {h : XH} {f : XH → Option ρ} {a x : Int} (hd : decode cc pc = .ok (.putfield 56, 3)) (kk : ∀ h1, XG fh QQ RX0 "<init>" cc nL ret d Z (pc + 3) lv st h1 (f h1)) : XG fh QQ RX0 "<init>" cc nL ret d Z pc lv ((2, x) :: (2, a) :: st) h (ob h a 1 (nm (hset h a 1 x) f)) := x_putF (C := RX0) (ref := RX0) 1 1 rfl in_X0 tyX0_ok nmX0 (by decide) rfl (by decide) (Or.inl rfl) rfl rfl rfl (xfit_X0 1 (by decide)) 2 rfl q295 hd kk
theorem xpF_X0_63 {ρ : Type} {fh : ρ → XH} {QQ : XZ ρ → State → Prop} {cc : ByteArray} {nL : Nat} {ret : Option FieldType} {d : Nat} {Z : XZ ρ} {pc : Nat} {lv : List (Nat × AV)} {st : List AV} {h : XH} {f : XH → Option ρ} {a x : Int} (hd : decode cc pc = .ok (.putfield 63, 3)) (kk : ∀ h1, XG fh QQ RX0 "<init>" cc nL ret d Z (pc + 3) lv st h1 (f h1)) : XG fh QQ RX0 "<init>" cc nL ret d Z pc lv ((2, x) :: (2, a) :: st) h (ob h a 1 (nm (hset h a 2 x) f)) := x_putF (C := RX0) (ref := RX0) 1 2 rfl in_X0 tyX0_ok nmX0 (by decide) rfl (by decide) (Or.inl rfl) rfl rfl rfl (xfit_X0 2 (by decide)) 2 rfl q296 hd kk
theorem xpF_X0_74 {ρ : Type} {fh : ρ → XH} {QQ : XZ ρ → State → Prop} {cc : ByteArray} {nL : Nat} {ret : Option FieldType} {d : Nat} {Z : XZ ρ} {pc : Nat} {lv : List (Nat × AV)} {st : List AV} {h : XH} {f : XH → Option ρ} {a x : Int} (hd : decode cc pc = .ok (.putfield 74, 3)) (kk : ∀ h1, XG fh QQ RX0 "<init>" cc nL ret d Z (pc + 3) lv st h1 (f h1)) : XG fh QQ RX0 "<init>" cc nL ret d Z pc lv ((2, x) :: (2, a) :: st) h (ob h a 1 (nm (hset h a 3 x) f)) := x_putF (C := RX0) (ref := RX0) 1 3 rfl in_X0 tyX0_ok nmX0 (by decide) rfl (by decide) (Or.inl rfl) rfl rfl rfl (xfit_X0 3 (by decide)) 2 rfl q297 hd kk
theorem xpF_X0_78 {ρ : Type} {fh : ρ → XH} {QQ : XZ ρ → State → Prop} {cc : ByteArray} {nL : Nat} {ret : Option FieldType} {d : Nat} {Z : XZ ρ} {pc : Nat} {lv : List (Nat × AV)} {st : List AV} {h : XH} {f : XH → Option ρ} {a x : Int} (hd : decode cc pc = .ok (.putfield 78, 3)) (kk : ∀ h1, XG fh QQ RX0 "<init>" cc nL ret d Z (pc + 3) lv st h1 (f h1)) : XG fh QQ RX0 "<init>" cc nL ret d Z pc lv ((2, x) :: (2, a) :: st) h (ob h a 1 (nm (hset h a 4 x) f)) := x_putF (C := RX0) (ref := RX0) 1 4 rfl in_X0 tyX0_ok nmX0 (by decide) rfl (by decide) (Or.inl rfl) rfl rfl rfl (xfit_X0 4 (by decide)) 2 rfl q298 hd kk
theorem xp_X0_82 {ρ : Type} {fh : ρ → XH} {QQ : XZ ρ → State → Prop} {mn : String} {cc : ByteArray} {nL : Nat} {ret : Option FieldType} {d : Nat} {Z : XZ ρ} {pc : Nat} {lv : List (Nat × AV)} {st : List AV} {h : XH} {f : XH → Option ρ} {a x : Int} (hd : decode cc pc = .ok (.putfield 82, 3)) (kk : ∀ h1, XG fh QQ RX0 mn cc nL ret d Z (pc + 3) lv st h1 (f h1)) : XG fh QQ RX0 mn cc nL ret d Z pc lv ((0, x) :: (2, a) :: st) h (ob h a 1 (nm (hset h a 6 x) f)) := x_put (C := RX0) (ref := RX0) 1 6 rfl in_X0 tyX0_ok nmX0 (by decide) rfl (by decide) (Or.inl rfl) (by decide) (xfit_X0 6 (by decide)) 0 rfl q300 hd kk
theorem xpF_X0_86 {ρ : Type} {fh : ρ → XH} {QQ : XZ ρ → State → Prop} {cc : ByteArray} {nL : Nat} {ret : Option FieldType} {d : Nat} {Z : XZ ρ} {pc : Nat} {lv : List (Nat × AV)} {st : List AV} {h : XH} {f : XH → Option ρ} {a x : Int} (hd : decode cc pc = .ok (.putfield 86, 3)) (kk : ∀ h1, XG fh QQ RX0 "<init>" cc nL ret d Z (pc + 3) lv st h1 (f h1)) : XG fh QQ RX0 "<init>" cc nL ret d Z pc lv ((2, x) :: (2, a) :: st) h (ob h a 1 (nm (hset h a 10 x) f)) := x_putF (C := RX0) (ref := RX0) 1 10 rfl in_X0 tyX0_ok nmX0 (by decide) rfl (by decide) (Or.inl rfl) rfl rfl rfl (xfit_X0 10 (by decide)) 2 rfl q305 hd kk
theorem xpF_X0_89 {ρ : Type} {fh : ρ → XH} {QQ : XZ ρ → State → Prop} {cc : ByteArray} {nL : Nat} {ret : Option FieldType} {d : Nat} {Z : XZ ρ} {pc : Nat} {lv : List (Nat × AV)} {st : List AV} {h : XH} {f : XH → Option ρ} {a x : Int} (hd : decode cc pc = .ok (.putfield 89, 3)) (kk : ∀ h1, XG fh QQ RX0 "<init>" cc nL ret d Z (pc + 3) lv st h1 (f h1)) : XG fh QQ RX0 "<init>" cc nL ret d Z pc lv ((2, x) :: (2, a) :: st) h (ob h a 1 (nm (hset h a 11 x) f)) := x_putF (C := RX0) (ref := RX0) 1 11 rfl in_X0 tyX0_ok nmX0 (by decide) rfl (by decide) (Or.inl rfl) rfl rfl rfl (xfit_X0 11 (by decide)) 2 rfl q307 hd kk
theorem xn_X0_22 {ρ : Type} {fh : ρ → XH} {QQ : XZ ρ → State → Prop} {mn : String} {cc : ByteArray} {nL : Nat} {ret : Option FieldType} {d : Nat} {Z : XZ ρ} {pc : Nat} {lv : List (Nat × AV)} {st : List AV} {h : XH} {f : Int → XH → Option ρ} (hd : decode cc pc = .ok (.new 22, 3)) (kk : ∀ r h1, XG fh QQ RX0 mn cc nL ret d Z (pc + 3) lv ((2, r) :: st) h1 (f r h1)) : XG fh QQ RX0 mn cc nL ret d Z pc lv st h (nw h 2 8 f) := x_new (C := RX1) 2 rfl in_X1 tyX1_ok (by decide) rfl (by decide) xfit_X1 q178 q179 q125 hd kk
theorem xn_X0_60 {ρ : Type} {fh : ρ → XH} {QQ : XZ ρ → State → Prop} {mn : String} {cc : ByteArray} {nL : Nat} {ret : Option FieldType} {d : Nat} {Z : XZ ρ} {pc : Nat} {lv : List (Nat × AV)} {st : List AV} {h : XH} {f : Int → XH → Option ρ} (hd : decode cc pc = .ok (.new 60, 3)) (kk : ∀ r h1, XG fh QQ RX0 mn cc nL ret d Z (pc + 3) lv ((2, r) :: st) h1 (f r h1)) : XG fh QQ RX0 mn cc nL ret d Z pc lv st h (nw h 3 2 f) := x_new (C := RX2) 3 rfl in_X2 tyX2_ok (by decide) rfl (by decide) xfit_X2 q254 q255 q129 hd kk
theorem xn_X0_67 {ρ : Type} {fh : ρ → XH} {QQ : XZ ρ → State → Prop} {mn : String} {cc : ByteArray} {nL : Nat} {ret : Option FieldType} {d : Nat} {Z : XZ ρ} {pc : Nat} {lv : List (Nat × AV)} {st : List AV} {h : XH} {f : Int → XH → Option ρ} (hd : decode cc pc = .ok (.new 67, 3)) (kk : ∀ r h1, XG fh QQ RX0 mn cc nL ret d Z (pc + 3) lv ((2, r) :: st) h1 (f r h1)) : XG fh QQ RX0 mn cc nL ret d Z pc lv st h (nw h 4 1 f) := x_new (C := RX3) 4 rfl in_X3 tyX3_ok (by decide) rfl (by decide) xfit_X3 q276 q277 q130 hd kk
noncomputable def F_X0_init (x0 : Int) (h : XH) : Option XR := pz x0 <| nw h 2 8 fun r1 h2 => pz r1 <| mb (F_X1_init r1 h2) fun r3 h4 => ob h4 x0 1 <| nm (hset h4 x0 0 r1) fun h5 => na h5 5 2 fun r6 h7 => ob h7 x0 1 <| nm (hset h7 x0 1 r6) fun h8 => nw h8 3 2 fun r9 h10 => pz r9 <| mb (F_X2_init r9 h10) fun r11 h12 => ob h12 x0 1 <| nm (hset h12 x0 2 r9) fun h13 => nw h13 4 1 fun r14 h15 => na h15 4 0 fun r16 h17 => pz r14 <| mb (F_X3_init r14 r16 h17) fun r18 h19 => ob h19 x0 1 <| nm (hset h19 x0 3 r14) fun h20 => na h20 0 7 fun r21 h22 => ob h22 x0 1 <| nm (hset h22 x0 4 r21) fun h23 => ob h23 x0 1 <| nm (hset h23 x0 6 (-1)) fun h24 => na h24 0 148176 fun r25 h26 => ob h26 x0 1 <| nm (hset h26 x0 10 r25) fun h27 => na h27 2 400 fun r28 h29 => ob h29 x0 1 <| nm (hset h29 x0 11 r28) fun h30 => some (0, h30)
theorem WF_X0_init {d : Nat} {Z : XZ XR} (hdd : 5 ≤ d) : ∀ x0 h, XG xfh (xQ 2) RX0 "<init>" cX0_init 1 none d Z 0 [(0, (2, x0))] [] h (F_X0_init x0 h) := by
  intro x0 h
  unfold F_X0_init
  refine x_aload_n 0 dX0_init_0 rfl rfl ?_
  refine x_objinit q175 q176 q177 (by omega) (Nat.le_of_ble_eq_true rfl) dX0_init_1 ?_
  refine x_aload_n 0 dX0_init_4 rfl rfl ?_
  refine xn_X0_22 dX0_init_5 fun r1 h2 => ?_
  refine x_dup dX0_init_8 rfl ?_
  refine cl_X0_55 (by omega) (Nat.le_of_ble_eq_true rfl) dX0_init_9 fun r3 h4 => ?_
  refine xp_X0_17 dX0_init_12 fun h5 => ?_
  refine x_aload_n 0 dX0_init_15 rfl rfl ?_
  refine x_ic dX0_init_16 (by decide) (by decide) ?_
  refine x_newq 5 (by decide) (by decide) rfl q178 q253 dX0_init_17 fun r6 h7 => ?_
  refine xpF_X0_56 dX0_init_20 fun h8 => ?_
  refine x_aload_n 0 dX0_init_23 rfl rfl ?_
  refine xn_X0_60 dX0_init_24 fun r9 h10 => ?_
  refine x_dup dX0_init_27 rfl ?_
  refine cl_X0_62 (by omega) (Nat.le_of_ble_eq_true rfl) dX0_init_28 fun r11 h12 => ?_
  refine xpF_X0_63 dX0_init_31 fun h13 => ?_
  refine x_aload_n 0 dX0_init_34 rfl rfl ?_
  refine xn_X0_67 dX0_init_35 fun r14 h15 => ?_
  refine x_dup dX0_init_38 rfl ?_
  refine x_ic dX0_init_39 (by decide) (by decide) ?_
  refine x_newq 4 (by decide) (by decide) rfl q278 q279 dX0_init_40 fun r16 h17 => ?_
  refine cl_X0_71 (by omega) (Nat.le_of_ble_eq_true rfl) dX0_init_43 fun r18 h19 => ?_
  refine xpF_X0_74 dX0_init_46 fun h20 => ?_
  refine x_aload_n 0 dX0_init_49 rfl rfl ?_
  refine x_bp dX0_init_50 (by decide) (by decide) ?_
  refine x_newarr (atype := .int) 0 (by decide) rfl rfl q252 dX0_init_52 fun r21 h22 => ?_
  refine xpF_X0_78 dX0_init_54 fun h23 => ?_
  refine x_aload_n 0 dX0_init_57 rfl rfl ?_
  refine x_ic dX0_init_58 (by decide) (by decide) ?_
  refine xp_X0_82 dX0_init_59 fun h24 => ?_
  refine x_aload_n 0 dX0_init_62 rfl rfl ?_
  refine x_ldc (n := 148176) q288 dX0_init_63 (by decide +kernel) ⟨by decide, by decide⟩ ?_
  refine x_newarr (atype := .int) 0 (by decide) rfl rfl q252 dX0_init_65 fun r25 h26 => ?_
  refine xpF_X0_86 dX0_init_67 fun h27 => ?_
  refine x_aload_n 0 dX0_init_70 rfl rfl ?_
  refine x_sp dX0_init_71 (by decide) (by decide) ?_
  refine x_newarr (atype := .byte) 2 (by decide) rfl rfl q337 dX0_init_74 fun r28 h29 => ?_
  refine xpF_X0_89 dX0_init_76 fun h30 => ?_
  exact x_vret rfl dX0_init_79
theorem SF_X0_init (l : Launch) {d : Nat} (hdd : 5 ≤ d) (x0 : Int) (h : XH) (hok : okH h) (ho : okXs (xn h) [(2, x0)]) (fin : XR) (hf : F_X0_init x0 h = some fin) : xSpec l yX0_init cX0_init 1 none d 2 [(2, x0)] h fin := x_enter (lv := [(0, (2, x0))]) (by decide) rfl rfl (Nat.le_of_ble_eq_true rfl) rfl (fun Z _ => WF_X0_init hdd x0 h) hok ho fin hf
theorem xg_X0_78 {ρ : Type} {fh : ρ → XH} {QQ : XZ ρ → State → Prop} {mn : String} {cc : ByteArray} {nL : Nat} {ret : Option FieldType} {d : Nat} {Z : XZ ρ} {pc : Nat} {lv : List (Nat × AV)} {st : List AV} {h : XH} {res : Option ρ} {a : Int} (hd : decode cc pc = .ok (.getfield 78, 3)) (kk : XG fh QQ RX0 mn cc nL ret d Z (pc + 3) lv ((2, xv h a 4) :: st) h res) : XG fh QQ RX0 mn cc nL ret d Z pc lv ((2, a) :: st) h (ob h a 1 res) := x_get (C := RX0) (ref := RX0) 1 4 rfl in_X0 (by decide) rfl (by decide) (Or.inl rfl) q298 hd kk
theorem xp_X0_99 {ρ : Type} {fh : ρ → XH} {QQ : XZ ρ → State → Prop} {mn : String} {cc : ByteArray} {nL : Nat} {ret : Option FieldType} {d : Nat} {Z : XZ ρ} {pc : Nat} {lv : List (Nat × AV)} {st : List AV} {h : XH} {f : XH → Option ρ} {a x : Int} (hd : decode cc pc = .ok (.putfield 99, 3)) (kk : ∀ h1, XG fh QQ RX0 mn cc nL ret d Z (pc + 3) lv st h1 (f h1)) : XG fh QQ RX0 mn cc nL ret d Z pc lv ((0, x) :: (2, a) :: st) h (ob h a 1 (nm (hset h a 5 x) f)) := x_put (C := RX0) (ref := RX0) 1 5 rfl in_X0 tyX0_ok nmX0 (by decide) rfl (by decide) (Or.inl rfl) (by decide) (xfit_X0 5 (by decide)) 0 rfl q299 hd kk
noncomputable def F_X0_tell (x0 : Int) (x1 : Int) (h : XH) : Option XR := nm (α := Int) (if (0 : Int) < x1 then (0 : Int) else x1) fun v1 => ob h x0 1 <| nm (hset h x0 5 v1) fun h2 => if 0 ≤ x1 then (some (x1, h2)) else (ob h2 x0 1 <| ai h2 (xv h2 x0 4) 0 (w32 (-x1)) <| ai h2 (xv h2 x0 4) 0 (w32 (-x1)) <| nm (hset h2 (xv h2 x0 4) (w32 (-x1)) (w32 ((xv h2 (xv h2 x0 4) (w32 (-x1))) + 1))) fun h3 => some (x1, h3))
theorem WF_X0_tell {d : Nat} {Z : XZ XR} (hdd : 1 ≤ d) : ∀ x0 x1 h, XG xfh (xQ 0) RX0 "tell" cX0_tell 2 (some .int) d Z 0 [(0, (2, x0)), (1, (0, x1))] [] h (F_X0_tell x0 x1 h) := by
  intro x0 x1 h
  unfold F_X0_tell
  refine x_aload_n 0 dX0_tell_0 rfl rfl ?_
  refine x_iload_n 1 dX0_tell_1 rfl rfl ?_
  refine x_ic dX0_tell_2 (by decide) (by decide) ?_
  refine x_mmin q363 q364 q132 q365 (by omega) (Nat.le_of_ble_eq_true rfl) dX0_tell_3 ?_
  refine x_nmT fun v1 => ?_
  refine xp_X0_99 dX0_tell_6 fun h2 => ?_
  refine x_iload_n 1 dX0_tell_9 rfl rfl ?_
  refine x_if_ge 24 dX0_tell_10 (by decide) (fun _ => ?_) (fun _ => ?_)
  · refine x_iload_n 1 dX0_tell_24 rfl rfl ?_
    exact x_iret rfl dX0_tell_25
  · refine x_aload_n 0 dX0_tell_13 rfl rfl ?_
    refine xg_X0_78 dX0_tell_14 ?_
    refine x_iload_n 1 dX0_tell_17 rfl rfl ?_
    refine x_ineg dX0_tell_18 ?_
    refine x_dup2 dX0_tell_19 rfl rfl ?_
    refine x_iald dX0_tell_20 ?_
    refine x_ic dX0_tell_21 (by decide) (by decide) ?_
    refine x_iadd dX0_tell_22 ?_
    refine x_iast dX0_tell_23 fun h3 => ?_
    refine x_iload_n 1 dX0_tell_24 rfl rfl ?_
    exact x_iret rfl dX0_tell_25
theorem SF_X0_tell (l : Launch) {d : Nat} (hdd : 1 ≤ d) (x0 : Int) (x1 : Int) (h : XH) (hok : okH h) (ho : okXs (xn h) [(2, x0), (0, x1)]) (fin : XR) (hf : F_X0_tell x0 x1 h = some fin) : xSpec l yX0_tell cX0_tell 2 (some .int) d 0 [(2, x0), (0, x1)] h fin := x_enter (lv := [(0, (2, x0)), (1, (0, x1))]) (by decide) rfl rfl (Nat.le_of_ble_eq_true rfl) rfl (fun Z _ => WF_X0_tell hdd x0 x1 h) hok ho fin hf
theorem xp_X0_102 {ρ : Type} {fh : ρ → XH} {QQ : XZ ρ → State → Prop} {mn : String} {cc : ByteArray} {nL : Nat} {ret : Option FieldType} {d : Nat} {Z : XZ ρ} {pc : Nat} {lv : List (Nat × AV)} {st : List AV} {h : XH} {f : XH → Option ρ} {a x : Int} (hd : decode cc pc = .ok (.putfield 102, 3)) (kk : ∀ h1, XG fh QQ RX0 mn cc nL ret d Z (pc + 3) lv st h1 (f h1)) : XG fh QQ RX0 mn cc nL ret d Z pc lv ((2, x) :: (2, a) :: st) h (ob h a 1 (nm (hset h a 9 x) f)) := x_put (C := RX0) (ref := RX0) 1 9 rfl in_X0 tyX0_ok nmX0 (by decide) rfl (by decide) (Or.inl rfl) (by decide) (xfit_X0 9 (by decide)) 2 rfl q303 hd kk
noncomputable def F_X0_was (x0 : Int) (x1 : Int) (h : XH) : Option XR := ob h x0 1 <| nm (hset h x0 9 0) fun h1 => ob h1 x0 1 <| nm (hset h1 x0 5 0) fun h2 => some (x1, h2)
theorem WF_X0_was {d : Nat} {Z : XZ XR} (hdd : 1 ≤ d) : ∀ x0 x1 h, XG xfh (xQ 0) RX0 "was" cX0_was 2 (some .int) d Z 0 [(0, (2, x0)), (1, (0, x1))] [] h (F_X0_was x0 x1 h) := by
  intro x0 x1 h
  unfold F_X0_was
  refine x_aload_n 0 dX0_was_0 rfl rfl ?_
  refine x_null dX0_was_1 ?_
  refine xp_X0_102 dX0_was_2 fun h1 => ?_
  refine x_aload_n 0 dX0_was_5 rfl rfl ?_
  refine x_ic dX0_was_6 (by decide) (by decide) ?_
  refine xp_X0_99 dX0_was_7 fun h2 => ?_
  refine x_iload_n 1 dX0_was_10 rfl rfl ?_
  exact x_iret rfl dX0_was_11
theorem SF_X0_was (l : Launch) {d : Nat} (hdd : 1 ≤ d) (x0 : Int) (x1 : Int) (h : XH) (hok : okH h) (ho : okXs (xn h) [(2, x0), (0, x1)]) (fin : XR) (hf : F_X0_was x0 x1 h = some fin) : xSpec l yX0_was cX0_was 2 (some .int) d 0 [(2, x0), (0, x1)] h fin := x_enter (lv := [(0, (2, x0)), (1, (0, x1))]) (by decide) rfl rfl (Nat.le_of_ble_eq_true rfl) rfl (fun Z _ => WF_X0_was hdd x0 x1 h) hok ho fin hf
noncomputable def F_X0_questionOf (x0 : Int) (x1 : Int) (h : XH) : Option XR := ob h x0 1 <| mb (F_X0_many x0 h) fun r1 h2 => mb (F_X0_in x1 0 (w32 (r1 - 1)) h2) fun r3 h4 => if r3 = 0 then (some (0, h4)) else (ob h4 x0 1 <| ob h4 (xv h4 x0 0) 2 <| ob h4 (xv h4 (xv h4 x0 0) 0) 26 <| mb (F_J2_get (xv h4 (xv h4 x0 0) 0) x1 h4) fun r5 h6 => ob h6 r5 5 <| some (r5, h6))
theorem WF_X0_questionOf {d : Nat} {Z : XZ XR} (hdd : 4 ≤ d) : ∀ x0 x1 h, XG xfh (xQ 3) RX0 "questionOf" cX0_questionOf 2 (some (.object "ExamSlips$Question")) d Z 0 [(0, (2, x0)), (1, (0, x1))] [] h (F_X0_questionOf x0 x1 h) := by
  intro x0 x1 h
  unfold F_X0_questionOf
  refine x_iload_n 1 dX0_questionOf_0 rfl rfl ?_
  refine x_i2l dX0_questionOf_1 ?_
  refine x_l0 dX0_questionOf_2 ?_
  refine x_aload_n 0 dX0_questionOf_3 rfl rfl ?_
  refine cl_X0_13 (by omega) (Nat.le_of_ble_eq_true rfl) dX0_questionOf_4 fun r1 h2 => ?_
  refine x_ic dX0_questionOf_7 (by decide) (by decide) ?_
  refine x_isub dX0_questionOf_8 ?_
  refine x_i2l dX0_questionOf_9 ?_
  refine cl_X0_109 (by omega) (Nat.le_of_ble_eq_true rfl) dX0_questionOf_10 fun r3 h4 => ?_
  refine x_if_eq 33 dX0_questionOf_13 (by decide) (fun _ => ?_) (fun _ => ?_)
  · refine x_null dX0_questionOf_33 ?_
    exact x_aret rfl (Or.inl ⟨_, rfl⟩) dX0_questionOf_34
  · refine x_aload_n 0 dX0_questionOf_16 rfl rfl ?_
    refine xg_X0_17 dX0_questionOf_17 ?_
    refine xg_X0_21 dX0_questionOf_20 ?_
    refine x_iload_n 1 dX0_questionOf_23 rfl rfl ?_
    refine cl_X0_27 (by omega) (Nat.le_of_ble_eq_true rfl) dX0_questionOf_24 fun r5 h6 => ?_
    refine x_cast (C := RX5) 5 rfl (by decide) q374 dX0_questionOf_27 ?_
    refine x_goto 34 dX0_questionOf_30 (by decide) ?_
    exact x_aret rfl (Or.inl ⟨_, rfl⟩) dX0_questionOf_34
theorem SF_X0_questionOf (l : Launch) {d : Nat} (hdd : 4 ≤ d) (x0 : Int) (x1 : Int) (h : XH) (hok : okH h) (ho : okXs (xn h) [(2, x0), (0, x1)]) (fin : XR) (hf : F_X0_questionOf x0 x1 h = some fin) : xSpec l yX0_questionOf cX0_questionOf 2 (some (.object "ExamSlips$Question")) d 3 [(2, x0), (0, x1)] h fin := x_enter (lv := [(0, (2, x0)), (1, (0, x1))]) (by decide) rfl rfl (Nat.le_of_ble_eq_true rfl) rfl (fun Z _ => WF_X0_questionOf hdd x0 x1 h) hok ho fin hf
noncomputable def F_X0_isPaper (x0 : Int) (x1 : Int) (h : XH) : Option XR := ob h x0 1 <| ob h (xv h x0 0) 2 <| ob h (xv h (xv h x0 0) 1) 26 <| mb (F_J2_size (xv h (xv h x0 0) 1) h) fun r1 h2 => mb (F_X0_in x1 0 (w32 (r1 - 1)) h2) fun r3 h4 => cb r3 (some (r3, h4))
theorem WF_X0_isPaper {d : Nat} {Z : XZ XR} (hdd : 2 ≤ d) : ∀ x0 x1 h, XG xfh (xQ 0) RX0 "isPaper" cX0_isPaper 2 (some .boolean) d Z 0 [(0, (2, x0)), (1, (0, x1))] [] h (F_X0_isPaper x0 x1 h) := by
  intro x0 x1 h
  unfold F_X0_isPaper
  refine x_iload_n 1 dX0_isPaper_0 rfl rfl ?_
  refine x_i2l dX0_isPaper_1 ?_
  refine x_l0 dX0_isPaper_2 ?_
  refine x_aload_n 0 dX0_isPaper_3 rfl rfl ?_
  refine xg_X0_17 dX0_isPaper_4 ?_
  refine xg_X0_113 dX0_isPaper_7 ?_
  refine cl_X0_106 (by omega) (Nat.le_of_ble_eq_true rfl) dX0_isPaper_10 fun r1 h2 => ?_
  refine x_ic dX0_isPaper_13 (by decide) (by decide) ?_
  refine x_isub dX0_isPaper_14 ?_
  refine x_i2l dX0_isPaper_15 ?_
  refine cl_X0_109 (by omega) (Nat.le_of_ble_eq_true rfl) dX0_isPaper_16 fun r3 h4 => ?_
  exact x_zret rfl dX0_isPaper_19
theorem SF_X0_isPaper (l : Launch) {d : Nat} (hdd : 2 ≤ d) (x0 : Int) (x1 : Int) (h : XH) (hok : okH h) (ho : okXs (xn h) [(2, x0), (0, x1)]) (fin : XR) (hf : F_X0_isPaper x0 x1 h = some fin) : xSpec l yX0_isPaper cX0_isPaper 2 (some .boolean) d 0 [(2, x0), (0, x1)] h fin := x_enter (lv := [(0, (2, x0)), (1, (0, x1))]) (by decide) rfl rfl (Nat.le_of_ble_eq_true rfl) rfl (fun Z _ => WF_X0_isPaper hdd x0 x1 h) hok ho fin hf
noncomputable def F_X20_at (x0 : Int) (x1 : Int) (x2 : Int) (x3 : Int) (x4 : Int) (h : XH) : Option XR := some (w32 ((w32 ((w32 ((w32 ((w32 ((w32 (x1 * 21)) + x2)) * 21)) + x3)) * 16)) + x4), h)
theorem WF_X20_at {d : Nat} {Z : XZ XR} (hdd : 1 ≤ d) : ∀ x0 x1 x2 x3 x4 h, XG xfh (xQ 0) RX20 "at" cX20_at 5 (some .int) d Z 0 [(0, (2, x0)), (1, (0, x1)), (2, (0, x2)), (3, (0, x3)), (4, (0, x4))] [] h (F_X20_at x0 x1 x2 x3 x4 h) := by
  intro x0 x1 x2 x3 x4 h
  unfold F_X20_at
  refine x_iload_n 1 dX20_at_0 rfl rfl ?_
  refine x_bp dX20_at_1 (by decide) (by decide) ?_
  refine x_imul dX20_at_3 ?_
  refine x_iload_n 2 dX20_at_4 rfl rfl ?_
  refine x_iadd dX20_at_5 ?_
  refine x_bp dX20_at_6 (by decide) (by decide) ?_
  refine x_imul dX20_at_8 ?_
  refine x_iload_n 3 dX20_at_9 rfl rfl ?_
  refine x_iadd dX20_at_10 ?_
  refine x_bp dX20_at_11 (by decide) (by decide) ?_
  refine x_imul dX20_at_13 ?_
  refine x_iload 4 dX20_at_14 rfl ?_
  refine x_iadd dX20_at_16 ?_
  exact x_iret rfl dX20_at_17
theorem SF_X20_at (l : Launch) {d : Nat} (hdd : 1 ≤ d) (x0 : Int) (x1 : Int) (x2 : Int) (x3 : Int) (x4 : Int) (h : XH) (hok : okH h) (ho : okXs (xn h) [(2, x0), (0, x1), (0, x2), (0, x3), (0, x4)]) (fin : XR) (hf : F_X20_at x0 x1 x2 x3 x4 h = some fin) : xSpec l yX20_at cX20_at 5 (some .int) d 0 [(2, x0), (0, x1), (0, x2), (0, x3), (0, x4)] h fin := x_enter (lv := [(0, (2, x0)), (1, (0, x1)), (2, (0, x2)), (3, (0, x3)), (4, (0, x4))]) (by decide) rfl rfl (Nat.le_of_ble_eq_true rfl) rfl (fun Z _ => WF_X20_at hdd x0 x1 x2 x3 x4 h) hok ho fin hf
theorem xg_X20_113 {ρ : Type} {fh : ρ → XH} {QQ : XZ ρ → State → Prop} {mn : String} {cc : ByteArray} {nL : Nat} {ret : Option FieldType} {d : Nat} {Z : XZ ρ} {pc : Nat} {lv : List (Nat × AV)} {st : List AV} {h : XH} {res : Option ρ} {a : Int} (hd : decode cc pc = .ok (.getfield 113, 3)) (kk : XG fh QQ RX20 mn cc nL ret d Z (pc + 3) lv ((0, xv h a 1) :: st) h res) : XG fh QQ RX20 mn cc nL ret d Z pc lv ((2, a) :: st) h (ob h a 5 res) := x_getN (C := RX5) (ref := RX5) 5 1 rfl in_X5 (by decide) rfl (by decide) (Or.inl rfl) q386 hd kk
theorem xg_X20_48 {ρ : Type} {fh : ρ → XH} {QQ : XZ ρ → State → Prop} {mn : String} {cc : ByteArray} {nL : Nat} {ret : Option FieldType} {d : Nat} {Z : XZ ρ} {pc : Nat} {lv : List (Nat × AV)} {st : List AV} {h : XH} {res : Option ρ} {a : Int} (hd : decode cc pc = .ok (.getfield 48, 3)) (kk : XG fh QQ RX20 mn cc nL ret d Z (pc + 3) lv ((2, xv h a 0) :: st) h res) : XG fh QQ RX20 mn cc nL ret d Z pc lv ((2, a) :: st) h (ob h a 18 res) := x_get (C := RX20) (ref := RX20) 18 0 rfl in_X20 (by decide) rfl (by decide) (Or.inl rfl) q1202 hd kk
noncomputable def F_X20_after (x0 : Int) (x1 : Int) (x2 : Int) (x3 : Int) (h : XH) : Option XR := if x2 ≤ 0 then (some (x3, h)) else (ob h x0 18 <| ai h (xv h x0 0) 7 x1 <| ob h (xv h (xv h x0 0) x1) 5 <| if xv h (xv h (xv h x0 0) x1) 1 ≤ 0 then (some (x3, h)) else (ob h x0 18 <| ai h (xv h x0 0) 7 x1 <| ob h (xv h (xv h x0 0) x1) 5 <| some (ior x3 (ishl 1 (w32 ((xv h (xv h (xv h x0 0) x1) 1) - 1))), h)))
theorem WF_X20_after {d : Nat} {Z : XZ XR} (hdd : 1 ≤ d) : ∀ x0 x1 x2 x3 h, XG xfh (xQ 0) RX20 "after" cX20_after 4 (some .int) d Z 0 [(0, (2, x0)), (1, (0, x1)), (2, (0, x2)), (3, (0, x3))] [] h (F_X20_after x0 x1 x2 x3 h) := by
  intro x0 x1 x2 x3 h
  unfold F_X20_after
  refine x_iload_n 2 dX20_after_0 rfl rfl ?_
  refine x_if_le 34 dX20_after_1 (by decide) (fun _ => ?_) (fun _ => ?_)
  · refine x_iload_n 3 dX20_after_34 rfl rfl ?_
    exact x_iret rfl dX20_after_35
  · refine x_aload_n 0 dX20_after_4 rfl rfl ?_
    refine xg_X20_48 dX20_after_5 ?_
    refine x_iload_n 1 dX20_after_8 rfl rfl ?_
    refine x_aald 7 _ (by decide) (by decide) rfl dX20_after_9 ?_
    refine xg_X20_113 dX20_after_10 ?_
    refine x_if_le 34 dX20_after_13 (by decide) (fun _ => ?_) (fun _ => ?_)
    · refine x_iload_n 3 dX20_after_34 rfl rfl ?_
      exact x_iret rfl dX20_after_35
    · refine x_iload_n 3 dX20_after_16 rfl rfl ?_
      refine x_ic dX20_after_17 (by decide) (by decide) ?_
      refine x_aload_n 0 dX20_after_18 rfl rfl ?_
      refine xg_X20_48 dX20_after_19 ?_
      refine x_iload_n 1 dX20_after_22 rfl rfl ?_
      refine x_aald 7 _ (by decide) (by decide) rfl dX20_after_23 ?_
      refine xg_X20_113 dX20_after_24 ?_
      refine x_ic dX20_after_27 (by decide) (by decide) ?_
      refine x_isub dX20_after_28 ?_
      refine x_ishl dX20_after_29 ?_
      refine x_ior dX20_after_30 ?_
      refine x_goto 35 dX20_after_31 (by decide) ?_
      exact x_iret rfl dX20_after_35
theorem SF_X20_after (l : Launch) {d : Nat} (hdd : 1 ≤ d) (x0 : Int) (x1 : Int) (x2 : Int) (x3 : Int) (h : XH) (hok : okH h) (ho : okXs (xn h) [(2, x0), (0, x1), (0, x2), (0, x3)]) (fin : XR) (hf : F_X20_after x0 x1 x2 x3 h = some fin) : xSpec l yX20_after cX20_after 4 (some .int) d 0 [(2, x0), (0, x1), (0, x2), (0, x3)] h fin := x_enter (lv := [(0, (2, x0)), (1, (0, x1)), (2, (0, x2)), (3, (0, x3))]) (by decide) rfl rfl (Nat.le_of_ble_eq_true rfl) rfl (fun Z _ => WF_X20_after hdd x0 x1 x2 x3 h) hok ho fin hf
theorem cl_X5_32 {ρ : Type} {fh : ρ → XH} {QQ : XZ ρ → State → Prop} {mn : String} {cc : ByteArray} {nL : Nat} {ret : Option FieldType} {d : Nat} {Z : XZ ρ} {pc : Nat} {lv : List (Nat × AV)} {st : List AV} {h : XH} {g : Int → XH → Option ρ} {b : Int} (hdd : 2 ≤ d) (hcat : (st.map fun v => if v.1 = 1 then 2 else 1).sum ≤ 8) (hdg : decode cc pc = .ok (.invokevirtual 32, 3)) (kk : ∀ r h1, XG fh QQ RX5 mn cc nL ret d Z (pc + 3) lv ((2, r) :: st) h1 (g r h1)) : XG fh QQ RX5 mn cc nL ret d Z pc lv ((2, b) :: st) h (ob h b 3 (mb (F_X2_clear b h) g)) :=
  x_callVr [] 0 (WF_X2_clear (Z := (Z.1, Z.2.1, ((0, h), h))) (Nat.le_refl 1) b h).1 (fun hok ho fin hf => SF_X2_clear (yL Z) (Nat.le_refl 1) b h hok ho fin hf) RX2 3 rfl (by decide) (lw_V q917 q918 q919 q129 q920) ⟨rfl, by decide +kernel, by decide +kernel, by decide +kernel⟩ rfl (by omega) (by decide) rfl hcat hdg kk
theorem xg_X5_13 {ρ : Type} {fh : ρ → XH} {QQ : XZ ρ → State → Prop} {mn : String} {cc : ByteArray} {nL : Nat} {ret : Option FieldType} {d : Nat} {Z : XZ ρ} {pc : Nat} {lv : List (Nat × AV)} {st : List AV} {h : XH} {res : Option ρ} {a : Int} (hd : decode cc pc = .ok (.getfield 13, 3)) (kk : XG fh QQ RX5 mn cc nL ret d Z (pc + 3) lv ((0, xv h a 1) :: st) h res) : XG fh QQ RX5 mn cc nL ret d Z pc lv ((2, a) :: st) h (ob h a 5 res) := x_get (C := RX5) (ref := RX5) 5 1 rfl in_X5 (by decide) rfl (by decide) (Or.inl rfl) q384 hd kk
theorem xg_X5_16 {ρ : Type} {fh : ρ → XH} {QQ : XZ ρ → State → Prop} {mn : String} {cc : ByteArray} {nL : Nat} {ret : Option FieldType} {d : Nat} {Z : XZ ρ} {pc : Nat} {lv : List (Nat × AV)} {st : List AV} {h : XH} {res : Option ρ} {a : Int} (hd : decode cc pc = .ok (.getfield 16, 3)) (kk : XG fh QQ RX5 mn cc nL ret d Z (pc + 3) lv ((0, xv h a 2) :: st) h res) : XG fh QQ RX5 mn cc nL ret d Z pc lv ((2, a) :: st) h (ob h a 5 res) := x_get (C := RX5) (ref := RX5) 5 2 rfl in_X5 (by decide) rfl (by decide) (Or.inl rfl) q388 hd kk
theorem xg_X5_25 {ρ : Type} {fh : ρ → XH} {QQ : XZ ρ → State → Prop} {mn : String} {cc : ByteArray} {nL : Nat} {ret : Option FieldType} {d : Nat} {Z : XZ ρ} {pc : Nat} {lv : List (Nat × AV)} {st : List AV} {h : XH} {res : Option ρ} {a : Int} (hd : decode cc pc = .ok (.getfield 25, 3)) (kk : XG fh QQ RX5 mn cc nL ret d Z (pc + 3) lv ((0, xv h a 4) :: st) h res) : XG fh QQ RX5 mn cc nL ret d Z pc lv ((2, a) :: st) h (ob h a 5 res) := x_get (C := RX5) (ref := RX5) 5 4 rfl in_X5 (by decide) rfl (by decide) (Or.inl rfl) q392 hd kk
theorem xg_X5_38 {ρ : Type} {fh : ρ → XH} {QQ : XZ ρ → State → Prop} {mn : String} {cc : ByteArray} {nL : Nat} {ret : Option FieldType} {d : Nat} {Z : XZ ρ} {pc : Nat} {lv : List (Nat × AV)} {st : List AV} {h : XH} {res : Option ρ} {a : Int} (hd : decode cc pc = .ok (.getfield 38, 3)) (kk : XG fh QQ RX5 mn cc nL ret d Z (pc + 3) lv ((2, xv h a 0) :: st) h res) : XG fh QQ RX5 mn cc nL ret d Z pc lv ((2, a) :: st) h (ob h a 3 res) := x_getN (C := RX2) (ref := RX2) 3 0 rfl in_X2 (by decide) rfl (by decide) (Or.inl rfl) q262 hd kk
theorem xg_X5_7 {ρ : Type} {fh : ρ → XH} {QQ : XZ ρ → State → Prop} {mn : String} {cc : ByteArray} {nL : Nat} {ret : Option FieldType} {d : Nat} {Z : XZ ρ} {pc : Nat} {lv : List (Nat × AV)} {st : List AV} {h : XH} {res : Option ρ} {a : Int} (hd : decode cc pc = .ok (.getfield 7, 3)) (kk : XG fh QQ RX5 mn cc nL ret d Z (pc + 3) lv ((0, xv h a 0) :: st) h res) : XG fh QQ RX5 mn cc nL ret d Z pc lv ((2, a) :: st) h (ob h a 5 res) := x_get (C := RX5) (ref := RX5) 5 0 rfl in_X5 (by decide) rfl (by decide) (Or.inl rfl) q380 hd kk
noncomputable def F_X5_ask (x0 : Int) (x1 : Int) (x2 : Int) (h : XH) : Option XR := ob h x1 3 <| mb (F_X2_clear x1 h) fun r1 h2 => ob h2 x1 3 <| ob h2 x0 5 <| ai h2 (xv h2 x1 0) 1 0 <| nm (hset h2 (xv h2 x1 0) 0 (xv h2 x0 1)) fun h3 => ob h3 x1 3 <| ob h3 x0 5 <| ai h3 (xv h3 x1 0) 1 1 <| nm (hset h3 (xv h3 x1 0) 1 (xv h3 x0 2)) fun h4 => ob h4 x1 3 <| ai h4 (xv h4 x1 0) 1 2 <| nm (hset h4 (xv h4 x1 0) 2 x2) fun h5 => ob h5 x1 3 <| ob h5 x0 5 <| nm (α := Int) (if xv h5 x0 4 = 0 then 0 else 1) fun v6 => ai h5 (xv h5 x1 0) 1 4 <| nm (hset h5 (xv h5 x1 0) 4 v6) fun h7 => ob h7 x1 3 <| ob h7 x0 5 <| ai h7 (xv h7 x1 0) 1 6 <| nm (hset h7 (xv h7 x1 0) 6 (xv h7 x0 0)) fun h8 => some (x1, h8)
theorem WF_X5_ask {d : Nat} {Z : XZ XR} (hdd : 2 ≤ d) : ∀ x0 x1 x2 h, XG xfh (xQ 3) RX5 "ask" cX5_ask 3 (some (.object "ExamSlips$Asked")) d Z 0 [(0, (2, x0)), (1, (2, x1)), (2, (0, x2))] [] h (F_X5_ask x0 x1 x2 h) := by
  intro x0 x1 x2 h
  unfold F_X5_ask
  refine x_aload_n 1 dX5_ask_0 rfl rfl ?_
  refine cl_X5_32 (by omega) (Nat.le_of_ble_eq_true rfl) dX5_ask_1 fun r1 h2 => ?_
  refine x_pop dX5_ask_4 rfl ?_
  refine x_aload_n 1 dX5_ask_5 rfl rfl ?_
  refine xg_X5_38 dX5_ask_6 ?_
  refine x_ic dX5_ask_9 (by decide) (by decide) ?_
  refine x_aload_n 0 dX5_ask_10 rfl rfl ?_
  refine xg_X5_13 dX5_ask_11 ?_
  refine x_i2l dX5_ask_14 ?_
  refine x_last dX5_ask_15 fun h3 => ?_
  refine x_aload_n 1 dX5_ask_16 rfl rfl ?_
  refine xg_X5_38 dX5_ask_17 ?_
  refine x_ic dX5_ask_20 (by decide) (by decide) ?_
  refine x_aload_n 0 dX5_ask_21 rfl rfl ?_
  refine xg_X5_16 dX5_ask_22 ?_
  refine x_i2l dX5_ask_25 ?_
  refine x_last dX5_ask_26 fun h4 => ?_
  refine x_aload_n 1 dX5_ask_27 rfl rfl ?_
  refine xg_X5_38 dX5_ask_28 ?_
  refine x_ic dX5_ask_31 (by decide) (by decide) ?_
  refine x_iload_n 2 dX5_ask_32 rfl rfl ?_
  refine x_i2l dX5_ask_33 ?_
  refine x_last dX5_ask_34 fun h5 => ?_
  refine x_aload_n 1 dX5_ask_35 rfl rfl ?_
  refine xg_X5_38 dX5_ask_36 ?_
  refine x_ic dX5_ask_39 (by decide) (by decide) ?_
  refine x_aload_n 0 dX5_ask_40 rfl rfl ?_
  refine xg_X5_25 dX5_ask_41 ?_
  refine x_join 52 (fun v6 => [(1, v6), (0, 4), (2, xv h5 x1 0)]) (fun v6 => ?_) (fun hJ => ?_)
  · refine x_last dX5_ask_52 fun h7 => ?_
    refine x_aload_n 1 dX5_ask_53 rfl rfl ?_
    refine xg_X5_38 dX5_ask_54 ?_
    refine x_bp dX5_ask_57 (by decide) (by decide) ?_
    refine x_aload_n 0 dX5_ask_59 rfl rfl ?_
    refine xg_X5_7 dX5_ask_60 ?_
    refine x_i2l dX5_ask_63 ?_
    refine x_last dX5_ask_64 fun h8 => ?_
    refine x_aload_n 1 dX5_ask_65 rfl rfl ?_
    exact x_aret rfl (Or.inl ⟨_, rfl⟩) dX5_ask_66
  · refine x_if_eqF 51 dX5_ask_44 (by decide) (fun _ => ?_) (fun _ => ?_)
    · refine x_l0 dX5_ask_51 ?_
      exact hJ _
    · refine x_l1 dX5_ask_47 ?_
      refine x_goto 52 dX5_ask_48 (by decide) ?_
      exact hJ _
theorem SF_X5_ask (l : Launch) {d : Nat} (hdd : 2 ≤ d) (x0 : Int) (x1 : Int) (x2 : Int) (h : XH) (hok : okH h) (ho : okXs (xn h) [(2, x0), (2, x1), (0, x2)]) (fin : XR) (hf : F_X5_ask x0 x1 x2 h = some fin) : xSpec l yX5_ask cX5_ask 3 (some (.object "ExamSlips$Asked")) d 3 [(2, x0), (2, x1), (0, x2)] h fin := x_enter (lv := [(0, (2, x0)), (1, (2, x1)), (2, (0, x2))]) (by decide) rfl rfl (Nat.le_of_ble_eq_true rfl) rfl (fun Z _ => WF_X5_ask hdd x0 x1 x2 h) hok ho fin hf
theorem cl_X0_193 {ρ : Type} {fh : ρ → XH} {QQ : XZ ρ → State → Prop} {mn : String} {cc : ByteArray} {nL : Nat} {ret : Option FieldType} {d : Nat} {Z : XZ ρ} {pc : Nat} {lv : List (Nat × AV)} {st : List AV} {h : XH} {g : Int → XH → Option ρ} {b a0 a1 : Int} (hdd : 3 ≤ d) (hcat : (st.map fun v => if v.1 = 1 then 2 else 1).sum ≤ 8) (hdg : decode cc pc = .ok (.invokevirtual 193, 3)) (kk : ∀ r h1, XG fh QQ RX0 mn cc nL ret d Z (pc + 3) lv ((2, r) :: st) h1 (g r h1)) : XG fh QQ RX0 mn cc nL ret d Z pc lv ((0, a1) :: (2, a0) :: (2, b) :: st) h (ob h b 5 (mb (F_X5_ask b a0 a1 h) g)) :=
  x_callVr [(2, a0), (0, a1)] 2 (WF_X5_ask (Z := (Z.1, Z.2.1, ((0, h), h))) (Nat.le_refl 2) b a0 a1 h).1 (fun hok ho fin hf => SF_X5_ask (yL Z) (Nat.le_refl 2) b a0 a1 h hok ho fin hf) RX5 5 rfl (by decide) (lw_V q913 q914 q915 q133 q916) ⟨rfl, by decide +kernel, by decide +kernel, by decide +kernel⟩ rfl (by omega) (by decide) rfl hcat hdg kk
noncomputable def F_X0_takes_2 (x0 : Int) (x1 : Int) (x2 : Int) (x3 : Int) (x4 : Int) (h : XH) : Option XR := if x2 = 3 then (some (1, h)) else (ob h x0 1 <| ob h x1 5 <| mb (F_X5_ask x1 (xv h x0 2) x2 h) fun r1 h2 => ob h2 r1 3 <| ai h2 (xv h2 r1 0) 1 3 <| nm (hset h2 (xv h2 r1 0) 3 x3) fun h3 => ob h3 r1 3 <| ai h3 (xv h3 r1 0) 1 5 <| nm (hset h3 (xv h3 r1 0) 5 x4) fun h4 => ob h4 x0 1 <| mb (F_X0_inUse x0 h4) fun r5 h6 => ob h6 r5 4 <| mb (F_X3_tells r5 0 r1 4 1 20 h6) fun r7 h8 => some (r7, h8))
theorem WF_X0_takes_2 {d : Nat} {Z : XZ XR} (hdd : 126 ≤ d) : ∀ x0 x1 x2 x3 x4 h, XG xfh (xQ 0) RX0 "takes" cX0_takes_2 6 (some .int) d Z 0 [(0, (2, x0)), (1, (2, x1)), (2, (0, x2)), (3, (0, x3)), (4, (0, x4))] [] h (F_X0_takes_2 x0 x1 x2 x3 x4 h) := by
  intro x0 x1 x2 x3 x4 h
  unfold F_X0_takes_2
  refine x_iload_n 2 dX0_takes_2_0 rfl rfl ?_
  refine x_ic dX0_takes_2_1 (by decide) (by decide) ?_
  refine x_icmp_ne 7 dX0_takes_2_2 (by decide) (fun _ => ?_) (fun _ => ?_)
  · refine x_aload_n 1 dX0_takes_2_7 rfl rfl ?_
    refine x_aload_n 0 dX0_takes_2_8 rfl rfl ?_
    refine xg_X0_63 dX0_takes_2_9 ?_
    refine x_iload_n 2 dX0_takes_2_12 rfl rfl ?_
    refine cl_X0_193 (by omega) (Nat.le_of_ble_eq_true rfl) dX0_takes_2_13 fun r1 h2 => ?_
    refine x_astore (lv' := [(5, (2, r1)), (0, (2, x0)), (1, (2, x1)), (2, (0, x2)), (3, (0, x3)), (4, (0, x4))]) dX0_takes_2_16 (by decide) rfl ?_
    refine x_aload 0 dX0_takes_2_18 rfl ?_
    refine xg_X0_197 dX0_takes_2_20 ?_
    refine x_ic dX0_takes_2_23 (by decide) (by decide) ?_
    refine x_iload_n 4 dX0_takes_2_24 rfl rfl ?_
    refine x_i2l dX0_takes_2_25 ?_
    refine x_last dX0_takes_2_26 fun h3 => ?_
    refine x_aload 0 dX0_takes_2_27 rfl ?_
    refine xg_X0_197 dX0_takes_2_29 ?_
    refine x_ic dX0_takes_2_32 (by decide) (by decide) ?_
    refine x_iload 5 dX0_takes_2_33 rfl ?_
    refine x_i2l dX0_takes_2_35 ?_
    refine x_last dX0_takes_2_36 fun h4 => ?_
    refine x_aload_n 1 dX0_takes_2_37 rfl rfl ?_
    refine cl_X0_201 (by omega) (Nat.le_of_ble_eq_true rfl) dX0_takes_2_38 fun r5 h6 => ?_
    refine x_ic dX0_takes_2_41 (by decide) (by decide) ?_
    refine x_aload 0 dX0_takes_2_42 rfl ?_
    refine x_ic dX0_takes_2_44 (by decide) (by decide) ?_
    refine x_ic dX0_takes_2_45 (by decide) (by decide) ?_
    refine x_bp dX0_takes_2_46 (by decide) (by decide) ?_
    refine cl_X0_204 (by omega) (Nat.le_of_ble_eq_true rfl) dX0_takes_2_48 fun r7 h8 => ?_
    exact x_iret rfl dX0_takes_2_51
  · refine x_ic dX0_takes_2_5 (by decide) (by decide) ?_
    exact x_iret rfl dX0_takes_2_6
theorem SF_X0_takes_2 (l : Launch) {d : Nat} (hdd : 126 ≤ d) (x0 : Int) (x1 : Int) (x2 : Int) (x3 : Int) (x4 : Int) (h : XH) (hok : okH h) (ho : okXs (xn h) [(2, x0), (2, x1), (0, x2), (0, x3), (0, x4)]) (fin : XR) (hf : F_X0_takes_2 x0 x1 x2 x3 x4 h = some fin) : xSpec l yX0_takes_2 cX0_takes_2 6 (some .int) d 0 [(2, x0), (2, x1), (0, x2), (0, x3), (0, x4)] h fin := x_enter (lv := [(0, (2, x0)), (1, (2, x1)), (2, (0, x2)), (3, (0, x3)), (4, (0, x4))]) (by decide) rfl rfl (Nat.le_of_ble_eq_true rfl) rfl (fun Z _ => WF_X0_takes_2 hdd x0 x1 x2 x3 x4 h) hok ho fin hf
theorem cl_X20_116 {ρ : Type} {fh : ρ → XH} {QQ : XZ ρ → State → Prop} {mn : String} {cc : ByteArray} {nL : Nat} {ret : Option FieldType} {d : Nat} {Z : XZ ρ} {pc : Nat} {lv : List (Nat × AV)} {st : List AV} {h : XH} {g : Int → XH → Option ρ} {b a0 a1 a2 a3 : Int} (hdd : 127 ≤ d) (hcat : (st.map fun v => if v.1 = 1 then 2 else 1).sum ≤ 8) (hdg : decode cc pc = .ok (.invokevirtual 116, 3)) (kk : ∀ r h1, XG fh QQ RX20 mn cc nL ret d Z (pc + 3) lv ((0, r) :: st) h1 (g r h1)) : XG fh QQ RX20 mn cc nL ret d Z pc lv ((0, a3) :: (0, a2) :: (0, a1) :: (2, a0) :: (2, b) :: st) h (ob h b 1 (mb (F_X0_takes_2 b a0 a1 a2 a3 h) g)) :=
  x_callPi [(2, a0), (0, a1), (0, a2), (0, a3)] 4 (WF_X0_takes_2 (Z := (Z.1, Z.2.1, ((0, h), h))) (Nat.le_refl 126) b a0 a1 a2 a3 h).1 (fun hok ho fin hf => SF_X0_takes_2 (yL Z) (Nat.le_refl 126) b a0 a1 a2 a3 h hok ho fin hf) RX0 1 rfl (by decide) q1182 q124 q911 qs28 (lw_meth q912) ⟨by decide +kernel, by decide +kernel, by decide +kernel⟩ rfl (by omega) (by decide) rfl hcat hdg kk
theorem xg_X20_3 {ρ : Type} {fh : ρ → XH} {QQ : XZ ρ → State → Prop} {mn : String} {cc : ByteArray} {nL : Nat} {ret : Option FieldType} {d : Nat} {Z : XZ ρ} {pc : Nat} {lv : List (Nat × AV)} {st : List AV} {h : XH} {res : Option ρ} {a : Int} (hd : decode cc pc = .ok (.getfield 3, 3)) (kk : XG fh QQ RX20 mn cc nL ret d Z (pc + 3) lv ((2, xv h a 4) :: st) h res) : XG fh QQ RX20 mn cc nL ret d Z pc lv ((2, a) :: st) h (ob h a 18 res) := x_get (C := RX20) (ref := RX20) 18 4 rfl in_X20 (by decide) rfl (by decide) (Or.inl rfl) q1208 hd kk
noncomputable def F_X20_cost_44 : Nat → Int → Int → Int → Int → Int → Int → XH → Option XR
  | 0, _, _, _, _, _, _, _ => none
  | n + 1, x0, x1, x2, x4, x5, x6, h => if x2 < x6 then (some (x5, h)) else (ob h x0 18 <| ob h x0 18 <| ai h (xv h x0 0) 7 x1 <| ob h (xv h x0 4) 1 <| mb (F_X0_takes_2 (xv h x0 4) (xv h (xv h x0 0) x1) x6 x4 0 h) fun r1 h2 => nm (α := Int) (w32 (x5 + r1)) fun v3 => nm (w32 (x6 + 1)) fun v4 => F_X20_cost_44 n x0 x1 x2 x4 v3 v4 h2)
theorem WF_X20_cost_44 {d : Nat} {Z : XZ XR} (hdd : 127 ≤ d) : ∀ n x0 x1 x2 x4 x5 x6 h, XG xfh (xQ 0) RX20 "cost" cX20_cost 7 (some .int) d Z 44 [(0, (2, x0)), (1, (0, x1)), (2, (0, x2)), (4, (0, x4)), (5, (0, x5)), (6, (0, x6))] [] h (F_X20_cost_44 n x0 x1 x2 x4 x5 x6 h) := by
  intro n
  induction n with
  | zero => intro x0 x1 x2 x4 x5 x6 h; exact x_none
  | succ n ih =>
    intro x0 x1 x2 x4 x5 x6 h
    rw [F_X20_cost_44]
    refine x_iload 5 dX20_cost_44 rfl ?_
    refine x_iload_n 2 dX20_cost_46 rfl rfl ?_
    refine x_icmp_gt 79 dX20_cost_47 (by decide) (fun _ => ?_) (fun _ => ?_)
    · refine x_iload 4 dX20_cost_79 rfl ?_
      exact x_iret rfl dX20_cost_81
    · refine x_iload 4 dX20_cost_50 rfl ?_
      refine x_aload_n 0 dX20_cost_52 rfl rfl ?_
      refine xg_X20_3 dX20_cost_53 ?_
      refine x_aload_n 0 dX20_cost_56 rfl rfl ?_
      refine xg_X20_48 dX20_cost_57 ?_
      refine x_iload_n 1 dX20_cost_60 rfl rfl ?_
      refine x_aald 7 _ (by decide) (by decide) rfl dX20_cost_61 ?_
      refine x_iload 5 dX20_cost_62 rfl ?_
      refine x_iload 3 dX20_cost_64 rfl ?_
      refine x_ic dX20_cost_66 (by decide) (by decide) ?_
      refine cl_X20_116 (by omega) (Nat.le_of_ble_eq_true rfl) dX20_cost_67 fun r1 h2 => ?_
      refine x_iadd dX20_cost_70 ?_
      refine x_nmT fun v3 => ?_
      refine x_istore (lv' := [(5, (0, v3)), (0, (2, x0)), (1, (0, x1)), (2, (0, x2)), (4, (0, x4)), (6, (0, x6))]) dX20_cost_71 (by decide) rfl ?_
      refine x_iinc 5 dX20_cost_73 rfl (by decide) fun v4 => x_lv (lv' := [(6, (0, v4)), (5, (0, v3)), (0, (2, x0)), (1, (0, x1)), (2, (0, x2)), (4, (0, x4))]) rfl ?_
      refine x_goto 44 dX20_cost_76 (by decide) ?_
      exact x_sub [2, 3, 4, 5, 1, 0] rfl (ih x0 x1 x2 x4 v3 v4 h2)
noncomputable def F_X20_cost_36 (s0 : Int) (x0 : Int) (x1 : Int) (x2 : Int) (h : XH) : Option XR := F_X20_cost_44 FU x0 x1 x2 s0 0 1 h
theorem WF_X20_cost_36 {d : Nat} {Z : XZ XR} (hdd : 127 ≤ d) : ∀ s0 x0 x1 x2 h, XG xfh (xQ 0) RX20 "cost" cX20_cost 7 (some .int) d Z 36 [(0, (2, x0)), (1, (0, x1)), (2, (0, x2))] [(0, s0)] h (F_X20_cost_36 s0 x0 x1 x2 h) := by
  intro s0 x0 x1 x2 h
  unfold F_X20_cost_36
  refine x_istore (lv' := [(4, (0, s0)), (0, (2, x0)), (1, (0, x1)), (2, (0, x2))]) dX20_cost_36 (by decide) rfl ?_
  refine x_ic dX20_cost_38 (by decide) (by decide) ?_
  refine x_istore (lv' := [(5, (0, 0)), (4, (0, s0)), (0, (2, x0)), (1, (0, x1)), (2, (0, x2))]) dX20_cost_39 (by decide) rfl ?_
  refine x_ic dX20_cost_41 (by decide) (by decide) ?_
  refine x_istore (lv' := [(6, (0, 1)), (5, (0, 0)), (4, (0, s0)), (0, (2, x0)), (1, (0, x1)), (2, (0, x2))]) dX20_cost_42 (by decide) rfl ?_
  exact x_sub [3, 4, 5, 2, 1, 0] rfl (WF_X20_cost_44 hdd FU x0 x1 x2 s0 0 1 h)
noncomputable def F_X20_cost_35 (x0 : Int) (x1 : Int) (x2 : Int) (h : XH) : Option XR := F_X20_cost_36 0 x0 x1 x2 h
theorem WF_X20_cost_35 {d : Nat} {Z : XZ XR} (hdd : 127 ≤ d) : ∀ x0 x1 x2 h, XG xfh (xQ 0) RX20 "cost" cX20_cost 7 (some .int) d Z 35 [(0, (2, x0)), (1, (0, x1)), (2, (0, x2))] [] h (F_X20_cost_35 x0 x1 x2 h) := by
  intro x0 x1 x2 h
  unfold F_X20_cost_35
  refine x_ic dX20_cost_35 (by decide) (by decide) ?_
  exact x_sub [0, 1, 2] rfl (WF_X20_cost_36 hdd 0 x0 x1 x2 h)
noncomputable def F_X20_cost (x0 : Int) (x1 : Int) (x2 : Int) (x3 : Int) (h : XH) : Option XR := ob h x0 18 <| ai h (xv h x0 0) 7 x1 <| ob h (xv h (xv h x0 0) x1) 5 <| if xv h (xv h (xv h x0 0) x1) 1 ≤ 0 then (F_X20_cost_35 x0 x1 x2 h) else (ob h x0 18 <| ai h (xv h x0 0) 7 x1 <| ob h (xv h (xv h x0 0) x1) 5 <| if iand (ishr x3 (w32 ((xv h (xv h (xv h x0 0) x1) 1) - 1))) 1 = 1 then (F_X20_cost_36 1 x0 x1 x2 h) else (F_X20_cost_35 x0 x1 x2 h))
theorem WF_X20_cost {d : Nat} {Z : XZ XR} (hdd : 127 ≤ d) : ∀ x0 x1 x2 x3 h, XG xfh (xQ 0) RX20 "cost" cX20_cost 7 (some .int) d Z 0 [(0, (2, x0)), (1, (0, x1)), (2, (0, x2)), (3, (0, x3))] [] h (F_X20_cost x0 x1 x2 x3 h) := by
  intro x0 x1 x2 x3 h
  unfold F_X20_cost
  refine x_aload_n 0 dX20_cost_0 rfl rfl ?_
  refine xg_X20_48 dX20_cost_1 ?_
  refine x_iload_n 1 dX20_cost_4 rfl rfl ?_
  refine x_aald 7 _ (by decide) (by decide) rfl dX20_cost_5 ?_
  refine xg_X20_113 dX20_cost_6 ?_
  refine x_if_le 35 dX20_cost_9 (by decide) (fun _ => ?_) (fun _ => ?_)
  · exact x_sub [0, 1, 2] rfl (WF_X20_cost_35 hdd x0 x1 x2 h)
  · refine x_iload_n 3 dX20_cost_12 rfl rfl ?_
    refine x_aload_n 0 dX20_cost_13 rfl rfl ?_
    refine xg_X20_48 dX20_cost_14 ?_
    refine x_iload_n 1 dX20_cost_17 rfl rfl ?_
    refine x_aald 7 _ (by decide) (by decide) rfl dX20_cost_18 ?_
    refine xg_X20_113 dX20_cost_19 ?_
    refine x_ic dX20_cost_22 (by decide) (by decide) ?_
    refine x_isub dX20_cost_23 ?_
    refine x_ishr dX20_cost_24 ?_
    refine x_ic dX20_cost_25 (by decide) (by decide) ?_
    refine x_iand dX20_cost_26 ?_
    refine x_ic dX20_cost_27 (by decide) (by decide) ?_
    refine x_icmp_ne 35 dX20_cost_28 (by decide) (fun _ => ?_) (fun _ => ?_)
    · exact x_sub [0, 1, 2] rfl (WF_X20_cost_35 hdd x0 x1 x2 h)
    · refine x_ic dX20_cost_31 (by decide) (by decide) ?_
      refine x_goto 36 dX20_cost_32 (by decide) ?_
      exact x_sub [0, 1, 2] rfl (WF_X20_cost_36 hdd 1 x0 x1 x2 h)
theorem SF_X20_cost (l : Launch) {d : Nat} (hdd : 127 ≤ d) (x0 : Int) (x1 : Int) (x2 : Int) (x3 : Int) (h : XH) (hok : okH h) (ho : okXs (xn h) [(2, x0), (0, x1), (0, x2), (0, x3)]) (fin : XR) (hf : F_X20_cost x0 x1 x2 x3 h = some fin) : xSpec l yX20_cost cX20_cost 7 (some .int) d 0 [(2, x0), (0, x1), (0, x2), (0, x3)] h fin := x_enter (lv := [(0, (2, x0)), (1, (0, x1)), (2, (0, x2)), (3, (0, x3))]) (by decide) rfl rfl (Nat.le_of_ble_eq_true rfl) rfl (fun Z _ => WF_X20_cost hdd x0 x1 x2 x3 h) hok ho fin hf
theorem cl_X20_121 {ρ : Type} {fh : ρ → XH} {QQ : XZ ρ → State → Prop} {mn : String} {cc : ByteArray} {nL : Nat} {ret : Option FieldType} {d : Nat} {Z : XZ ρ} {pc : Nat} {lv : List (Nat × AV)} {st : List AV} {h : XH} {g : Int → XH → Option ρ} {b a0 a1 a2 : Int} (hdd : 128 ≤ d) (hcat : (st.map fun v => if v.1 = 1 then 2 else 1).sum ≤ 8) (hdg : decode cc pc = .ok (.invokevirtual 121, 3)) (kk : ∀ r h1, XG fh QQ RX20 mn cc nL ret d Z (pc + 3) lv ((0, r) :: st) h1 (g r h1)) : XG fh QQ RX20 mn cc nL ret d Z pc lv ((0, a2) :: (0, a1) :: (0, a0) :: (2, b) :: st) h (ob h b 18 (mb (F_X20_cost b a0 a1 a2 h) g)) :=
  x_callVi [(0, a0), (0, a1), (0, a2)] 3 (WF_X20_cost (Z := (Z.1, Z.2.1, ((0, h), h))) (Nat.le_refl 127) b a0 a1 a2 h).1 (fun hok ho fin hf => SF_X20_cost (yL Z) (Nat.le_refl 127) b a0 a1 a2 h hok ho fin hf) RX20 18 rfl (by decide) (lw_V q1178 q1180 qs42 q158 q1181) ⟨rfl, by decide +kernel, by decide +kernel, by decide +kernel⟩ rfl (by omega) (by decide) rfl hcat hdg kk
theorem cl_X20_125 {ρ : Type} {fh : ρ → XH} {QQ : XZ ρ → State → Prop} {mn : String} {cc : ByteArray} {nL : Nat} {ret : Option FieldType} {d : Nat} {Z : XZ ρ} {pc : Nat} {lv : List (Nat × AV)} {st : List AV} {h : XH} {g : Int → XH → Option ρ} {b a0 a1 a2 : Int} (hdd : 2 ≤ d) (hcat : (st.map fun v => if v.1 = 1 then 2 else 1).sum ≤ 8) (hdg : decode cc pc = .ok (.invokevirtual 125, 3)) (kk : ∀ r h1, XG fh QQ RX20 mn cc nL ret d Z (pc + 3) lv ((0, r) :: st) h1 (g r h1)) : XG fh QQ RX20 mn cc nL ret d Z pc lv ((0, a2) :: (0, a1) :: (0, a0) :: (2, b) :: st) h (ob h b 18 (mb (F_X20_after b a0 a1 a2 h) g)) :=
  x_callVi [(0, a0), (0, a1), (0, a2)] 3 (WF_X20_after (Z := (Z.1, Z.2.1, ((0, h), h))) (Nat.le_refl 1) b a0 a1 a2 h).1 (fun hok ho fin hf => SF_X20_after (yL Z) (Nat.le_refl 1) b a0 a1 a2 h hok ho fin hf) RX20 18 rfl (by decide) (lw_V q1183 q1185 qs43 q158 q1186) ⟨rfl, by decide +kernel, by decide +kernel, by decide +kernel⟩ rfl (by omega) (by decide) rfl hcat hdg kk
theorem cl_X20_62 {ρ : Type} {fh : ρ → XH} {QQ : XZ ρ → State → Prop} {mn : String} {cc : ByteArray} {nL : Nat} {ret : Option FieldType} {d : Nat} {Z : XZ ρ} {pc : Nat} {lv : List (Nat × AV)} {st : List AV} {h : XH} {g : Int → XH → Option ρ} {b a0 a1 a2 a3 : Int} (hdd : 2 ≤ d) (hcat : (st.map fun v => if v.1 = 1 then 2 else 1).sum ≤ 8) (hdg : decode cc pc = .ok (.invokevirtual 62, 3)) (kk : ∀ r h1, XG fh QQ RX20 mn cc nL ret d Z (pc + 3) lv ((0, r) :: st) h1 (g r h1)) : XG fh QQ RX20 mn cc nL ret d Z pc lv ((0, a3) :: (0, a2) :: (0, a1) :: (0, a0) :: (2, b) :: st) h (ob h b 18 (mb (F_X20_at b a0 a1 a2 a3 h) g)) :=
  x_callVi [(0, a0), (0, a1), (0, a2), (0, a3)] 4 (WF_X20_at (Z := (Z.1, Z.2.1, ((0, h), h))) (Nat.le_refl 1) b a0 a1 a2 a3 h).1 (fun hok ho fin hf => SF_X20_at (yL Z) (Nat.le_refl 1) b a0 a1 a2 a3 h hok ho fin hf) RX20 18 rfl (by decide) (lw_V q1165 q1167 qs39 q158 q1168) ⟨rfl, by decide +kernel, by decide +kernel, by decide +kernel⟩ rfl (by omega) (by decide) rfl hcat hdg kk
theorem xg_X20_58 {ρ : Type} {fh : ρ → XH} {QQ : XZ ρ → State → Prop} {mn : String} {cc : ByteArray} {nL : Nat} {ret : Option FieldType} {d : Nat} {Z : XZ ρ} {pc : Nat} {lv : List (Nat × AV)} {st : List AV} {h : XH} {res : Option ρ} {a : Int} (hd : decode cc pc = .ok (.getfield 58, 3)) (kk : XG fh QQ RX20 mn cc nL ret d Z (pc + 3) lv ((2, xv h a 10) :: st) h res) : XG fh QQ RX20 mn cc nL ret d Z pc lv ((2, a) :: st) h (ob h a 1 res) := x_getN (C := RX0) (ref := RX0) 1 10 rfl in_X0 (by decide) rfl (by decide) (Or.inl rfl) q304 hd kk
noncomputable def F_X20_with_56 (h : XH) : Option XR := some (1000000, h)
theorem WF_X20_with_56 {d : Nat} {Z : XZ XR} (hdd : 128 ≤ d) : ∀ h, XG xfh (xQ 0) RX20 "with" cX20_with 8 (some .int) d Z 56 [] [] h (F_X20_with_56 h) := by
  intro h
  unfold F_X20_with_56
  refine x_ldc (n := 1000000) q1173 dX20_with_56 (by decide +kernel) ⟨by decide, by decide⟩ ?_
  exact x_iret rfl dX20_with_58
noncomputable def F_X20_with (x0 : Int) (x1 : Int) (x2 : Int) (x3 : Int) (x4 : Int) (x5 : Int) (h : XH) : Option XR := nm (α := Int) (if x2 = 1 then 1 else 0) fun v1 => nm (α := Int) (w32 (x3 - v1)) fun v2 => nm (α := Int) (if x2 = 2 then 1 else 0) fun v3 => nm (α := Int) (w32 (x4 - v3)) fun v4 => if v2 < 0 then (F_X20_with_56 h) else (if v4 < 0 then (F_X20_with_56 h) else (ob h x0 18 <| al h (xv h x0 0) 7 <| if w32 (v2 + v4) ≤ w32 ((w32 ((xl h (xv h x0 0) : Int) - x1)) - 1) then (ob h x0 18 <| mb (F_X20_cost x0 x1 x2 x5 h) fun r5 h6 => ob h6 x0 18 <| ob h6 (xv h6 x0 4) 1 <| ob h6 x0 18 <| mb (F_X20_after x0 x1 x2 x5 h6) fun r7 h8 => ob h8 x0 18 <| mb (F_X20_at x0 (w32 (x1 + 1)) v2 v4 r7 h8) fun r9 h10 => ai h10 (xv h6 (xv h6 x0 4) 10) 0 r9 <| some (w32 (r5 + (xv h10 (xv h6 (xv h6 x0 4) 10) r9)), h10)) else (F_X20_with_56 h)))
theorem WF_X20_with {d : Nat} {Z : XZ XR} (hdd : 128 ≤ d) : ∀ x0 x1 x2 x3 x4 x5 h, XG xfh (xQ 0) RX20 "with" cX20_with 8 (some .int) d Z 0 [(0, (2, x0)), (1, (0, x1)), (2, (0, x2)), (3, (0, x3)), (4, (0, x4)), (5, (0, x5))] [] h (F_X20_with x0 x1 x2 x3 x4 x5 h) := by
  intro x0 x1 x2 x3 x4 x5 h
  unfold F_X20_with
  refine x_iload_n 3 dX20_with_0 rfl rfl ?_
  refine x_iload_n 2 dX20_with_1 rfl rfl ?_
  refine x_ic dX20_with_2 (by decide) (by decide) ?_
  refine x_join 11 (fun v1 => [(0, v1), (0, x3)]) (fun v1 => ?_) (fun hJ => ?_)
  · refine x_isub dX20_with_11 ?_
    refine x_nmT fun v2 => ?_
    refine x_istore (lv' := [(6, (0, v2)), (0, (2, x0)), (1, (0, x1)), (2, (0, x2)), (3, (0, x3)), (4, (0, x4)), (5, (0, x5))]) dX20_with_12 (by decide) rfl ?_
    refine x_iload 5 dX20_with_14 rfl ?_
    refine x_iload_n 3 dX20_with_16 rfl rfl ?_
    refine x_ic dX20_with_17 (by decide) (by decide) ?_
    refine x_join 26 (fun v3 => [(0, v3), (0, x4)]) (fun v3 => ?_) (fun hJ => ?_)
    · refine x_isub dX20_with_26 ?_
      refine x_nmT fun v4 => ?_
      refine x_istore (lv' := [(7, (0, v4)), (6, (0, v2)), (0, (2, x0)), (1, (0, x1)), (2, (0, x2)), (3, (0, x3)), (4, (0, x4)), (5, (0, x5))]) dX20_with_27 (by decide) rfl ?_
      refine x_iload 1 dX20_with_29 rfl ?_
      refine x_if_lt 56 dX20_with_31 (by decide) (fun _ => ?_) (fun _ => ?_)
      · exact x_sub [] rfl (WF_X20_with_56 hdd h)
      · refine x_iload 0 dX20_with_34 rfl ?_
        refine x_if_lt 56 dX20_with_36 (by decide) (fun _ => ?_) (fun _ => ?_)
        · exact x_sub [] rfl (WF_X20_with_56 hdd h)
        · refine x_iload 1 dX20_with_39 rfl ?_
          refine x_iload 0 dX20_with_41 rfl ?_
          refine x_iadd dX20_with_43 ?_
          refine x_aload_n 2 dX20_with_44 rfl rfl ?_
          refine xg_X20_48 dX20_with_45 ?_
          refine x_alen 7 (by decide) dX20_with_48 ?_
          refine x_iload_n 3 dX20_with_49 rfl rfl ?_
          refine x_isub dX20_with_50 ?_
          refine x_ic dX20_with_51 (by decide) (by decide) ?_
          refine x_isub dX20_with_52 ?_
          refine x_icmp_le 59 dX20_with_53 (by decide) (fun _ => ?_) (fun _ => ?_)
          · refine x_aload_n 2 dX20_with_59 rfl rfl ?_
            refine x_iload_n 3 dX20_with_60 rfl rfl ?_
            refine x_iload_n 4 dX20_with_61 rfl rfl ?_
            refine x_iload 7 dX20_with_62 rfl ?_
            refine cl_X20_121 (by omega) (Nat.le_of_ble_eq_true rfl) dX20_with_64 fun r5 h6 => ?_
            refine x_aload_n 2 dX20_with_67 rfl rfl ?_
            refine xg_X20_3 dX20_with_68 ?_
            refine xg_X20_58 dX20_with_71 ?_
            refine x_aload_n 2 dX20_with_74 rfl rfl ?_
            refine x_iload_n 3 dX20_with_75 rfl rfl ?_
            refine x_ic dX20_with_76 (by decide) (by decide) ?_
            refine x_iadd dX20_with_77 ?_
            refine x_iload 1 dX20_with_78 rfl ?_
            refine x_iload 0 dX20_with_80 rfl ?_
            refine x_aload_n 2 dX20_with_82 rfl rfl ?_
            refine x_iload_n 3 dX20_with_83 rfl rfl ?_
            refine x_iload_n 4 dX20_with_84 rfl rfl ?_
            refine x_iload 7 dX20_with_85 rfl ?_
            refine cl_X20_125 (by omega) (Nat.le_of_ble_eq_true rfl) dX20_with_87 fun r7 h8 => ?_
            refine cl_X20_62 (by omega) (Nat.le_of_ble_eq_true rfl) dX20_with_90 fun r9 h10 => ?_
            refine x_iald dX20_with_93 ?_
            refine x_iadd dX20_with_94 ?_
            exact x_iret rfl dX20_with_95
          · exact x_sub [] rfl (WF_X20_with_56 hdd h)
    · refine x_icmp_neF 25 dX20_with_18 (by decide) (fun _ => ?_) (fun _ => ?_)
      · refine x_ic dX20_with_25 (by decide) (by decide) ?_
        exact hJ _
      · refine x_ic dX20_with_21 (by decide) (by decide) ?_
        refine x_goto 26 dX20_with_22 (by decide) ?_
        exact hJ _
  · refine x_icmp_neF 10 dX20_with_3 (by decide) (fun _ => ?_) (fun _ => ?_)
    · refine x_ic dX20_with_10 (by decide) (by decide) ?_
      exact hJ _
    · refine x_ic dX20_with_6 (by decide) (by decide) ?_
      refine x_goto 11 dX20_with_7 (by decide) ?_
      exact hJ _
theorem SF_X20_with (l : Launch) {d : Nat} (hdd : 128 ≤ d) (x0 : Int) (x1 : Int) (x2 : Int) (x3 : Int) (x4 : Int) (x5 : Int) (h : XH) (hok : okH h) (ho : okXs (xn h) [(2, x0), (0, x1), (0, x2), (0, x3), (0, x4), (0, x5)]) (fin : XR) (hf : F_X20_with x0 x1 x2 x3 x4 x5 h = some fin) : xSpec l yX20_with cX20_with 8 (some .int) d 0 [(2, x0), (0, x1), (0, x2), (0, x3), (0, x4), (0, x5)] h fin := x_enter (lv := [(0, (2, x0)), (1, (0, x1)), (2, (0, x2)), (3, (0, x3)), (4, (0, x4)), (5, (0, x5))]) (by decide) rfl rfl (Nat.le_of_ble_eq_true rfl) rfl (fun Z _ => WF_X20_with hdd x0 x1 x2 x3 x4 x5 h) hok ho fin hf
theorem cl_X20_128 {ρ : Type} {fh : ρ → XH} {QQ : XZ ρ → State → Prop} {mn : String} {cc : ByteArray} {nL : Nat} {ret : Option FieldType} {d : Nat} {Z : XZ ρ} {pc : Nat} {lv : List (Nat × AV)} {st : List AV} {h : XH} {g : Int → XH → Option ρ} {b a0 a1 a2 a3 a4 : Int} (hdd : 129 ≤ d) (hcat : (st.map fun v => if v.1 = 1 then 2 else 1).sum ≤ 8) (hdg : decode cc pc = .ok (.invokevirtual 128, 3)) (kk : ∀ r h1, XG fh QQ RX20 mn cc nL ret d Z (pc + 3) lv ((0, r) :: st) h1 (g r h1)) : XG fh QQ RX20 mn cc nL ret d Z pc lv ((0, a4) :: (0, a3) :: (0, a2) :: (0, a1) :: (0, a0) :: (2, b) :: st) h (ob h b 18 (mb (F_X20_with b a0 a1 a2 a3 a4 h) g)) :=
  x_callVi [(0, a0), (0, a1), (0, a2), (0, a3), (0, a4)] 5 (WF_X20_with (Z := (Z.1, Z.2.1, ((0, h), h))) (Nat.le_refl 128) b a0 a1 a2 a3 a4 h).1 (fun hok ho fin hf => SF_X20_with (yL Z) (Nat.le_refl 128) b a0 a1 a2 a3 a4 h hok ho fin hf) RX20 18 rfl (by decide) (lw_V q1174 q1176 qs41 q158 q1177) ⟨rfl, by decide +kernel, by decide +kernel, by decide +kernel⟩ rfl (by omega) (by decide) rfl hcat hdg kk
noncomputable def F_X20_least_7 : Nat → Int → Int → Int → Int → Int → Int → Int → XH → Option XR
  | 0, _, _, _, _, _, _, _, _ => none
  | n + 1, x0, x1, x2, x3, x4, x5, x6, h => if 3 ≤ x6 then (some (x5, h)) else (ob h x0 18 <| mb (F_X20_with x0 x1 x6 x2 x3 x4 h) fun r1 h2 => nm (α := Int) (if r1 < x5 then r1 else x5) fun v3 => nm (w32 (x6 + 1)) fun v4 => F_X20_least_7 n x0 x1 x2 x3 x4 v3 v4 h2)
theorem WF_X20_least_7 {d : Nat} {Z : XZ XR} (hdd : 129 ≤ d) : ∀ n x0 x1 x2 x3 x4 x5 x6 h, XG xfh (xQ 0) RX20 "least" cX20_least 7 (some .int) d Z 7 [(0, (2, x0)), (1, (0, x1)), (2, (0, x2)), (3, (0, x3)), (4, (0, x4)), (5, (0, x5)), (6, (0, x6))] [] h (F_X20_least_7 n x0 x1 x2 x3 x4 x5 x6 h) := by
  intro n
  induction n with
  | zero => intro x0 x1 x2 x3 x4 x5 x6 h; exact x_none
  | succ n ih =>
    intro x0 x1 x2 x3 x4 x5 x6 h
    rw [F_X20_least_7]
    refine x_iload 6 dX20_least_7 rfl ?_
    refine x_ic dX20_least_9 (by decide) (by decide) ?_
    refine x_icmp_ge 37 dX20_least_10 (by decide) (fun _ => ?_) (fun _ => ?_)
    · refine x_iload 5 dX20_least_37 rfl ?_
      exact x_iret rfl dX20_least_39
    · refine x_iload 5 dX20_least_13 rfl ?_
      refine x_aload_n 0 dX20_least_15 rfl rfl ?_
      refine x_iload_n 1 dX20_least_16 rfl rfl ?_
      refine x_iload 6 dX20_least_17 rfl ?_
      refine x_iload_n 2 dX20_least_19 rfl rfl ?_
      refine x_iload_n 3 dX20_least_20 rfl rfl ?_
      refine x_iload 4 dX20_least_21 rfl ?_
      refine cl_X20_128 (by omega) (Nat.le_of_ble_eq_true rfl) dX20_least_23 fun r1 h2 => ?_
      refine x_mmin q1187 q364 q132 q365 (by omega) (Nat.le_of_ble_eq_true rfl) dX20_least_26 ?_
      refine x_nmT fun v3 => ?_
      refine x_istore (lv' := [(5, (0, v3)), (0, (2, x0)), (1, (0, x1)), (2, (0, x2)), (3, (0, x3)), (4, (0, x4)), (6, (0, x6))]) dX20_least_29 (by decide) rfl ?_
      refine x_iinc 6 dX20_least_31 rfl (by decide) fun v4 => x_lv (lv' := [(6, (0, v4)), (5, (0, v3)), (0, (2, x0)), (1, (0, x1)), (2, (0, x2)), (3, (0, x3)), (4, (0, x4))]) rfl ?_
      refine x_goto 7 dX20_least_34 (by decide) ?_
      exact x_sub [2, 3, 4, 5, 6, 1, 0] rfl (ih x0 x1 x2 x3 x4 v3 v4 h2)
noncomputable def F_X20_least (x0 : Int) (x1 : Int) (x2 : Int) (x3 : Int) (x4 : Int) (h : XH) : Option XR := F_X20_least_7 FU x0 x1 x2 x3 x4 1000000 0 h
theorem WF_X20_least {d : Nat} {Z : XZ XR} (hdd : 129 ≤ d) : ∀ x0 x1 x2 x3 x4 h, XG xfh (xQ 0) RX20 "least" cX20_least 7 (some .int) d Z 0 [(0, (2, x0)), (1, (0, x1)), (2, (0, x2)), (3, (0, x3)), (4, (0, x4))] [] h (F_X20_least x0 x1 x2 x3 x4 h) := by
  intro x0 x1 x2 x3 x4 h
  unfold F_X20_least
  refine x_ldc (n := 1000000) q1173 dX20_least_0 (by decide +kernel) ⟨by decide, by decide⟩ ?_
  refine x_istore (lv' := [(5, (0, 1000000)), (0, (2, x0)), (1, (0, x1)), (2, (0, x2)), (3, (0, x3)), (4, (0, x4))]) dX20_least_2 (by decide) rfl ?_
  refine x_ic dX20_least_4 (by decide) (by decide) ?_
  refine x_istore (lv' := [(6, (0, 0)), (5, (0, 1000000)), (0, (2, x0)), (1, (0, x1)), (2, (0, x2)), (3, (0, x3)), (4, (0, x4))]) dX20_least_5 (by decide) rfl ?_
  exact x_sub [2, 3, 4, 5, 6, 1, 0] rfl (WF_X20_least_7 hdd FU x0 x1 x2 x3 x4 1000000 0 h)
theorem SF_X20_least (l : Launch) {d : Nat} (hdd : 129 ≤ d) (x0 : Int) (x1 : Int) (x2 : Int) (x3 : Int) (x4 : Int) (h : XH) (hok : okH h) (ho : okXs (xn h) [(2, x0), (0, x1), (0, x2), (0, x3), (0, x4)]) (fin : XR) (hf : F_X20_least x0 x1 x2 x3 x4 h = some fin) : xSpec l yX20_least cX20_least 7 (some .int) d 0 [(2, x0), (0, x1), (0, x2), (0, x3), (0, x4)] h fin := x_enter (lv := [(0, (2, x0)), (1, (0, x1)), (2, (0, x2)), (3, (0, x3)), (4, (0, x4))]) (by decide) rfl rfl (Nat.le_of_ble_eq_true rfl) rfl (fun Z _ => WF_X20_least hdd x0 x1 x2 x3 x4 h) hok ho fin hf
theorem xg_X18_9 {ρ : Type} {fh : ρ → XH} {QQ : XZ ρ → State → Prop} {mn : String} {cc : ByteArray} {nL : Nat} {ret : Option FieldType} {d : Nat} {Z : XZ ρ} {pc : Nat} {lv : List (Nat × AV)} {st : List AV} {h : XH} {res : Option ρ} {a : Int} (hd : decode cc pc = .ok (.getfield 9, 3)) (kk : XG fh QQ RX18 mn cc nL ret d Z (pc + 3) lv ((2, xv h a 0) :: st) h res) : XG fh QQ RX18 mn cc nL ret d Z pc lv ((2, a) :: st) h (ob h a 16 res) := x_get (C := RX18) (ref := RX18) 16 0 rfl in_X18 (by decide) rfl (by decide) (Or.inl rfl) q1014 hd kk
noncomputable def F_X18_greatest_37 (K4 : Int → Int → Int → Int → XH → Option XR) (x0 : Int) (x1 : Int) (x2 : Int) (x3 : Int) (h : XH) : Option XR := nm (w32 (x3 + 1)) fun v1 => K4 x0 x1 x2 v1 h
theorem WF_X18_greatest_37 {d : Nat} {Z : XZ XR} (hdd : 1 ≤ d) {K4 : Int → Int → Int → Int → XH → Option XR} (hK4 : ∀ x0 x1 x2 x3 h, XG xfh (xQ 0) RX18 "greatest" cX18_greatest 4 (some .int) d Z 4 [(0, (2, x0)), (1, (2, x1)), (2, (0, x2)), (3, (0, x3))] [] h (K4 x0 x1 x2 x3 h)) : ∀ x0 x1 x2 x3 h, XG xfh (xQ 0) RX18 "greatest" cX18_greatest 4 (some .int) d Z 37 [(0, (2, x0)), (1, (2, x1)), (2, (0, x2)), (3, (0, x3))] [] h (F_X18_greatest_37 K4 x0 x1 x2 x3 h) := by
  intro x0 x1 x2 x3 h
  unfold F_X18_greatest_37
  refine x_iinc 3 dX18_greatest_37 rfl (by decide) fun v1 => x_lv (lv' := [(3, (0, v1)), (0, (2, x0)), (1, (2, x1)), (2, (0, x2))]) rfl ?_
  refine x_goto 4 dX18_greatest_40 (by decide) ?_
  exact x_sub [1, 2, 3, 0] rfl (hK4 x0 x1 x2 v1 h)
noncomputable def F_X18_greatest_35 (K4 : Int → Int → Int → Int → XH → Option XR) (x0 : Int) (x1 : Int) (x3 : Int) (h : XH) : Option XR := F_X18_greatest_37 K4 x0 x1 x3 x3 h
theorem WF_X18_greatest_35 {d : Nat} {Z : XZ XR} (hdd : 1 ≤ d) {K4 : Int → Int → Int → Int → XH → Option XR} (hK4 : ∀ x0 x1 x2 x3 h, XG xfh (xQ 0) RX18 "greatest" cX18_greatest 4 (some .int) d Z 4 [(0, (2, x0)), (1, (2, x1)), (2, (0, x2)), (3, (0, x3))] [] h (K4 x0 x1 x2 x3 h)) : ∀ x0 x1 x3 h, XG xfh (xQ 0) RX18 "greatest" cX18_greatest 4 (some .int) d Z 35 [(0, (2, x0)), (1, (2, x1)), (3, (0, x3))] [] h (F_X18_greatest_35 K4 x0 x1 x3 h) := by
  intro x0 x1 x3 h
  unfold F_X18_greatest_35
  refine x_iload_n 2 dX18_greatest_35 rfl rfl ?_
  refine x_istore_n (lv' := [(2, (0, x3)), (0, (2, x0)), (1, (2, x1)), (3, (0, x3))]) dX18_greatest_36 rfl (by decide) rfl ?_
  exact x_sub [1, 2, 0, 3] rfl (WF_X18_greatest_37 hdd hK4 x0 x1 x3 x3 h)
noncomputable def F_X18_greatest_4 : Nat → Int → Int → Int → Int → XH → Option XR
  | 0, _, _, _, _, _ => none
  | n + 1, x0, x1, x2, x3, h => if 3 ≤ x3 then (some (x2, h)) else (ai h x1 0 x3 <| if xv h x1 x3 ≤ 0 then (F_X18_greatest_37 (F_X18_greatest_4 n) x0 x1 x2 x3 h) else (if x2 = (-1) then (F_X18_greatest_35 (F_X18_greatest_4 n) x0 x1 x3 h) else (ob h x0 16 <| ai h (xv h x0 0) 0 x3 <| ob h x0 16 <| ai h (xv h x0 0) 0 x2 <| if xv h (xv h x0 0) x3 ≤ xv h (xv h x0 0) x2 then (F_X18_greatest_37 (F_X18_greatest_4 n) x0 x1 x2 x3 h) else (F_X18_greatest_35 (F_X18_greatest_4 n) x0 x1 x3 h))))
theorem WF_X18_greatest_4 {d : Nat} {Z : XZ XR} (hdd : 1 ≤ d) : ∀ n x0 x1 x2 x3 h, XG xfh (xQ 0) RX18 "greatest" cX18_greatest 4 (some .int) d Z 4 [(0, (2, x0)), (1, (2, x1)), (2, (0, x2)), (3, (0, x3))] [] h (F_X18_greatest_4 n x0 x1 x2 x3 h) := by
  intro n
  induction n with
  | zero => intro x0 x1 x2 x3 h; exact x_none
  | succ n ih =>
    intro x0 x1 x2 x3 h
    rw [F_X18_greatest_4]
    refine x_iload_n 3 dX18_greatest_4 rfl rfl ?_
    refine x_ic dX18_greatest_5 (by decide) (by decide) ?_
    refine x_icmp_ge 43 dX18_greatest_6 (by decide) (fun _ => ?_) (fun _ => ?_)
    · refine x_iload_n 2 dX18_greatest_43 rfl rfl ?_
      exact x_iret rfl dX18_greatest_44
    · refine x_aload_n 1 dX18_greatest_9 rfl rfl ?_
      refine x_iload_n 3 dX18_greatest_10 rfl rfl ?_
      refine x_iald dX18_greatest_11 ?_
      refine x_if_le 37 dX18_greatest_12 (by decide) (fun _ => ?_) (fun _ => ?_)
      · exact x_sub [0, 1, 2, 3] rfl (WF_X18_greatest_37 hdd ih x0 x1 x2 x3 h)
      · refine x_iload_n 2 dX18_greatest_15 rfl rfl ?_
        refine x_ic dX18_greatest_16 (by decide) (by decide) ?_
        refine x_icmp_eq 35 dX18_greatest_17 (by decide) (fun _ => ?_) (fun _ => ?_)
        · exact x_sub [0, 1, 3] rfl (WF_X18_greatest_35 hdd ih x0 x1 x3 h)
        · refine x_aload_n 0 dX18_greatest_20 rfl rfl ?_
          refine xg_X18_9 dX18_greatest_21 ?_
          refine x_iload_n 3 dX18_greatest_24 rfl rfl ?_
          refine x_iald dX18_greatest_25 ?_
          refine x_aload_n 0 dX18_greatest_26 rfl rfl ?_
          refine xg_X18_9 dX18_greatest_27 ?_
          refine x_iload_n 2 dX18_greatest_30 rfl rfl ?_
          refine x_iald dX18_greatest_31 ?_
          refine x_icmp_le 37 dX18_greatest_32 (by decide) (fun _ => ?_) (fun _ => ?_)
          · exact x_sub [0, 1, 2, 3] rfl (WF_X18_greatest_37 hdd ih x0 x1 x2 x3 h)
          · exact x_sub [0, 1, 3] rfl (WF_X18_greatest_35 hdd ih x0 x1 x3 h)
noncomputable def F_X18_greatest (x0 : Int) (x1 : Int) (h : XH) : Option XR := F_X18_greatest_4 FU x0 x1 (-1) 0 h
theorem WF_X18_greatest {d : Nat} {Z : XZ XR} (hdd : 1 ≤ d) : ∀ x0 x1 h, XG xfh (xQ 0) RX18 "greatest" cX18_greatest 4 (some .int) d Z 0 [(0, (2, x0)), (1, (2, x1))] [] h (F_X18_greatest x0 x1 h) := by
  intro x0 x1 h
  unfold F_X18_greatest
  refine x_ic dX18_greatest_0 (by decide) (by decide) ?_
  refine x_istore_n (lv' := [(2, (0, (-1))), (0, (2, x0)), (1, (2, x1))]) dX18_greatest_1 rfl (by decide) rfl ?_
  refine x_ic dX18_greatest_2 (by decide) (by decide) ?_
  refine x_istore_n (lv' := [(3, (0, 0)), (2, (0, (-1))), (0, (2, x0)), (1, (2, x1))]) dX18_greatest_3 rfl (by decide) rfl ?_
  exact x_sub [2, 3, 1, 0] rfl (WF_X18_greatest_4 hdd FU x0 x1 (-1) 0 h)
theorem SF_X18_greatest (l : Launch) {d : Nat} (hdd : 1 ≤ d) (x0 : Int) (x1 : Int) (h : XH) (hok : okH h) (ho : okXs (xn h) [(2, x0), (2, x1)]) (fin : XR) (hf : F_X18_greatest x0 x1 h = some fin) : xSpec l yX18_greatest cX18_greatest 4 (some .int) d 0 [(2, x0), (2, x1)] h fin := x_enter (lv := [(0, (2, x0)), (1, (2, x1))]) (by decide) rfl rfl (Nat.le_of_ble_eq_true rfl) rfl (fun Z _ => WF_X18_greatest hdd x0 x1 h) hok ho fin hf
theorem cl_X18_19 {ρ : Type} {fh : ρ → XH} {QQ : XZ ρ → State → Prop} {mn : String} {cc : ByteArray} {nL : Nat} {ret : Option FieldType} {d : Nat} {Z : XZ ρ} {pc : Nat} {lv : List (Nat × AV)} {st : List AV} {h : XH} {g : Int → XH → Option ρ} {b a0 : Int} (hdd : 2 ≤ d) (hcat : (st.map fun v => if v.1 = 1 then 2 else 1).sum ≤ 8) (hdg : decode cc pc = .ok (.invokevirtual 19, 3)) (kk : ∀ r h1, XG fh QQ RX18 mn cc nL ret d Z (pc + 3) lv ((0, r) :: st) h1 (g r h1)) : XG fh QQ RX18 mn cc nL ret d Z pc lv ((2, a0) :: (2, b) :: st) h (ob h b 16 (mb (F_X18_greatest b a0 h) g)) :=
  x_callVi [(2, a0)] 1 (WF_X18_greatest (Z := (Z.1, Z.2.1, ((0, h), h))) (Nat.le_refl 1) b a0 h).1 (fun hok ho fin hf => SF_X18_greatest (yL Z) (Nat.le_refl 1) b a0 h hok ho fin hf) RX18 16 rfl (by decide) (lw_V q1074 q1076 qs35 q156 q1077) ⟨rfl, by decide +kernel, by decide +kernel, by decide +kernel⟩ rfl (by omega) (by decide) rfl hcat hdg kk
theorem xg_X18_15 {ρ : Type} {fh : ρ → XH} {QQ : XZ ρ → State → Prop} {mn : String} {cc : ByteArray} {nL : Nat} {ret : Option FieldType} {d : Nat} {Z : XZ ρ} {pc : Nat} {lv : List (Nat × AV)} {st : List AV} {h : XH} {res : Option ρ} {a : Int} (hd : decode cc pc = .ok (.getfield 15, 3)) (kk : XG fh QQ RX18 mn cc nL ret d Z (pc + 3) lv ((0, xv h a 1) :: st) h res) : XG fh QQ RX18 mn cc nL ret d Z pc lv ((2, a) :: st) h (ob h a 16 res) := x_get (C := RX18) (ref := RX18) 16 1 rfl in_X18 (by decide) rfl (by decide) (Or.inl rfl) q1015 hd kk
noncomputable def F_X18_of_154 (K38 : Int → Int → Int → Int → XH → Option XR) (K74 : Int → Int → Int → Int → Int → Int → XH → Option XR) (s0 : Int) (s1 : Int) (s2 : Int) (s3 : Int) (x0 : Int) (x2 : Int) (x3 : Int) (x4 : Int) (x5 : Int) (x6 : Int) (h : XH) : Option XR := ai h s0 1 s1 <| nm (hset h s0 s1 (w64 (s2 + s3))) fun h1 => nm (w32 (x6 + (-1))) fun v2 => K74 x0 x2 x3 x4 x5 v2 h1
theorem WF_X18_of_154 {d : Nat} {Z : XZ XR} (hdd : 2 ≤ d) {K38 : Int → Int → Int → Int → XH → Option XR} (hK38 : ∀ x0 x2 x3 x4 h, XG xfh (xQ 3) RX18 "of" cX18_of 9 (some (.array .long)) d Z 38 [(0, (2, x0)), (2, (2, x2)), (3, (2, x3)), (4, (0, x4))] [] h (K38 x0 x2 x3 x4 h)) {K74 : Int → Int → Int → Int → Int → Int → XH → Option XR} (hK74 : ∀ x0 x2 x3 x4 x5 x6 h, XG xfh (xQ 3) RX18 "of" cX18_of 9 (some (.array .long)) d Z 74 [(0, (2, x0)), (2, (2, x2)), (3, (2, x3)), (4, (0, x4)), (5, (0, x5)), (6, (0, x6))] [] h (K74 x0 x2 x3 x4 x5 x6 h)) : ∀ s0 s1 s2 s3 x0 x2 x3 x4 x5 x6 h, XG xfh (xQ 3) RX18 "of" cX18_of 9 (some (.array .long)) d Z 154 [(0, (2, x0)), (2, (2, x2)), (3, (2, x3)), (4, (0, x4)), (5, (0, x5)), (6, (0, x6))] [(1, s3), (1, s2), (0, s1), (2, s0)] h (F_X18_of_154 K38 K74 s0 s1 s2 s3 x0 x2 x3 x4 x5 x6 h) := by
  intro s0 s1 s2 s3 x0 x2 x3 x4 x5 x6 h
  unfold F_X18_of_154
  refine x_ladd dX18_of_154 ?_
  refine x_last dX18_of_155 fun h1 => ?_
  refine x_iinc 5 dX18_of_156 rfl (by decide) fun v2 => x_lv (lv' := [(6, (0, v2)), (0, (2, x0)), (2, (2, x2)), (3, (2, x3)), (4, (0, x4)), (5, (0, x5))]) rfl ?_
  refine x_goto 74 dX18_of_159 (by decide) ?_
  exact x_sub [1, 2, 3, 4, 5, 0] rfl (hK74 x0 x2 x3 x4 x5 v2 h1)
noncomputable def F_X18_of_153 (K38 : Int → Int → Int → Int → XH → Option XR) (K74 : Int → Int → Int → Int → Int → Int → XH → Option XR) (s0 : Int) (s1 : Int) (s2 : Int) (x0 : Int) (x2 : Int) (x3 : Int) (x4 : Int) (x5 : Int) (x6 : Int) (h : XH) : Option XR := F_X18_of_154 K38 K74 s0 s1 s2 0 x0 x2 x3 x4 x5 x6 h
theorem WF_X18_of_153 {d : Nat} {Z : XZ XR} (hdd : 2 ≤ d) {K38 : Int → Int → Int → Int → XH → Option XR} (hK38 : ∀ x0 x2 x3 x4 h, XG xfh (xQ 3) RX18 "of" cX18_of 9 (some (.array .long)) d Z 38 [(0, (2, x0)), (2, (2, x2)), (3, (2, x3)), (4, (0, x4))] [] h (K38 x0 x2 x3 x4 h)) {K74 : Int → Int → Int → Int → Int → Int → XH → Option XR} (hK74 : ∀ x0 x2 x3 x4 x5 x6 h, XG xfh (xQ 3) RX18 "of" cX18_of 9 (some (.array .long)) d Z 74 [(0, (2, x0)), (2, (2, x2)), (3, (2, x3)), (4, (0, x4)), (5, (0, x5)), (6, (0, x6))] [] h (K74 x0 x2 x3 x4 x5 x6 h)) : ∀ s0 s1 s2 x0 x2 x3 x4 x5 x6 h, XG xfh (xQ 3) RX18 "of" cX18_of 9 (some (.array .long)) d Z 153 [(0, (2, x0)), (2, (2, x2)), (3, (2, x3)), (4, (0, x4)), (5, (0, x5)), (6, (0, x6))] [(1, s2), (0, s1), (2, s0)] h (F_X18_of_153 K38 K74 s0 s1 s2 x0 x2 x3 x4 x5 x6 h) := by
  intro s0 s1 s2 x0 x2 x3 x4 x5 x6 h
  unfold F_X18_of_153
  refine x_l0 dX18_of_153 ?_
  exact x_sub [0, 1, 2, 3, 4, 5] rfl (WF_X18_of_154 hdd hK38 hK74 s0 s1 s2 0 x0 x2 x3 x4 x5 x6 h)
noncomputable def F_X18_of_117 (K38 : Int → Int → Int → Int → XH → Option XR) (K74 : Int → Int → Int → Int → Int → Int → XH → Option XR) (s0 : Int) (x0 : Int) (x2 : Int) (x3 : Int) (x4 : Int) (x5 : Int) (x6 : Int) (h : XH) : Option XR := if x6 ≤ 0 then (F_X18_of_153 K38 K74 x2 x6 s0 x0 x2 x3 x4 x5 x6 h) else (if x5 = (-1) then (F_X18_of_153 K38 K74 x2 x6 s0 x0 x2 x3 x4 x5 x6 h) else (ai h x2 1 (w32 (x6 - 1)) <| ob h x0 16 <| ai h (xv h x0 0) 0 x5 <| F_X18_of_154 K38 K74 x2 x6 s0 (w64 ((xv h x2 (w32 (x6 - 1))) * (xv h (xv h x0 0) x5))) x0 x2 x3 x4 x5 x6 h))
theorem WF_X18_of_117 {d : Nat} {Z : XZ XR} (hdd : 2 ≤ d) {K38 : Int → Int → Int → Int → XH → Option XR} (hK38 : ∀ x0 x2 x3 x4 h, XG xfh (xQ 3) RX18 "of" cX18_of 9 (some (.array .long)) d Z 38 [(0, (2, x0)), (2, (2, x2)), (3, (2, x3)), (4, (0, x4))] [] h (K38 x0 x2 x3 x4 h)) {K74 : Int → Int → Int → Int → Int → Int → XH → Option XR} (hK74 : ∀ x0 x2 x3 x4 x5 x6 h, XG xfh (xQ 3) RX18 "of" cX18_of 9 (some (.array .long)) d Z 74 [(0, (2, x0)), (2, (2, x2)), (3, (2, x3)), (4, (0, x4)), (5, (0, x5)), (6, (0, x6))] [] h (K74 x0 x2 x3 x4 x5 x6 h)) : ∀ s0 x0 x2 x3 x4 x5 x6 h, XG xfh (xQ 3) RX18 "of" cX18_of 9 (some (.array .long)) d Z 117 [(0, (2, x0)), (2, (2, x2)), (3, (2, x3)), (4, (0, x4)), (5, (0, x5)), (6, (0, x6))] [(1, s0)] h (F_X18_of_117 K38 K74 s0 x0 x2 x3 x4 x5 x6 h) := by
  intro s0 x0 x2 x3 x4 x5 x6 h
  unfold F_X18_of_117
  refine x_lstore (lv' := [(7, (1, s0)), (0, (2, x0)), (2, (2, x2)), (3, (2, x3)), (4, (0, x4)), (5, (0, x5)), (6, (0, x6))]) dX18_of_117 (by decide) rfl ?_
  refine x_aload_n 2 dX18_of_119 rfl rfl ?_
  refine x_iload 6 dX18_of_120 rfl ?_
  refine x_lload 0 dX18_of_122 rfl ?_
  refine x_iload 6 dX18_of_124 rfl ?_
  refine x_if_le 153 dX18_of_126 (by decide) (fun _ => ?_) (fun _ => ?_)
  · exact x_sub [1, 2, 3, 4, 5, 6] rfl (WF_X18_of_153 hdd hK38 hK74 x2 x6 s0 x0 x2 x3 x4 x5 x6 h)
  · refine x_iload 5 dX18_of_129 rfl ?_
    refine x_ic dX18_of_131 (by decide) (by decide) ?_
    refine x_icmp_eq 153 dX18_of_132 (by decide) (fun _ => ?_) (fun _ => ?_)
    · exact x_sub [1, 2, 3, 4, 5, 6] rfl (WF_X18_of_153 hdd hK38 hK74 x2 x6 s0 x0 x2 x3 x4 x5 x6 h)
    · refine x_aload_n 2 dX18_of_135 rfl rfl ?_
      refine x_iload 6 dX18_of_136 rfl ?_
      refine x_ic dX18_of_138 (by decide) (by decide) ?_
      refine x_isub dX18_of_139 ?_
      refine x_lald dX18_of_140 ?_
      refine x_aload_n 1 dX18_of_141 rfl rfl ?_
      refine xg_X18_9 dX18_of_142 ?_
      refine x_iload 5 dX18_of_145 rfl ?_
      refine x_iald dX18_of_147 ?_
      refine x_i2l dX18_of_148 ?_
      refine x_lmul dX18_of_149 ?_
      refine x_goto 154 dX18_of_150 (by decide) ?_
      exact x_sub [1, 2, 3, 4, 5, 6] rfl (WF_X18_of_154 hdd hK38 hK74 x2 x6 s0 (w64 ((xv h x2 (w32 (x6 - 1))) * (xv h (xv h x0 0) x5))) x0 x2 x3 x4 x5 x6 h)
noncomputable def F_X18_of_111 (K38 : Int → Int → Int → Int → XH → Option XR) (K74 : Int → Int → Int → Int → Int → Int → XH → Option XR) (s0 : Int) (s1 : Int) (x0 : Int) (x2 : Int) (x3 : Int) (x4 : Int) (x5 : Int) (x6 : Int) (h : XH) : Option XR := F_X18_of_117 K38 K74 (w64 (s0 * s1)) x0 x2 x3 x4 x5 x6 h
theorem WF_X18_of_111 {d : Nat} {Z : XZ XR} (hdd : 2 ≤ d) {K38 : Int → Int → Int → Int → XH → Option XR} (hK38 : ∀ x0 x2 x3 x4 h, XG xfh (xQ 3) RX18 "of" cX18_of 9 (some (.array .long)) d Z 38 [(0, (2, x0)), (2, (2, x2)), (3, (2, x3)), (4, (0, x4))] [] h (K38 x0 x2 x3 x4 h)) {K74 : Int → Int → Int → Int → Int → Int → XH → Option XR} (hK74 : ∀ x0 x2 x3 x4 x5 x6 h, XG xfh (xQ 3) RX18 "of" cX18_of 9 (some (.array .long)) d Z 74 [(0, (2, x0)), (2, (2, x2)), (3, (2, x3)), (4, (0, x4)), (5, (0, x5)), (6, (0, x6))] [] h (K74 x0 x2 x3 x4 x5 x6 h)) : ∀ s0 s1 x0 x2 x3 x4 x5 x6 h, XG xfh (xQ 3) RX18 "of" cX18_of 9 (some (.array .long)) d Z 111 [(0, (2, x0)), (2, (2, x2)), (3, (2, x3)), (4, (0, x4)), (5, (0, x5)), (6, (0, x6))] [(0, s1), (1, s0)] h (F_X18_of_111 K38 K74 s0 s1 x0 x2 x3 x4 x5 x6 h) := by
  intro s0 s1 x0 x2 x3 x4 x5 x6 h
  unfold F_X18_of_111
  refine x_i2l dX18_of_111 ?_
  refine x_lmul dX18_of_112 ?_
  refine x_goto 117 dX18_of_113 (by decide) ?_
  exact x_sub [0, 1, 2, 3, 4, 5] rfl (WF_X18_of_117 hdd hK38 hK74 (w64 (s0 * s1)) x0 x2 x3 x4 x5 x6 h)
noncomputable def F_X18_of_162 (K38 : Int → Int → Int → Int → XH → Option XR) (x0 : Int) (x2 : Int) (x3 : Int) (x4 : Int) (h : XH) : Option XR := nm (w32 (x4 + 1)) fun v1 => K38 x0 x2 x3 v1 h
theorem WF_X18_of_162 {d : Nat} {Z : XZ XR} (hdd : 2 ≤ d) {K38 : Int → Int → Int → Int → XH → Option XR} (hK38 : ∀ x0 x2 x3 x4 h, XG xfh (xQ 3) RX18 "of" cX18_of 9 (some (.array .long)) d Z 38 [(0, (2, x0)), (2, (2, x2)), (3, (2, x3)), (4, (0, x4))] [] h (K38 x0 x2 x3 x4 h)) : ∀ x0 x2 x3 x4 h, XG xfh (xQ 3) RX18 "of" cX18_of 9 (some (.array .long)) d Z 162 [(0, (2, x0)), (2, (2, x2)), (3, (2, x3)), (4, (0, x4))] [] h (F_X18_of_162 K38 x0 x2 x3 x4 h) := by
  intro x0 x2 x3 x4 h
  unfold F_X18_of_162
  refine x_iinc 3 dX18_of_162 rfl (by decide) fun v1 => x_lv (lv' := [(4, (0, v1)), (0, (2, x0)), (2, (2, x2)), (3, (2, x3))]) rfl ?_
  refine x_goto 38 dX18_of_165 (by decide) ?_
  exact x_sub [1, 2, 3, 0] rfl (hK38 x0 x2 x3 v1 h)
noncomputable def F_X18_of_74 (K38 : Int → Int → Int → Int → XH → Option XR) : Nat → Int → Int → Int → Int → Int → Int → XH → Option XR
  | 0, _, _, _, _, _, _, _ => none
  | n + 1, x0, x2, x3, x4, x5, x6, h => if x6 < 0 then (F_X18_of_162 K38 x0 x2 x3 x4 h) else (if x4 < x6 then (F_X18_of_117 K38 (F_X18_of_74 K38 n) 0 x0 x2 x3 x4 x5 x6 h) else (ai h x2 1 x6 <| if x5 = (-1) then (F_X18_of_111 K38 (F_X18_of_74 K38 n) (xv h x2 x6) 100 x0 x2 x3 x4 x5 x6 h) else (ob h x0 16 <| ai h (xv h x0 0) 0 x5 <| F_X18_of_111 K38 (F_X18_of_74 K38 n) (xv h x2 x6) (w32 (100 - (xv h (xv h x0 0) x5))) x0 x2 x3 x4 x5 x6 h)))
theorem WF_X18_of_74 {d : Nat} {Z : XZ XR} (hdd : 2 ≤ d) {K38 : Int → Int → Int → Int → XH → Option XR} (hK38 : ∀ x0 x2 x3 x4 h, XG xfh (xQ 3) RX18 "of" cX18_of 9 (some (.array .long)) d Z 38 [(0, (2, x0)), (2, (2, x2)), (3, (2, x3)), (4, (0, x4))] [] h (K38 x0 x2 x3 x4 h)) : ∀ n x0 x2 x3 x4 x5 x6 h, XG xfh (xQ 3) RX18 "of" cX18_of 9 (some (.array .long)) d Z 74 [(0, (2, x0)), (2, (2, x2)), (3, (2, x3)), (4, (0, x4)), (5, (0, x5)), (6, (0, x6))] [] h (F_X18_of_74 K38 n x0 x2 x3 x4 x5 x6 h) := by
  intro n
  induction n with
  | zero => intro x0 x2 x3 x4 x5 x6 h; exact x_none
  | succ n ih =>
    intro x0 x2 x3 x4 x5 x6 h
    rw [F_X18_of_74]
    refine x_iload 5 dX18_of_74 rfl ?_
    refine x_if_lt 162 dX18_of_76 (by decide) (fun _ => ?_) (fun _ => ?_)
    · exact x_sub [0, 1, 2, 3] rfl (WF_X18_of_162 hdd hK38 x0 x2 x3 x4 h)
    · refine x_iload 5 dX18_of_79 rfl ?_
      refine x_iload 3 dX18_of_81 rfl ?_
      refine x_icmp_gt 116 dX18_of_83 (by decide) (fun _ => ?_) (fun _ => ?_)
      · refine x_l0 dX18_of_116 ?_
        exact x_sub [0, 1, 2, 3, 4, 5] rfl (WF_X18_of_117 hdd hK38 ih 0 x0 x2 x3 x4 x5 x6 h)
      · refine x_aload_n 1 dX18_of_86 rfl rfl ?_
        refine x_iload 5 dX18_of_87 rfl ?_
        refine x_lald dX18_of_89 ?_
        refine x_iload 4 dX18_of_90 rfl ?_
        refine x_ic dX18_of_92 (by decide) (by decide) ?_
        refine x_icmp_ne 101 dX18_of_93 (by decide) (fun _ => ?_) (fun _ => ?_)
        · refine x_bp dX18_of_101 (by decide) (by decide) ?_
          refine x_aload_n 0 dX18_of_103 rfl rfl ?_
          refine xg_X18_9 dX18_of_104 ?_
          refine x_iload 4 dX18_of_107 rfl ?_
          refine x_iald dX18_of_109 ?_
          refine x_isub dX18_of_110 ?_
          exact x_sub [0, 1, 2, 3, 4, 5] rfl (WF_X18_of_111 hdd hK38 ih (xv h x2 x6) (w32 (100 - (xv h (xv h x0 0) x5))) x0 x2 x3 x4 x5 x6 h)
        · refine x_bp dX18_of_96 (by decide) (by decide) ?_
          refine x_goto 111 dX18_of_98 (by decide) ?_
          exact x_sub [0, 1, 2, 3, 4, 5] rfl (WF_X18_of_111 hdd hK38 ih (xv h x2 x6) 100 x0 x2 x3 x4 x5 x6 h)
noncomputable def F_X18_of_68 (K38 : Int → Int → Int → Int → XH → Option XR) (x0 : Int) (x2 : Int) (x3 : Int) (x4 : Int) (x5 : Int) (h : XH) : Option XR := nm (α := Int) (w32 (x4 + 1)) fun v1 => F_X18_of_74 K38 FU x0 x2 x3 x4 x5 v1 h
theorem WF_X18_of_68 {d : Nat} {Z : XZ XR} (hdd : 2 ≤ d) {K38 : Int → Int → Int → Int → XH → Option XR} (hK38 : ∀ x0 x2 x3 x4 h, XG xfh (xQ 3) RX18 "of" cX18_of 9 (some (.array .long)) d Z 38 [(0, (2, x0)), (2, (2, x2)), (3, (2, x3)), (4, (0, x4))] [] h (K38 x0 x2 x3 x4 h)) : ∀ x0 x2 x3 x4 x5 h, XG xfh (xQ 3) RX18 "of" cX18_of 9 (some (.array .long)) d Z 68 [(0, (2, x0)), (2, (2, x2)), (3, (2, x3)), (4, (0, x4)), (5, (0, x5))] [] h (F_X18_of_68 K38 x0 x2 x3 x4 x5 h) := by
  intro x0 x2 x3 x4 x5 h
  unfold F_X18_of_68
  refine x_iload 3 dX18_of_68 rfl ?_
  refine x_ic dX18_of_70 (by decide) (by decide) ?_
  refine x_iadd dX18_of_71 ?_
  refine x_nmT fun v1 => ?_
  refine x_istore (lv' := [(6, (0, v1)), (0, (2, x0)), (2, (2, x2)), (3, (2, x3)), (4, (0, x4)), (5, (0, x5))]) dX18_of_72 (by decide) rfl ?_
  exact x_sub [1, 2, 3, 4, 5, 0] rfl (WF_X18_of_74 hdd hK38 FU x0 x2 x3 x4 x5 v1 h)
noncomputable def F_X18_of_38 : Nat → Int → Int → Int → Int → XH → Option XR
  | 0, _, _, _, _, _ => none
  | n + 1, x0, x2, x3, x4, h => ob h x0 16 <| if xv h x0 1 ≤ x4 then (some (x2, h)) else (ob h x0 16 <| mb (F_X18_greatest x0 x3 h) fun r1 h2 => if r1 = (-1) then (F_X18_of_68 (F_X18_of_38 n) x0 x2 x3 x4 r1 h2) else (ai h2 x3 0 r1 <| ai h2 x3 0 r1 <| nm (hset h2 x3 r1 (w32 ((xv h2 x3 r1) - 1))) fun h3 => F_X18_of_68 (F_X18_of_38 n) x0 x2 x3 x4 r1 h3))
theorem WF_X18_of_38 {d : Nat} {Z : XZ XR} (hdd : 2 ≤ d) : ∀ n x0 x2 x3 x4 h, XG xfh (xQ 3) RX18 "of" cX18_of 9 (some (.array .long)) d Z 38 [(0, (2, x0)), (2, (2, x2)), (3, (2, x3)), (4, (0, x4))] [] h (F_X18_of_38 n x0 x2 x3 x4 h) := by
  intro n
  induction n with
  | zero => intro x0 x2 x3 x4 h; exact x_none
  | succ n ih =>
    intro x0 x2 x3 x4 h
    rw [F_X18_of_38]
    refine x_iload 3 dX18_of_38 rfl ?_
    refine x_aload_n 0 dX18_of_40 rfl rfl ?_
    refine xg_X18_15 dX18_of_41 ?_
    refine x_icmp_ge 168 dX18_of_44 (by decide) (fun _ => ?_) (fun _ => ?_)
    · refine x_aload_n 1 dX18_of_168 rfl rfl ?_
      exact x_aret rfl (Or.inr ⟨_, rfl⟩) dX18_of_169
    · refine x_aload_n 0 dX18_of_47 rfl rfl ?_
      refine x_aload_n 2 dX18_of_48 rfl rfl ?_
      refine cl_X18_19 (by omega) (Nat.le_of_ble_eq_true rfl) dX18_of_49 fun r1 h2 => ?_
      refine x_istore (lv' := [(5, (0, r1)), (0, (2, x0)), (2, (2, x2)), (3, (2, x3)), (4, (0, x4))]) dX18_of_52 (by decide) rfl ?_
      refine x_iload 0 dX18_of_54 rfl ?_
      refine x_ic dX18_of_56 (by decide) (by decide) ?_
      refine x_icmp_eq 68 dX18_of_57 (by decide) (fun _ => ?_) (fun _ => ?_)
      · exact x_sub [1, 2, 3, 4, 0] rfl (WF_X18_of_68 hdd ih x0 x2 x3 x4 r1 h2)
      · refine x_aload_n 3 dX18_of_60 rfl rfl ?_
        refine x_iload 0 dX18_of_61 rfl ?_
        refine x_dup2 dX18_of_63 rfl rfl ?_
        refine x_iald dX18_of_64 ?_
        refine x_ic dX18_of_65 (by decide) (by decide) ?_
        refine x_isub dX18_of_66 ?_
        refine x_iast dX18_of_67 fun h3 => ?_
        exact x_sub [1, 2, 3, 4, 0] rfl (WF_X18_of_68 hdd ih x0 x2 x3 x4 r1 h3)
noncomputable def F_X18_of (x0 : Int) (x1 : Int) (h : XH) : Option XR := ob h x0 16 <| na h 1 (w32 ((xv h x0 1) + 1)) fun r1 h2 => ai h2 r1 1 0 <| nm (hset h2 r1 0 1) fun h3 => na h3 0 3 fun r4 h5 => ai h5 x1 0 0 <| ai h5 r4 0 0 <| nm (hset h5 r4 0 (xv h5 x1 0)) fun h6 => ai h6 x1 0 1 <| ai h6 r4 0 1 <| nm (hset h6 r4 1 (xv h6 x1 1)) fun h7 => ai h7 x1 0 2 <| ai h7 r4 0 2 <| nm (hset h7 r4 2 (xv h7 x1 2)) fun h8 => F_X18_of_38 FU x0 r1 r4 0 h8
theorem WF_X18_of {d : Nat} {Z : XZ XR} (hdd : 2 ≤ d) : ∀ x0 x1 h, XG xfh (xQ 3) RX18 "of" cX18_of 9 (some (.array .long)) d Z 0 [(0, (2, x0)), (1, (2, x1))] [] h (F_X18_of x0 x1 h) := by
  intro x0 x1 h
  unfold F_X18_of
  refine x_aload_n 0 dX18_of_0 rfl rfl ?_
  refine xg_X18_15 dX18_of_1 ?_
  refine x_ic dX18_of_4 (by decide) (by decide) ?_
  refine x_iadd dX18_of_5 ?_
  refine x_newarr (atype := .long) 1 (by decide) rfl rfl q275 dX18_of_6 fun r1 h2 => ?_
  refine x_astore_n (lv' := [(2, (2, r1)), (0, (2, x0)), (1, (2, x1))]) dX18_of_8 rfl (by decide) rfl ?_
  refine x_aload_n 0 dX18_of_9 rfl rfl ?_
  refine x_ic dX18_of_10 (by decide) (by decide) ?_
  refine x_l1 dX18_of_11 ?_
  refine x_last dX18_of_12 fun h3 => ?_
  refine x_ic dX18_of_13 (by decide) (by decide) ?_
  refine x_newarr (atype := .int) 0 (by decide) rfl rfl q252 dX18_of_14 fun r4 h5 => ?_
  refine x_dup dX18_of_16 rfl ?_
  refine x_ic dX18_of_17 (by decide) (by decide) ?_
  refine x_aload_n 2 dX18_of_18 rfl rfl ?_
  refine x_ic dX18_of_19 (by decide) (by decide) ?_
  refine x_iald dX18_of_20 ?_
  refine x_iast dX18_of_21 fun h6 => ?_
  refine x_dup dX18_of_22 rfl ?_
  refine x_ic dX18_of_23 (by decide) (by decide) ?_
  refine x_aload_n 2 dX18_of_24 rfl rfl ?_
  refine x_ic dX18_of_25 (by decide) (by decide) ?_
  refine x_iald dX18_of_26 ?_
  refine x_iast dX18_of_27 fun h7 => ?_
  refine x_dup dX18_of_28 rfl ?_
  refine x_ic dX18_of_29 (by decide) (by decide) ?_
  refine x_aload_n 2 dX18_of_30 rfl rfl ?_
  refine x_ic dX18_of_31 (by decide) (by decide) ?_
  refine x_iald dX18_of_32 ?_
  refine x_iast dX18_of_33 fun h8 => ?_
  refine x_astore_n (lv' := [(3, (2, r4)), (2, (2, r1)), (0, (2, x0)), (1, (2, x1))]) dX18_of_34 rfl (by decide) rfl ?_
  refine x_ic dX18_of_35 (by decide) (by decide) ?_
  refine x_istore (lv' := [(4, (0, 0)), (3, (2, r4)), (2, (2, r1)), (0, (2, x0)), (1, (2, x1))]) dX18_of_36 (by decide) rfl ?_
  exact x_sub [3, 2, 1, 0] rfl (WF_X18_of_38 hdd FU x0 r1 r4 0 h8)
theorem SF_X18_of (l : Launch) {d : Nat} (hdd : 2 ≤ d) (x0 : Int) (x1 : Int) (h : XH) (hok : okH h) (ho : okXs (xn h) [(2, x0), (2, x1)]) (fin : XR) (hf : F_X18_of x0 x1 h = some fin) : xSpec l yX18_of cX18_of 9 (some (.array .long)) d 3 [(2, x0), (2, x1)] h fin := x_enter (lv := [(0, (2, x0)), (1, (2, x1))]) (by decide) rfl rfl (Nat.le_of_ble_eq_true rfl) rfl (fun Z _ => WF_X18_of hdd x0 x1 h) hok ho fin hf
theorem cl_X20_109 {ρ : Type} {fh : ρ → XH} {QQ : XZ ρ → State → Prop} {mn : String} {cc : ByteArray} {nL : Nat} {ret : Option FieldType} {d : Nat} {Z : XZ ρ} {pc : Nat} {lv : List (Nat × AV)} {st : List AV} {h : XH} {g : Int → XH → Option ρ} {b a0 : Int} (hdd : 3 ≤ d) (hcat : (st.map fun v => if v.1 = 1 then 2 else 1).sum ≤ 8) (hdg : decode cc pc = .ok (.invokevirtual 109, 3)) (kk : ∀ r h1, XG fh QQ RX20 mn cc nL ret d Z (pc + 3) lv ((2, r) :: st) h1 (g r h1)) : XG fh QQ RX20 mn cc nL ret d Z pc lv ((2, a0) :: (2, b) :: st) h (ob h b 16 (mb (F_X18_of b a0 h) g)) :=
  x_callVr [(2, a0)] 1 (WF_X18_of (Z := (Z.1, Z.2.1, ((0, h), h))) (Nat.le_refl 2) b a0 h).1 (fun hok ho fin hf => SF_X18_of (yL Z) (Nat.le_refl 2) b a0 h hok ho fin hf) RX18 16 rfl (by decide) (lw_V q1197 q1071 q1072 q156 q1073) ⟨rfl, by decide +kernel, by decide +kernel, by decide +kernel⟩ rfl (by omega) (by decide) rfl hcat hdg kk
theorem cl_X20_95 {ρ : Type} {fh : ρ → XH} {QQ : XZ ρ → State → Prop} {mn : String} {cc : ByteArray} {nL : Nat} {ret : Option FieldType} {d : Nat} {Z : XZ ρ} {pc : Nat} {lv : List (Nat × AV)} {st : List AV} {h : XH} {g : Int → XH → Option ρ} {a0 a1 : Int} (hdd : 2 ≤ d) (hcat : (st.map fun v => if v.1 = 1 then 2 else 1).sum ≤ 8) (hdg : decode cc pc = .ok (.invokestatic 95, 3)) (kk : ∀ r h1, XG fh QQ RX20 mn cc nL ret d Z (pc + 3) lv ((1, r) :: st) h1 (g r h1)) : XG fh QQ RX20 mn cc nL ret d Z pc lv ((0, a1) :: (0, a0) :: st) h (mb (F_X0_over a0 a1 h) g) :=
  x_callQl [(0, a0), (0, a1)] 2 (WF_X0_over (Z := (Z.1, Z.2.1, ((0, h), h))) (Nat.le_refl 1) a0 a1 h).1 (fun hok ho fin hf => SF_X0_over (yL Z) (Nat.le_refl 1) a0 a1 h hok ho fin hf) q1195 q124 q1068 (lw_meth q1069) ⟨by decide +kernel, by decide +kernel, by decide +kernel⟩ rfl (by omega) (by decide) rfl hcat hdg kk
theorem xg_X20_103 {ρ : Type} {fh : ρ → XH} {QQ : XZ ρ → State → Prop} {mn : String} {cc : ByteArray} {nL : Nat} {ret : Option FieldType} {d : Nat} {Z : XZ ρ} {pc : Nat} {lv : List (Nat × AV)} {st : List AV} {h : XH} {res : Option ρ} {a : Int} (hd : decode cc pc = .ok (.getfield 103, 3)) (kk : XG fh QQ RX20 mn cc nL ret d Z (pc + 3) lv ((0, xv h a 1) :: st) h res) : XG fh QQ RX20 mn cc nL ret d Z pc lv ((2, a) :: st) h (ob h a 16 res) := x_getN (C := RX18) (ref := RX18) 16 1 rfl in_X18 (by decide) rfl (by decide) (Or.inl rfl) q1016 hd kk
theorem xg_X20_19 {ρ : Type} {fh : ρ → XH} {QQ : XZ ρ → State → Prop} {mn : String} {cc : ByteArray} {nL : Nat} {ret : Option FieldType} {d : Nat} {Z : XZ ρ} {pc : Nat} {lv : List (Nat × AV)} {st : List AV} {h : XH} {res : Option ρ} {a : Int} (hd : decode cc pc = .ok (.getfield 19, 3)) (kk : XG fh QQ RX20 mn cc nL ret d Z (pc + 3) lv ((2, xv h a 2) :: st) h res) : XG fh QQ RX20 mn cc nL ret d Z pc lv ((2, a) :: st) h (ob h a 18 res) := x_get (C := RX20) (ref := RX20) 18 2 rfl in_X20 (by decide) rfl (by decide) (Or.inl rfl) q1205 hd kk
theorem xg_X20_28 {ρ : Type} {fh : ρ → XH} {QQ : XZ ρ → State → Prop} {mn : String} {cc : ByteArray} {nL : Nat} {ret : Option FieldType} {d : Nat} {Z : XZ ρ} {pc : Nat} {lv : List (Nat × AV)} {st : List AV} {h : XH} {res : Option ρ} {a : Int} (hd : decode cc pc = .ok (.getfield 28, 3)) (kk : XG fh QQ RX20 mn cc nL ret d Z (pc + 3) lv ((2, xv h a 0) :: st) h res) : XG fh QQ RX20 mn cc nL ret d Z pc lv ((2, a) :: st) h (ob h a 1 res) := x_getN (C := RX0) (ref := RX0) 1 0 rfl in_X0 (by decide) rfl (by decide) (Or.inl rfl) q290 hd kk
theorem xg_X20_69 {ρ : Type} {fh : ρ → XH} {QQ : XZ ρ → State → Prop} {mn : String} {cc : ByteArray} {nL : Nat} {ret : Option FieldType} {d : Nat} {Z : XZ ρ} {pc : Nat} {lv : List (Nat × AV)} {st : List AV} {h : XH} {res : Option ρ} {a : Int} (hd : decode cc pc = .ok (.getfield 69, 3)) (kk : XG fh QQ RX20 mn cc nL ret d Z (pc + 3) lv ((2, xv h a 3) :: st) h res) : XG fh QQ RX20 mn cc nL ret d Z pc lv ((2, a) :: st) h (ob h a 2 res) := x_getN (C := RX1) (ref := RX1) 2 3 rfl in_X1 (by decide) rfl (by decide) (Or.inl rfl) q223 hd kk
theorem xg_X20_99 {ρ : Type} {fh : ρ → XH} {QQ : XZ ρ → State → Prop} {mn : String} {cc : ByteArray} {nL : Nat} {ret : Option FieldType} {d : Nat} {Z : XZ ρ} {pc : Nat} {lv : List (Nat × AV)} {st : List AV} {h : XH} {res : Option ρ} {a : Int} (hd : decode cc pc = .ok (.getfield 99, 3)) (kk : XG fh QQ RX20 mn cc nL ret d Z (pc + 3) lv ((1, xv h a 3) :: st) h res) : XG fh QQ RX20 mn cc nL ret d Z pc lv ((2, a) :: st) h (ob h a 18 res) := x_get (C := RX20) (ref := RX20) 18 3 rfl in_X20 (by decide) rfl (by decide) (Or.inl rfl) q1206 hd kk
theorem xp_X20_99 {ρ : Type} {fh : ρ → XH} {QQ : XZ ρ → State → Prop} {mn : String} {cc : ByteArray} {nL : Nat} {ret : Option FieldType} {d : Nat} {Z : XZ ρ} {pc : Nat} {lv : List (Nat × AV)} {st : List AV} {h : XH} {f : XH → Option ρ} {a x : Int} (hd : decode cc pc = .ok (.putfield 99, 3)) (kk : ∀ h1, XG fh QQ RX20 mn cc nL ret d Z (pc + 3) lv st h1 (f h1)) : XG fh QQ RX20 mn cc nL ret d Z pc lv ((1, x) :: (2, a) :: st) h (ob h a 18 (nm (hset h a 3 x) f)) := x_put (C := RX20) (ref := RX20) 18 3 rfl in_X20 tyX20_ok nmX20 (by decide) rfl (by decide) (Or.inl rfl) (by decide) (xfit_X20 3 (by decide)) 1 rfl q1206 hd kk
noncomputable def F_X20_lie_127 (K43 : Int → Int → Int → Int → XH → Option XR) (K51 : Int → Int → Int → Int → Int → XH → Option XR) (x0 : Int) (x1 : Int) (x2 : Int) (x3 : Int) (x4 : Int) (x6 : Int) (h : XH) : Option XR := ob h x0 18 <| ai h (xv h x0 2) 1 (w32 ((w32 (x3 * 21)) + x4)) <| nm (hset h (xv h x0 2) (w32 ((w32 (x3 * 21)) + x4)) x6) fun h1 => nm (w32 (x4 + 1)) fun v2 => K51 x0 x1 x2 x3 v2 h1
theorem WF_X20_lie_127 {d : Nat} {Z : XZ XR} (hdd : 3 ≤ d) {K43 : Int → Int → Int → Int → XH → Option XR} (hK43 : ∀ x0 x1 x2 x3 h, XG xfh (xQ 2) RX20 "lie" cX20_lie 9 none d Z 43 [(0, (2, x0)), (1, (2, x1)), (2, (0, x2)), (3, (0, x3))] [] h (K43 x0 x1 x2 x3 h)) {K51 : Int → Int → Int → Int → Int → XH → Option XR} (hK51 : ∀ x0 x1 x2 x3 x4 h, XG xfh (xQ 2) RX20 "lie" cX20_lie 9 none d Z 51 [(0, (2, x0)), (1, (2, x1)), (2, (0, x2)), (3, (0, x3)), (4, (0, x4))] [] h (K51 x0 x1 x2 x3 x4 h)) : ∀ x0 x1 x2 x3 x4 x6 h, XG xfh (xQ 2) RX20 "lie" cX20_lie 9 none d Z 127 [(0, (2, x0)), (1, (2, x1)), (2, (0, x2)), (3, (0, x3)), (4, (0, x4)), (6, (1, x6))] [] h (F_X20_lie_127 K43 K51 x0 x1 x2 x3 x4 x6 h) := by
  intro x0 x1 x2 x3 x4 x6 h
  unfold F_X20_lie_127
  refine x_aload_n 0 dX20_lie_127 rfl rfl ?_
  refine xg_X20_19 dX20_lie_128 ?_
  refine x_iload_n 3 dX20_lie_131 rfl rfl ?_
  refine x_bp dX20_lie_132 (by decide) (by decide) ?_
  refine x_imul dX20_lie_134 ?_
  refine x_iload 4 dX20_lie_135 rfl ?_
  refine x_iadd dX20_lie_137 ?_
  refine x_lload 5 dX20_lie_138 rfl ?_
  refine x_last dX20_lie_140 fun h1 => ?_
  refine x_iinc 4 dX20_lie_141 rfl (by decide) fun v2 => x_lv (lv' := [(4, (0, v2)), (0, (2, x0)), (1, (2, x1)), (2, (0, x2)), (3, (0, x3)), (6, (1, x6))]) rfl ?_
  refine x_goto 51 dX20_lie_144 (by decide) ?_
  exact x_sub [1, 2, 3, 4, 0] rfl (hK51 x0 x1 x2 x3 v2 h1)
noncomputable def F_X20_lie_103 (K43 : Int → Int → Int → Int → XH → Option XR) (K51 : Int → Int → Int → Int → Int → XH → Option XR) : Nat → Int → Int → Int → Int → Int → Int → Int → Int → XH → Option XR
  | 0, _, _, _, _, _, _, _, _, _ => none
  | n + 1, x0, x1, x2, x3, x4, x5, x6, x8, h => al h x5 1 <| if (xl h x5 : Int) ≤ x8 then (F_X20_lie_127 K43 K51 x0 x1 x2 x3 x4 x6 h) else (ai h x5 1 x8 <| nm (α := Int) (w64 (x6 + (xv h x5 x8))) fun v1 => nm (w32 (x8 + 1)) fun v2 => F_X20_lie_103 K43 K51 n x0 x1 x2 x3 x4 x5 v1 v2 h)
theorem WF_X20_lie_103 {d : Nat} {Z : XZ XR} (hdd : 3 ≤ d) {K43 : Int → Int → Int → Int → XH → Option XR} (hK43 : ∀ x0 x1 x2 x3 h, XG xfh (xQ 2) RX20 "lie" cX20_lie 9 none d Z 43 [(0, (2, x0)), (1, (2, x1)), (2, (0, x2)), (3, (0, x3))] [] h (K43 x0 x1 x2 x3 h)) {K51 : Int → Int → Int → Int → Int → XH → Option XR} (hK51 : ∀ x0 x1 x2 x3 x4 h, XG xfh (xQ 2) RX20 "lie" cX20_lie 9 none d Z 51 [(0, (2, x0)), (1, (2, x1)), (2, (0, x2)), (3, (0, x3)), (4, (0, x4))] [] h (K51 x0 x1 x2 x3 x4 h)) : ∀ n x0 x1 x2 x3 x4 x5 x6 x8 h, XG xfh (xQ 2) RX20 "lie" cX20_lie 9 none d Z 103 [(0, (2, x0)), (1, (2, x1)), (2, (0, x2)), (3, (0, x3)), (4, (0, x4)), (5, (2, x5)), (6, (1, x6)), (8, (0, x8))] [] h (F_X20_lie_103 K43 K51 n x0 x1 x2 x3 x4 x5 x6 x8 h) := by
  intro n
  induction n with
  | zero => intro x0 x1 x2 x3 x4 x5 x6 x8 h; exact x_none
  | succ n ih =>
    intro x0 x1 x2 x3 x4 x5 x6 x8 h
    rw [F_X20_lie_103]
    refine x_iload 7 dX20_lie_103 rfl ?_
    refine x_aload 5 dX20_lie_105 rfl ?_
    refine x_alen 1 (by decide) dX20_lie_107 ?_
    refine x_icmp_ge 127 dX20_lie_108 (by decide) (fun _ => ?_) (fun _ => ?_)
    · exact x_sub [0, 1, 2, 3, 4, 6] rfl (WF_X20_lie_127 hdd hK43 hK51 x0 x1 x2 x3 x4 x6 h)
    · refine x_lload 6 dX20_lie_111 rfl ?_
      refine x_aload 5 dX20_lie_113 rfl ?_
      refine x_iload 7 dX20_lie_115 rfl ?_
      refine x_lald dX20_lie_117 ?_
      refine x_ladd dX20_lie_118 ?_
      refine x_nmT fun v1 => ?_
      refine x_lstore (lv' := [(6, (1, v1)), (0, (2, x0)), (1, (2, x1)), (2, (0, x2)), (3, (0, x3)), (4, (0, x4)), (5, (2, x5)), (8, (0, x8))]) dX20_lie_119 (by decide) rfl ?_
      refine x_iinc 7 dX20_lie_121 rfl (by decide) fun v2 => x_lv (lv' := [(8, (0, v2)), (6, (1, v1)), (0, (2, x0)), (1, (2, x1)), (2, (0, x2)), (3, (0, x3)), (4, (0, x4)), (5, (2, x5))]) rfl ?_
      refine x_goto 103 dX20_lie_124 (by decide) ?_
      exact x_sub [2, 3, 4, 5, 6, 7, 1, 0] rfl (ih x0 x1 x2 x3 x4 x5 v1 v2 h)
noncomputable def F_X20_lie_147 (K43 : Int → Int → Int → Int → XH → Option XR) (x0 : Int) (x1 : Int) (x2 : Int) (x3 : Int) (h : XH) : Option XR := nm (w32 (x3 + 1)) fun v1 => K43 x0 x1 x2 v1 h
theorem WF_X20_lie_147 {d : Nat} {Z : XZ XR} (hdd : 3 ≤ d) {K43 : Int → Int → Int → Int → XH → Option XR} (hK43 : ∀ x0 x1 x2 x3 h, XG xfh (xQ 2) RX20 "lie" cX20_lie 9 none d Z 43 [(0, (2, x0)), (1, (2, x1)), (2, (0, x2)), (3, (0, x3))] [] h (K43 x0 x1 x2 x3 h)) : ∀ x0 x1 x2 x3 h, XG xfh (xQ 2) RX20 "lie" cX20_lie 9 none d Z 147 [(0, (2, x0)), (1, (2, x1)), (2, (0, x2)), (3, (0, x3))] [] h (F_X20_lie_147 K43 x0 x1 x2 x3 h) := by
  intro x0 x1 x2 x3 h
  unfold F_X20_lie_147
  refine x_iinc 3 dX20_lie_147 rfl (by decide) fun v1 => x_lv (lv' := [(3, (0, v1)), (0, (2, x0)), (1, (2, x1)), (2, (0, x2))]) rfl ?_
  refine x_goto 43 dX20_lie_150 (by decide) ?_
  exact x_sub [1, 2, 3, 0] rfl (hK43 x0 x1 x2 v1 h)
noncomputable def F_X20_lie_51 (K43 : Int → Int → Int → Int → XH → Option XR) : Nat → Int → Int → Int → Int → Int → XH → Option XR
  | 0, _, _, _, _, _, _ => none
  | n + 1, x0, x1, x2, x3, x4, h => if x2 < w32 (x3 + x4) then (F_X20_lie_147 K43 x0 x1 x2 x3 h) else (na h 0 3 fun r1 h2 => ai h2 r1 0 0 <| nm (hset h2 r1 0 (w32 ((w32 (x2 - x3)) - x4))) fun h3 => ai h3 r1 0 1 <| nm (hset h3 r1 1 x3) fun h4 => ai h4 r1 0 2 <| nm (hset h4 r1 2 x4) fun h5 => ob h5 x1 16 <| mb (F_X18_of x1 r1 h5) fun r6 h7 => ob h7 x0 18 <| ob h7 (xv h7 x0 4) 1 <| ob h7 (xv h7 (xv h7 x0 4) 0) 2 <| ai h7 (xv h7 (xv h7 (xv h7 x0 4) 0) 3) 0 2 <| nm (α := Int) (xv h7 (xv h7 (xv h7 (xv h7 x0 4) 0) 3) 2) fun v8 => F_X20_lie_103 K43 (F_X20_lie_51 K43 n) FU x0 x1 x2 x3 x4 r6 0 v8 h7)
theorem WF_X20_lie_51 {d : Nat} {Z : XZ XR} (hdd : 3 ≤ d) {K43 : Int → Int → Int → Int → XH → Option XR} (hK43 : ∀ x0 x1 x2 x3 h, XG xfh (xQ 2) RX20 "lie" cX20_lie 9 none d Z 43 [(0, (2, x0)), (1, (2, x1)), (2, (0, x2)), (3, (0, x3))] [] h (K43 x0 x1 x2 x3 h)) : ∀ n x0 x1 x2 x3 x4 h, XG xfh (xQ 2) RX20 "lie" cX20_lie 9 none d Z 51 [(0, (2, x0)), (1, (2, x1)), (2, (0, x2)), (3, (0, x3)), (4, (0, x4))] [] h (F_X20_lie_51 K43 n x0 x1 x2 x3 x4 h) := by
  intro n
  induction n with
  | zero => intro x0 x1 x2 x3 x4 h; exact x_none
  | succ n ih =>
    intro x0 x1 x2 x3 x4 h
    rw [F_X20_lie_51]
    refine x_iload_n 3 dX20_lie_51 rfl rfl ?_
    refine x_iload 4 dX20_lie_52 rfl ?_
    refine x_iadd dX20_lie_54 ?_
    refine x_iload_n 2 dX20_lie_55 rfl rfl ?_
    refine x_icmp_gt 147 dX20_lie_56 (by decide) (fun _ => ?_) (fun _ => ?_)
    · exact x_sub [0, 1, 2, 3] rfl (WF_X20_lie_147 hdd hK43 x0 x1 x2 x3 h)
    · refine x_aload_n 1 dX20_lie_59 rfl rfl ?_
      refine x_ic dX20_lie_60 (by decide) (by decide) ?_
      refine x_newarr (atype := .int) 0 (by decide) rfl rfl q252 dX20_lie_61 fun r1 h2 => ?_
      refine x_dup dX20_lie_63 rfl ?_
      refine x_ic dX20_lie_64 (by decide) (by decide) ?_
      refine x_iload_n 2 dX20_lie_65 rfl rfl ?_
      refine x_iload_n 3 dX20_lie_66 rfl rfl ?_
      refine x_isub dX20_lie_67 ?_
      refine x_iload 4 dX20_lie_68 rfl ?_
      refine x_isub dX20_lie_70 ?_
      refine x_iast dX20_lie_71 fun h3 => ?_
      refine x_dup dX20_lie_72 rfl ?_
      refine x_ic dX20_lie_73 (by decide) (by decide) ?_
      refine x_iload_n 3 dX20_lie_74 rfl rfl ?_
      refine x_iast dX20_lie_75 fun h4 => ?_
      refine x_dup dX20_lie_76 rfl ?_
      refine x_ic dX20_lie_77 (by decide) (by decide) ?_
      refine x_iload 4 dX20_lie_78 rfl ?_
      refine x_iast dX20_lie_80 fun h5 => ?_
      refine cl_X20_109 (by omega) (Nat.le_of_ble_eq_true rfl) dX20_lie_81 fun r6 h7 => ?_
      refine x_astore (lv' := [(5, (2, r6)), (0, (2, x0)), (1, (2, x1)), (2, (0, x2)), (3, (0, x3)), (4, (0, x4))]) dX20_lie_84 (by decide) rfl ?_
      refine x_l0 dX20_lie_86 ?_
      refine x_lstore (lv' := [(6, (1, 0)), (5, (2, r6)), (0, (2, x0)), (1, (2, x1)), (2, (0, x2)), (3, (0, x3)), (4, (0, x4))]) dX20_lie_87 (by decide) rfl ?_
      refine x_aload_n 2 dX20_lie_89 rfl rfl ?_
      refine xg_X20_3 dX20_lie_90 ?_
      refine xg_X20_28 dX20_lie_93 ?_
      refine xg_X20_69 dX20_lie_96 ?_
      refine x_ic dX20_lie_99 (by decide) (by decide) ?_
      refine x_iald dX20_lie_100 ?_
      refine x_nmT fun v8 => ?_
      refine x_istore (lv' := [(8, (0, v8)), (6, (1, 0)), (5, (2, r6)), (0, (2, x0)), (1, (2, x1)), (2, (0, x2)), (3, (0, x3)), (4, (0, x4))]) dX20_lie_101 (by decide) rfl ?_
      exact x_sub [3, 4, 5, 6, 7, 2, 1, 0] rfl (WF_X20_lie_103 hdd hK43 ih FU x0 x1 x2 x3 x4 r6 0 v8 h7)
noncomputable def F_X20_lie_43 : Nat → Int → Int → Int → Int → XH → Option XR
  | 0, _, _, _, _, _ => none
  | n + 1, x0, x1, x2, x3, h => if x2 < x3 then (some (0, h)) else (F_X20_lie_51 (F_X20_lie_43 n) FU x0 x1 x2 x3 0 h)
theorem WF_X20_lie_43 {d : Nat} {Z : XZ XR} (hdd : 3 ≤ d) : ∀ n x0 x1 x2 x3 h, XG xfh (xQ 2) RX20 "lie" cX20_lie 9 none d Z 43 [(0, (2, x0)), (1, (2, x1)), (2, (0, x2)), (3, (0, x3))] [] h (F_X20_lie_43 n x0 x1 x2 x3 h) := by
  intro n
  induction n with
  | zero => intro x0 x1 x2 x3 h; exact x_none
  | succ n ih =>
    intro x0 x1 x2 x3 h
    rw [F_X20_lie_43]
    refine x_iload_n 3 dX20_lie_43 rfl rfl ?_
    refine x_iload_n 2 dX20_lie_44 rfl rfl ?_
    refine x_icmp_gt 153 dX20_lie_45 (by decide) (fun _ => ?_) (fun _ => ?_)
    · exact x_vret rfl dX20_lie_153
    · refine x_ic dX20_lie_48 (by decide) (by decide) ?_
      refine x_istore (lv' := [(4, (0, 0)), (0, (2, x0)), (1, (2, x1)), (2, (0, x2)), (3, (0, x3))]) dX20_lie_49 (by decide) rfl ?_
      exact x_sub [1, 2, 3, 4, 0] rfl (WF_X20_lie_51 hdd ih FU x0 x1 x2 x3 0 h)
noncomputable def F_X20_lie_41 (x0 : Int) (x1 : Int) (x2 : Int) (h : XH) : Option XR := F_X20_lie_43 FU x0 x1 x2 0 h
theorem WF_X20_lie_41 {d : Nat} {Z : XZ XR} (hdd : 3 ≤ d) : ∀ x0 x1 x2 h, XG xfh (xQ 2) RX20 "lie" cX20_lie 9 none d Z 41 [(0, (2, x0)), (1, (2, x1)), (2, (0, x2))] [] h (F_X20_lie_41 x0 x1 x2 h) := by
  intro x0 x1 x2 h
  unfold F_X20_lie_41
  refine x_ic dX20_lie_41 (by decide) (by decide) ?_
  refine x_istore_n (lv' := [(3, (0, 0)), (0, (2, x0)), (1, (2, x1)), (2, (0, x2))]) dX20_lie_42 rfl (by decide) rfl ?_
  exact x_sub [1, 2, 3, 0] rfl (WF_X20_lie_43 hdd FU x0 x1 x2 0 h)
noncomputable def F_X20_lie_15 : Nat → Int → Int → Int → Int → XH → Option XR
  | 0, _, _, _, _, _ => none
  | n + 1, x0, x1, x2, x3, h => ob h x1 16 <| if xv h x1 1 ≤ x3 then (F_X20_lie_41 x0 x1 x2 h) else (ob h x0 18 <| ob h x0 18 <| nm (hset h x0 3 (w64 ((xv h x0 3) * 100))) fun h1 => nm (w32 (x3 + 1)) fun v2 => F_X20_lie_15 n x0 x1 x2 v2 h1)
theorem WF_X20_lie_15 {d : Nat} {Z : XZ XR} (hdd : 3 ≤ d) : ∀ n x0 x1 x2 x3 h, XG xfh (xQ 2) RX20 "lie" cX20_lie 9 none d Z 15 [(0, (2, x0)), (1, (2, x1)), (2, (0, x2)), (3, (0, x3))] [] h (F_X20_lie_15 n x0 x1 x2 x3 h) := by
  intro n
  induction n with
  | zero => intro x0 x1 x2 x3 h; exact x_none
  | succ n ih =>
    intro x0 x1 x2 x3 h
    rw [F_X20_lie_15]
    refine x_iload_n 3 dX20_lie_15 rfl rfl ?_
    refine x_aload_n 1 dX20_lie_16 rfl rfl ?_
    refine xg_X20_103 dX20_lie_17 ?_
    refine x_icmp_ge 41 dX20_lie_20 (by decide) (fun _ => ?_) (fun _ => ?_)
    · exact x_sub [0, 1, 2] rfl (WF_X20_lie_41 hdd x0 x1 x2 h)
    · refine x_aload_n 0 dX20_lie_23 rfl rfl ?_
      refine x_dup dX20_lie_24 rfl ?_
      refine xg_X20_99 dX20_lie_25 ?_
      refine x_ldc2 (n := 100) q1196 dX20_lie_28 (by decide +kernel) ⟨by decide, by decide⟩ ?_
      refine x_lmul dX20_lie_31 ?_
      refine xp_X20_99 dX20_lie_32 fun h1 => ?_
      refine x_iinc 3 dX20_lie_35 rfl (by decide) fun v2 => x_lv (lv' := [(3, (0, v2)), (0, (2, x0)), (1, (2, x1)), (2, (0, x2))]) rfl ?_
      refine x_goto 15 dX20_lie_38 (by decide) ?_
      exact x_sub [1, 2, 3, 0] rfl (ih x0 x1 x2 v2 h1)
noncomputable def F_X20_lie (x0 : Int) (x1 : Int) (x2 : Int) (h : XH) : Option XR := ob h x0 18 <| al h (xv h x0 0) 7 <| mb (F_X0_over (xl h (xv h x0 0) : Int) x2 h) fun r1 h2 => ob h2 x0 18 <| nm (hset h2 x0 3 r1) fun h3 => F_X20_lie_15 FU x0 x1 x2 0 h3
theorem WF_X20_lie {d : Nat} {Z : XZ XR} (hdd : 3 ≤ d) : ∀ x0 x1 x2 h, XG xfh (xQ 2) RX20 "lie" cX20_lie 9 none d Z 0 [(0, (2, x0)), (1, (2, x1)), (2, (0, x2))] [] h (F_X20_lie x0 x1 x2 h) := by
  intro x0 x1 x2 h
  unfold F_X20_lie
  refine x_aload_n 0 dX20_lie_0 rfl rfl ?_
  refine x_aload_n 0 dX20_lie_1 rfl rfl ?_
  refine xg_X20_48 dX20_lie_2 ?_
  refine x_alen 7 (by decide) dX20_lie_5 ?_
  refine x_iload_n 2 dX20_lie_6 rfl rfl ?_
  refine cl_X20_95 (by omega) (Nat.le_of_ble_eq_true rfl) dX20_lie_7 fun r1 h2 => ?_
  refine xp_X20_99 dX20_lie_10 fun h3 => ?_
  refine x_ic dX20_lie_13 (by decide) (by decide) ?_
  refine x_istore_n (lv' := [(3, (0, 0)), (0, (2, x0)), (1, (2, x1)), (2, (0, x2))]) dX20_lie_14 rfl (by decide) rfl ?_
  exact x_sub [1, 2, 3, 0] rfl (WF_X20_lie_15 hdd FU x0 x1 x2 0 h3)
theorem SF_X20_lie (l : Launch) {d : Nat} (hdd : 3 ≤ d) (x0 : Int) (x1 : Int) (x2 : Int) (h : XH) (hok : okH h) (ho : okXs (xn h) [(2, x0), (2, x1), (0, x2)]) (fin : XR) (hf : F_X20_lie x0 x1 x2 h = some fin) : xSpec l yX20_lie cX20_lie 9 none d 2 [(2, x0), (2, x1), (0, x2)] h fin := x_enter (lv := [(0, (2, x0)), (1, (2, x1)), (2, (0, x2))]) (by decide) rfl rfl (Nat.le_of_ble_eq_true rfl) rfl (fun Z _ => WF_X20_lie hdd x0 x1 x2 h) hok ho fin hf
