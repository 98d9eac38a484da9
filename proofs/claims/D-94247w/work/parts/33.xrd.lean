/-! printed by tools/genx.py: the methods that may throw Wrong -/
set_option maxRecDepth 100000
set_option maxHeartbeats 4000000
theorem cl_X6_123 {ρ : Type} {fh : ρ → XH} {QQ : XZ ρ → State → Prop} {mn : String} {cc : ByteArray} {nL : Nat} {ret : Option FieldType} {d : Nat} {Z : XZ ρ} {pc : Nat} {lv : List (Nat × AV)} {st : List AV} {h : XH} {g : Int → XH → Option ρ} {b a0 : Int} (hdd : 4 ≤ d) (hcat : (st.map fun v => if v.1 = 1 then 2 else 1).sum ≤ 8) (hdg : decode cc pc = .ok (.invokespecial 123, 3)) (kk : ∀ r h1, XG fh QQ RX6 mn cc nL ret d Z (pc + 3) lv st h1 (g r h1)) : XG fh QQ RX6 mn cc nL ret d Z pc lv ((0, a0) :: (2, b) :: st) h (pz b (mb (F_X7_init b a0 h) g)) :=
  x_callIv [(0, a0)] 1 (WF_X7_init (Z := (Z.1, Z.2.1, ((0, h), h))) (Nat.le_refl 3) b a0 h).1 (fun hok ho fin hf => SF_X7_init (yL Z) (Nat.le_refl 3) b a0 h hok ho fin hf) (lw_meth q639) q142 q637 q638 rfl ⟨by decide +kernel, by decide +kernel, by decide +kernel⟩ rfl (by omega) (by decide) rfl hcat hdg kk
theorem xn_X6_121 {ρ : Type} {fh : ρ → XH} {QQ : XZ ρ → State → Prop} {mn : String} {cc : ByteArray} {nL : Nat} {ret : Option FieldType} {d : Nat} {Z : XZ ρ} {pc : Nat} {lv : List (Nat × AV)} {st : List AV} {h : XH} {f : Int → XH → Option ρ} (hd : decode cc pc = .ok (.new 121, 3)) (kk : ∀ r h1, XG fh QQ RX6 mn cc nL ret d Z (pc + 3) lv ((2, r) :: st) h1 (f r h1)) : XG fh QQ RX6 mn cc nL ret d Z pc lv st h (nw h 7 7 f) := x_new (C := RX7) 7 rfl in_X7 tyX7_ok (by decide) rfl (by decide) xfit_X7 q599 q600 q142 hd kk
noncomputable def F_X6_must (x0 : Int) (x1 : Int) (h : XH) : Option XR3 := if x1 = 0 then (nw h 7 7 fun r1 h2 => ob h2 x0 6 <| pz r1 <| mb (F_X7_init r1 (xv h2 x0 0) h2) fun r3 h4 => ob h4 r1 7 <| some (true, r1, h4)) else (some (false, 0, h))
theorem WF_X6_must {d : Nat} {Z : XZ XR3} (hdd : 4 ≤ d) : ∀ x0 x1 h, XG xf3 (xT 2) RX6 "must" cX6_must 2 none d Z 0 [(0, (2, x0)), (1, (0, x1))] [] h (F_X6_must x0 x1 h) := by
  intro x0 x1 h
  unfold F_X6_must
  refine x_iload_n 1 dX6_must_0 rfl rfl ?_
  refine x_if_ne 16 dX6_must_1 (by decide) (fun _ => ?_) (fun _ => ?_)
  · exact x3_ret (Or.inr (Or.inl rfl)) (fun _ => x_vret rfl dX6_must_16)
  · refine xn_X6_121 dX6_must_4 fun r1 h2 => ?_
    refine x_dup dX6_must_7 rfl ?_
    refine x_aload_n 0 dX6_must_8 rfl rfl ?_
    refine xg_X6_82 dX6_must_9 ?_
    refine cl_X6_123 (by omega) (Nat.le_of_ble_eq_true rfl) dX6_must_12 fun r3 h4 => ?_
    exact x3_athrow dX6_must_15 x3_out
theorem SF_X6_must (l : Launch) {d : Nat} (hdd : 4 ≤ d) (x0 : Int) (x1 : Int) (h : XH) (hok : okH h) (ho : okXs (xn h) [(2, x0), (0, x1)]) (fin : XR3) (hf : F_X6_must x0 x1 h = some fin) : xSpec3 l yX6_must cX6_must 2 none d 2 [(2, x0), (0, x1)] h fin := x3_enter (lv := [(0, (2, x0)), (1, (0, x1))]) (by decide) rfl rfl (Nat.le_of_ble_eq_true rfl) rfl (fun Z _ => WF_X6_must hdd x0 x1 h) hok ho fin hf
theorem xg_X6_59 {ρ : Type} {fh : ρ → XH} {QQ : XZ ρ → State → Prop} {mn : String} {cc : ByteArray} {nL : Nat} {ret : Option FieldType} {d : Nat} {Z : XZ ρ} {pc : Nat} {lv : List (Nat × AV)} {st : List AV} {h : XH} {res : Option ρ} {a : Int} (hd : decode cc pc = .ok (.getfield 59, 3)) (kk : XG fh QQ RX6 mn cc nL ret d Z (pc + 3) lv ((0, xv h a 3) :: st) h res) : XG fh QQ RX6 mn cc nL ret d Z pc lv ((2, a) :: st) h (ob h a 6 res) := x_get (C := RX6) (ref := RX6) 6 3 rfl in_X6 (by decide) rfl (by decide) (Or.inl rfl) q555 hd kk
theorem xp_X6_59 {ρ : Type} {fh : ρ → XH} {QQ : XZ ρ → State → Prop} {mn : String} {cc : ByteArray} {nL : Nat} {ret : Option FieldType} {d : Nat} {Z : XZ ρ} {pc : Nat} {lv : List (Nat × AV)} {st : List AV} {h : XH} {f : XH → Option ρ} {a x : Int} (hd : decode cc pc = .ok (.putfield 59, 3)) (kk : ∀ h1, XG fh QQ RX6 mn cc nL ret d Z (pc + 3) lv st h1 (f h1)) : XG fh QQ RX6 mn cc nL ret d Z pc lv ((0, x) :: (2, a) :: st) h (ob h a 6 (nm (hset h a 3 x) f)) := x_put (C := RX6) (ref := RX6) 6 3 rfl in_X6 tyX6_ok nmX6 (by decide) rfl (by decide) (Or.inl rfl) (by decide) (xfit_X6 3 (by decide)) 0 rfl q555 hd kk
theorem ct_X6_68 {ρ : Type} {fh : ρ → XH} {QQ : XZ ρ → State → Prop} {mn : String} {cc : ByteArray} {nL : Nat} {ret : Option FieldType} {d : Nat} {Z : XZ ρ} {pc : Nat} {lv : List (Nat × AV)} {st : List AV} {h : XH} {g k : Int → XH → Option ρ} {b a0 : Int} (hdd : 5 ≤ d) (hcat : (st.map fun v => if v.1 = 1 then 2 else 1).sum ≤ 8) (hdg : decode cc pc = .ok (.invokevirtual 68, 3)) (kk : ∀ r h1, XG fh QQ RX6 mn cc nL ret d Z (pc + 3) lv st h1 (g r h1)) (kx : ∀ r h1, XT fh QQ RX6 mn cc nL ret d Z pc lv r h1 (k r h1)) : XG fh QQ RX6 mn cc nL ret d Z pc lv ((0, a0) :: (2, b) :: st) h (ob h b 6 (mb3 (F_X6_must b a0 h) g k)) :=
  x3_callVv [(0, a0)] 1 (WF_X6_must (Z := (Z.1, Z.2.1, ((false, 0, h), h))) (Nat.le_refl 4) b a0 h).1 (fun hok ho fin hf => SF_X6_must (yL Z) (Nat.le_refl 4) b a0 h hok ho fin hf) RX6 6 rfl (by decide) (lw_V q595 q597 qs9 q139 q598) ⟨rfl, by decide +kernel, by decide +kernel, by decide +kernel⟩ rfl (by omega) (by decide) rfl hcat hdg kk kx
noncomputable def F_X6_open (x0 : Int) (h : XH) : Option XR3 := ob h x0 6 <| nm (α := Int) (if 8 ≤ xv h x0 3 then 0 else 1) fun v1 => ob h x0 6 <| mt (F_X6_must x0 v1 h) fun r2 h3 => ob h3 x0 6 <| ob h3 x0 6 <| nm (hset h3 x0 3 (w32 ((xv h3 x0 3) + 1))) fun h4 => ob h4 x0 6 <| mb (F_X6_next x0 h4) fun r5 h6 => some (false, 0, h6)
theorem WF_X6_open {d : Nat} {Z : XZ XR3} (hdd : 5 ≤ d) : ∀ x0 h, XG xf3 (xT 2) RX6 "open" cX6_open 1 none d Z 0 [(0, (2, x0))] [] h (F_X6_open x0 h) := by
  intro x0 h
  unfold F_X6_open
  refine x_aload_n 0 dX6_open_0 rfl rfl ?_
  refine x_aload_n 0 dX6_open_1 rfl rfl ?_
  refine xg_X6_59 dX6_open_2 ?_
  refine x_bp dX6_open_5 (by decide) (by decide) ?_
  refine x_join 15 (fun v1 => [(0, v1), (2, x0)]) (fun v1 => ?_) (fun hJ => ?_)
  · refine ct_X6_68 (by omega) (Nat.le_of_ble_eq_true rfl) dX6_open_15 (fun r2 h3 => ?_) fun _ _ => x3_out
    refine x_aload_n 0 dX6_open_18 rfl rfl ?_
    refine x_dup dX6_open_19 rfl ?_
    refine xg_X6_59 dX6_open_20 ?_
    refine x_ic dX6_open_23 (by decide) (by decide) ?_
    refine x_iadd dX6_open_24 ?_
    refine xp_X6_59 dX6_open_25 fun h4 => ?_
    refine x_aload_n 0 dX6_open_28 rfl rfl ?_
    refine cl_X6_65 (by omega) (Nat.le_of_ble_eq_true rfl) dX6_open_29 fun r5 h6 => ?_
    exact x3_ret (Or.inr (Or.inl rfl)) (fun _ => x_vret rfl dX6_open_32)
  · refine x_icmp_geF 14 dX6_open_7 (by decide) (fun _ => ?_) (fun _ => ?_)
    · refine x_ic dX6_open_14 (by decide) (by decide) ?_
      exact hJ _
    · refine x_ic dX6_open_10 (by decide) (by decide) ?_
      refine x_goto 15 dX6_open_11 (by decide) ?_
      exact hJ _
theorem SF_X6_open (l : Launch) {d : Nat} (hdd : 5 ≤ d) (x0 : Int) (h : XH) (hok : okH h) (ho : okXs (xn h) [(2, x0)]) (fin : XR3) (hf : F_X6_open x0 h = some fin) : xSpec3 l yX6_open cX6_open 1 none d 2 [(2, x0)] h fin := x3_enter (lv := [(0, (2, x0))]) (by decide) rfl rfl (Nat.le_of_ble_eq_true rfl) rfl (fun Z _ => WF_X6_open hdd x0 h) hok ho fin hf
theorem cl_X6_78 {ρ : Type} {fh : ρ → XH} {QQ : XZ ρ → State → Prop} {mn : String} {cc : ByteArray} {nL : Nat} {ret : Option FieldType} {d : Nat} {Z : XZ ρ} {pc : Nat} {lv : List (Nat × AV)} {st : List AV} {h : XH} {g : Int → XH → Option ρ} {b a0 : Int} (hdd : 7 ≤ d) (hcat : (st.map fun v => if v.1 = 1 then 2 else 1).sum ≤ 8) (hdg : decode cc pc = .ok (.invokevirtual 78, 3)) (kk : ∀ r h1, XG fh QQ RX6 mn cc nL ret d Z (pc + 3) lv ((0, r) :: st) h1 (g r h1)) : XG fh QQ RX6 mn cc nL ret d Z pc lv ((2, a0) :: (2, b) :: st) h (ob h b 6 (mb (F_X6_accept b a0 h) g)) :=
  x_callVi [(2, a0)] 1 (WF_X6_accept (Z := (Z.1, Z.2.1, ((0, h), h))) (Nat.le_refl 6) b a0 h).1 (fun hok ho fin hf => SF_X6_accept (yL Z) (Nat.le_refl 6) b a0 h hok ho fin hf) RX6 6 rfl (by decide) (lw_V q743 q745 qs19 q139 q746) ⟨rfl, by decide +kernel, by decide +kernel, by decide +kernel⟩ rfl (by omega) (by decide) rfl hcat hdg kk
noncomputable def F_X6_close (x0 : Int) (x1 : Int) (h : XH) : Option XR3 := ob h x0 6 <| mb (F_X6_accept x0 x1 h) fun r1 h2 => ob h2 x0 6 <| mt (F_X6_must x0 r1 h2) fun r3 h4 => ob h4 x0 6 <| ob h4 x0 6 <| nm (hset h4 x0 3 (w32 ((xv h4 x0 3) - 1))) fun h5 => some (false, 0, h5)
theorem WF_X6_close {d : Nat} {Z : XZ XR3} (hdd : 7 ≤ d) : ∀ x0 x1 h, XG xf3 (xT 2) RX6 "close" cX6_close 2 none d Z 0 [(0, (2, x0)), (1, (2, x1))] [] h (F_X6_close x0 x1 h) := by
  intro x0 x1 h
  unfold F_X6_close
  refine x_aload_n 0 dX6_close_0 rfl rfl ?_
  refine x_aload_n 0 dX6_close_1 rfl rfl ?_
  refine x_aload_n 1 dX6_close_2 rfl rfl ?_
  refine cl_X6_78 (by omega) (Nat.le_of_ble_eq_true rfl) dX6_close_3 fun r1 h2 => ?_
  refine ct_X6_68 (by omega) (Nat.le_of_ble_eq_true rfl) dX6_close_6 (fun r3 h4 => ?_) fun _ _ => x3_out
  refine x_aload_n 0 dX6_close_9 rfl rfl ?_
  refine x_dup dX6_close_10 rfl ?_
  refine xg_X6_59 dX6_close_11 ?_
  refine x_ic dX6_close_14 (by decide) (by decide) ?_
  refine x_isub dX6_close_15 ?_
  refine xp_X6_59 dX6_close_16 fun h5 => ?_
  exact x3_ret (Or.inr (Or.inl rfl)) (fun _ => x_vret rfl dX6_close_19)
theorem SF_X6_close (l : Launch) {d : Nat} (hdd : 7 ≤ d) (x0 : Int) (x1 : Int) (h : XH) (hok : okH h) (ho : okXs (xn h) [(2, x0), (2, x1)]) (fin : XR3) (hf : F_X6_close x0 x1 h = some fin) : xSpec3 l yX6_close cX6_close 2 none d 2 [(2, x0), (2, x1)] h fin := x3_enter (lv := [(0, (2, x0)), (1, (2, x1))]) (by decide) rfl rfl (Nat.le_of_ble_eq_true rfl) rfl (fun Z _ => WF_X6_close hdd x0 x1 h) hok ho fin hf
theorem xg_X6_56 {ρ : Type} {fh : ρ → XH} {QQ : XZ ρ → State → Prop} {mn : String} {cc : ByteArray} {nL : Nat} {ret : Option FieldType} {d : Nat} {Z : XZ ρ} {pc : Nat} {lv : List (Nat × AV)} {st : List AV} {h : XH} {res : Option ρ} {a : Int} (hd : decode cc pc = .ok (.getfield 56, 3)) (kk : XG fh QQ RX6 mn cc nL ret d Z (pc + 3) lv ((0, xv h a 2) :: st) h res) : XG fh QQ RX6 mn cc nL ret d Z pc lv ((2, a) :: st) h (ob h a 6 res) := x_get (C := RX6) (ref := RX6) 6 2 rfl in_X6 (by decide) rfl (by decide) (Or.inl rfl) q554 hd kk
theorem xp_X6_56 {ρ : Type} {fh : ρ → XH} {QQ : XZ ρ → State → Prop} {mn : String} {cc : ByteArray} {nL : Nat} {ret : Option FieldType} {d : Nat} {Z : XZ ρ} {pc : Nat} {lv : List (Nat × AV)} {st : List AV} {h : XH} {f : XH → Option ρ} {a x : Int} (hd : decode cc pc = .ok (.putfield 56, 3)) (kk : ∀ h1, XG fh QQ RX6 mn cc nL ret d Z (pc + 3) lv st h1 (f h1)) : XG fh QQ RX6 mn cc nL ret d Z pc lv ((0, x) :: (2, a) :: st) h (ob h a 6 (nm (hset h a 2 x) f)) := x_put (C := RX6) (ref := RX6) 6 2 rfl in_X6 tyX6_ok nmX6 (by decide) rfl (by decide) (Or.inl rfl) (by decide) (xfit_X6 2 (by decide)) 0 rfl q554 hd kk
noncomputable def F_X6_leaf (x0 : Int) (h : XH) : Option XR3 := ob h x0 6 <| nm (α := Int) (if 50 ≤ xv h x0 2 then 0 else 1) fun v1 => ob h x0 6 <| mt (F_X6_must x0 v1 h) fun r2 h3 => ob h3 x0 6 <| ob h3 x0 6 <| nm (hset h3 x0 2 (w32 ((xv h3 x0 2) + 1))) fun h4 => some (false, 0, h4)
theorem WF_X6_leaf {d : Nat} {Z : XZ XR3} (hdd : 5 ≤ d) : ∀ x0 h, XG xf3 (xT 2) RX6 "leaf" cX6_leaf 1 none d Z 0 [(0, (2, x0))] [] h (F_X6_leaf x0 h) := by
  intro x0 h
  unfold F_X6_leaf
  refine x_aload_n 0 dX6_leaf_0 rfl rfl ?_
  refine x_aload_n 0 dX6_leaf_1 rfl rfl ?_
  refine xg_X6_56 dX6_leaf_2 ?_
  refine x_bp dX6_leaf_5 (by decide) (by decide) ?_
  refine x_join 15 (fun v1 => [(0, v1), (2, x0)]) (fun v1 => ?_) (fun hJ => ?_)
  · refine ct_X6_68 (by omega) (Nat.le_of_ble_eq_true rfl) dX6_leaf_15 (fun r2 h3 => ?_) fun _ _ => x3_out
    refine x_aload_n 0 dX6_leaf_18 rfl rfl ?_
    refine x_dup dX6_leaf_19 rfl ?_
    refine xg_X6_56 dX6_leaf_20 ?_
    refine x_ic dX6_leaf_23 (by decide) (by decide) ?_
    refine x_iadd dX6_leaf_24 ?_
    refine xp_X6_56 dX6_leaf_25 fun h4 => ?_
    exact x3_ret (Or.inr (Or.inl rfl)) (fun _ => x_vret rfl dX6_leaf_28)
  · refine x_icmp_geF 14 dX6_leaf_7 (by decide) (fun _ => ?_) (fun _ => ?_)
    · refine x_ic dX6_leaf_14 (by decide) (by decide) ?_
      exact hJ _
    · refine x_ic dX6_leaf_10 (by decide) (by decide) ?_
      refine x_goto 15 dX6_leaf_11 (by decide) ?_
      exact hJ _
theorem SF_X6_leaf (l : Launch) {d : Nat} (hdd : 5 ≤ d) (x0 : Int) (h : XH) (hok : okH h) (ho : okXs (xn h) [(2, x0)]) (fin : XR3) (hf : F_X6_leaf x0 h = some fin) : xSpec3 l yX6_leaf cX6_leaf 1 none d 2 [(2, x0)] h fin := x3_enter (lv := [(0, (2, x0))]) (by decide) rfl rfl (Nat.le_of_ble_eq_true rfl) rfl (fun Z _ => WF_X6_leaf hdd x0 h) hok ho fin hf
noncomputable def F_X6_number_85 (x0 : Int) (x1 : Int) (x2 : Int) (h : XH) : Option XR3 := nm (α := Int) (if x1 < x2 then 0 else 1) fun v1 => ob h x0 6 <| mt (F_X6_must x0 v1 h) fun r2 h3 => ob h3 x0 6 <| mb (F_X6_next x0 h3) fun r4 h5 => some (false, x2, h5)
theorem WF_X6_number_85 {d : Nat} {Z : XZ XR3} (hdd : 5 ≤ d) : ∀ x0 x1 x2 h, XG xf3 (xT 0) RX6 "number" cX6_number 4 (some .int) d Z 85 [(0, (2, x0)), (1, (0, x1)), (2, (0, x2))] [] h (F_X6_number_85 x0 x1 x2 h) := by
  intro x0 x1 x2 h
  unfold F_X6_number_85
  refine x_aload_n 0 dX6_number_85 rfl rfl ?_
  refine x_iload_n 2 dX6_number_86 rfl rfl ?_
  refine x_iload_n 1 dX6_number_87 rfl rfl ?_
  refine x_join 96 (fun v1 => [(0, v1), (2, x0)]) (fun v1 => ?_) (fun hJ => ?_)
  · refine ct_X6_68 (by omega) (Nat.le_of_ble_eq_true rfl) dX6_number_96 (fun r2 h3 => ?_) fun _ _ => x3_out
    refine x_aload_n 0 dX6_number_99 rfl rfl ?_
    refine cl_X6_65 (by omega) (Nat.le_of_ble_eq_true rfl) dX6_number_100 fun r4 h5 => ?_
    refine x_iload_n 2 dX6_number_103 rfl rfl ?_
    exact x3_ret (Or.inl rfl) (fun _ => x_iret rfl dX6_number_104)
  · refine x_icmp_gtF 95 dX6_number_88 (by decide) (fun _ => ?_) (fun _ => ?_)
    · refine x_ic dX6_number_95 (by decide) (by decide) ?_
      exact hJ _
    · refine x_ic dX6_number_91 (by decide) (by decide) ?_
      refine x_goto 96 dX6_number_92 (by decide) ?_
      exact hJ _
noncomputable def F_X6_number_48 : Nat → Int → Int → Int → Int → XH → Option XR3
  | 0, _, _, _, _, _ => none
  | n + 1, x0, x1, x2, x3, h => ob h x0 6 <| if xv h x0 1 ≤ x3 then (F_X6_number_85 x0 x1 x2 h) else (if x1 < x2 then (F_X6_number_85 x0 x1 x2 h) else (ob h x0 6 <| ob h (xv h x0 8) 1 <| ai h (xv h (xv h x0 8) 11) 2 x3 <| nm (α := Int) (w32 ((w32 ((w32 (10 * x2)) + (xv h (xv h (xv h x0 8) 11) x3))) - 48)) fun v1 => nm (w32 (x3 + 1)) fun v2 => F_X6_number_48 n x0 x1 v1 v2 h))
theorem WF_X6_number_48 {d : Nat} {Z : XZ XR3} (hdd : 5 ≤ d) : ∀ n x0 x1 x2 x3 h, XG xf3 (xT 0) RX6 "number" cX6_number 4 (some .int) d Z 48 [(0, (2, x0)), (1, (0, x1)), (2, (0, x2)), (3, (0, x3))] [] h (F_X6_number_48 n x0 x1 x2 x3 h) := by
  intro n
  induction n with
  | zero => intro x0 x1 x2 x3 h; exact x_none
  | succ n ih =>
    intro x0 x1 x2 x3 h
    rw [F_X6_number_48]
    refine x_iload_n 3 dX6_number_48 rfl rfl ?_
    refine x_aload_n 0 dX6_number_49 rfl rfl ?_
    refine xg_X6_52 dX6_number_50 ?_
    refine x_icmp_ge 85 dX6_number_53 (by decide) (fun _ => ?_) (fun _ => ?_)
    · exact x_sub [0, 1, 2] rfl (WF_X6_number_85 hdd x0 x1 x2 h)
    · refine x_iload_n 2 dX6_number_56 rfl rfl ?_
      refine x_iload_n 1 dX6_number_57 rfl rfl ?_
      refine x_icmp_gt 85 dX6_number_58 (by decide) (fun _ => ?_) (fun _ => ?_)
      · exact x_sub [0, 1, 2] rfl (WF_X6_number_85 hdd x0 x1 x2 h)
      · refine x_bp dX6_number_61 (by decide) (by decide) ?_
        refine x_iload_n 2 dX6_number_63 rfl rfl ?_
        refine x_imul dX6_number_64 ?_
        refine x_aload_n 0 dX6_number_65 rfl rfl ?_
        refine xg_X6_3 dX6_number_66 ?_
        refine xg_X6_99 dX6_number_69 ?_
        refine x_iload_n 3 dX6_number_72 rfl rfl ?_
        refine x_bald dX6_number_73 ?_
        refine x_iadd dX6_number_74 ?_
        refine x_bp dX6_number_75 (by decide) (by decide) ?_
        refine x_isub dX6_number_77 ?_
        refine x_nmT fun v1 => ?_
        refine x_istore_n (lv' := [(2, (0, v1)), (0, (2, x0)), (1, (0, x1)), (3, (0, x3))]) dX6_number_78 rfl (by decide) rfl ?_
        refine x_iinc 3 dX6_number_79 rfl (by decide) fun v2 => x_lv (lv' := [(3, (0, v2)), (2, (0, v1)), (0, (2, x0)), (1, (0, x1))]) rfl ?_
        refine x_goto 48 dX6_number_82 (by decide) ?_
        exact x_sub [2, 3, 1, 0] rfl (ih x0 x1 v1 v2 h)
noncomputable def F_X6_number_38 (s0 : Int) (s1 : Int) (x0 : Int) (x1 : Int) (h : XH) : Option XR3 := ob h s0 6 <| mt (F_X6_must s0 s1 h) fun r1 h2 => ob h2 x0 6 <| nm (α := Int) (xv h2 x0 0) fun v3 => F_X6_number_48 FU x0 x1 0 v3 h2
theorem WF_X6_number_38 {d : Nat} {Z : XZ XR3} (hdd : 5 ≤ d) : ∀ s0 s1 x0 x1 h, XG xf3 (xT 0) RX6 "number" cX6_number 4 (some .int) d Z 38 [(0, (2, x0)), (1, (0, x1))] [(0, s1), (2, s0)] h (F_X6_number_38 s0 s1 x0 x1 h) := by
  intro s0 s1 x0 x1 h
  unfold F_X6_number_38
  refine ct_X6_68 (by omega) (Nat.le_of_ble_eq_true rfl) dX6_number_38 (fun r1 h2 => ?_) fun _ _ => x3_out
  refine x_ic dX6_number_41 (by decide) (by decide) ?_
  refine x_istore_n (lv' := [(2, (0, 0)), (0, (2, x0)), (1, (0, x1))]) dX6_number_42 rfl (by decide) rfl ?_
  refine x_aload_n 1 dX6_number_43 rfl rfl ?_
  refine xg_X6_82 dX6_number_44 ?_
  refine x_nmT fun v3 => ?_
  refine x_istore_n (lv' := [(3, (0, v3)), (2, (0, 0)), (0, (2, x0)), (1, (0, x1))]) dX6_number_47 rfl (by decide) rfl ?_
  exact x_sub [2, 3, 1, 0] rfl (WF_X6_number_48 hdd FU x0 x1 0 v3 h2)
noncomputable def F_X6_number_37 (s0 : Int) (x0 : Int) (x1 : Int) (h : XH) : Option XR3 := F_X6_number_38 s0 0 x0 x1 h
theorem WF_X6_number_37 {d : Nat} {Z : XZ XR3} (hdd : 5 ≤ d) : ∀ s0 x0 x1 h, XG xf3 (xT 0) RX6 "number" cX6_number 4 (some .int) d Z 37 [(0, (2, x0)), (1, (0, x1))] [(2, s0)] h (F_X6_number_37 s0 x0 x1 h) := by
  intro s0 x0 x1 h
  unfold F_X6_number_37
  refine x_ic dX6_number_37 (by decide) (by decide) ?_
  exact x_sub [0, 1] rfl (WF_X6_number_38 hdd s0 0 x0 x1 h)
noncomputable def F_X6_number (x0 : Int) (x1 : Int) (h : XH) : Option XR3 := ob h x0 6 <| ob h x0 6 <| ob h (xv h x0 8) 1 <| if xv h (xv h x0 8) 12 ≤ xv h x0 0 then (F_X6_number_37 x0 x0 x1 h) else (ob h x0 6 <| ob h (xv h x0 8) 1 <| ob h x0 6 <| ai h (xv h (xv h x0 8) 11) 2 (xv h x0 0) <| mb (F_X0_isDigit (xv h (xv h (xv h x0 8) 11) (xv h x0 0)) h) fun r1 h2 => if r1 = 0 then (F_X6_number_37 x0 x0 x1 h2) else (F_X6_number_38 x0 1 x0 x1 h2))
theorem WF_X6_number {d : Nat} {Z : XZ XR3} (hdd : 5 ≤ d) : ∀ x0 x1 h, XG xf3 (xT 0) RX6 "number" cX6_number 4 (some .int) d Z 0 [(0, (2, x0)), (1, (0, x1))] [] h (F_X6_number x0 x1 h) := by
  intro x0 x1 h
  unfold F_X6_number
  refine x_aload_n 0 dX6_number_0 rfl rfl ?_
  refine x_aload_n 0 dX6_number_1 rfl rfl ?_
  refine xg_X6_82 dX6_number_2 ?_
  refine x_aload_n 0 dX6_number_5 rfl rfl ?_
  refine xg_X6_3 dX6_number_6 ?_
  refine xg_X6_85 dX6_number_9 ?_
  refine x_icmp_ge 37 dX6_number_12 (by decide) (fun _ => ?_) (fun _ => ?_)
  · exact x_sub [0, 1] rfl (WF_X6_number_37 hdd x0 x0 x1 h)
  · refine x_aload_n 0 dX6_number_15 rfl rfl ?_
    refine xg_X6_3 dX6_number_16 ?_
    refine xg_X6_99 dX6_number_19 ?_
    refine x_aload_n 0 dX6_number_22 rfl rfl ?_
    refine xg_X6_82 dX6_number_23 ?_
    refine x_bald dX6_number_26 ?_
    refine cl_X6_107 (by omega) (Nat.le_of_ble_eq_true rfl) dX6_number_27 fun r1 h2 => ?_
    refine x_if_eq 37 dX6_number_30 (by decide) (fun _ => ?_) (fun _ => ?_)
    · exact x_sub [0, 1] rfl (WF_X6_number_37 hdd x0 x0 x1 h2)
    · refine x_ic dX6_number_33 (by decide) (by decide) ?_
      refine x_goto 38 dX6_number_34 (by decide) ?_
      exact x_sub [0, 1] rfl (WF_X6_number_38 hdd x0 1 x0 x1 h2)
theorem SF_X6_number (l : Launch) {d : Nat} (hdd : 5 ≤ d) (x0 : Int) (x1 : Int) (h : XH) (hok : okH h) (ho : okXs (xn h) [(2, x0), (0, x1)]) (fin : XR3) (hf : F_X6_number x0 x1 h = some fin) : xSpec3 l yX6_number cX6_number 4 (some .int) d 0 [(2, x0), (0, x1)] h fin := x3_enter (lv := [(0, (2, x0)), (1, (0, x1))]) (by decide) rfl rfl (Nat.le_of_ble_eq_true rfl) rfl (fun Z _ => WF_X6_number hdd x0 x1 h) hok ho fin hf
abbrev r3Mono (R3 : Nat → Int → XH → Option XR3) : Prop := ∀ (Z : XZ XR3) (i : Nat) (b : Int) (h : XH), XM xf3 h (R3 i b h)
def R3spec (f : Nat → Int → XH → Option XR3) (l : Launch) (dr : Nat) : Prop := ∀ (b : Int) (h : XH), okH h → okXs (xn h) [(2, b)] → (∀ fin, f 0 b h = some fin → xSpec3 l yX6_test cX6_test 2 (some (.object "ExamSlips$Test")) dr 3 [(2, b)] h fin) ∧ (∀ fin, f 1 b h = some fin → xSpec3 l yX6_both cX6_both 2 (some (.object "ExamSlips$Test")) dr 3 [(2, b)] h fin) ∧ (∀ fin, f 2 b h = some fin → xSpec3 l yX6_plain cX6_plain 5 (some (.object "ExamSlips$Test")) dr 3 [(2, b)] h fin) ∧ (∀ fin, f 3 b h = some fin → xSpec3 l yX6_sum cX6_sum 3 (some (.object "ExamSlips$Sum")) dr 3 [(2, b)] h fin) ∧ (∀ fin, f 4 b h = some fin → xSpec3 l yX6_term cX6_term 3 (some (.object "ExamSlips$Sum")) dr 3 [(2, b)] h fin) ∧ (∀ fin, f 5 b h = some fin → xSpec3 l yX6_part cX6_part 2 (some (.object "ExamSlips$Sum")) dr 3 [(2, b)] h fin)
theorem cl_X6_146 {ρ : Type} {fh : ρ → XH} {QQ : XZ ρ → State → Prop} {mn : String} {cc : ByteArray} {nL : Nat} {ret : Option FieldType} {d : Nat} {Z : XZ ρ} {pc : Nat} {lv : List (Nat × AV)} {st : List AV} {h : XH} {g : Int → XH → Option ρ} {b a0 : Int} (hdd : 2 ≤ d) (hcat : (st.map fun v => if v.1 = 1 then 2 else 1).sum ≤ 8) (hdg : decode cc pc = .ok (.invokevirtual 146, 3)) (kk : ∀ r h1, XG fh QQ RX6 mn cc nL ret d Z (pc + 3) lv st h1 (g r h1)) : XG fh QQ RX6 mn cc nL ret d Z pc lv ((2, a0) :: (2, b) :: st) h (ob h b 6 (mb (F_X6_add b a0 h) g)) :=
  x_callVv [(2, a0)] 1 (WF_X6_add (Z := (Z.1, Z.2.1, ((0, h), h))) (Nat.le_refl 1) b a0 h).1 (fun hok ho fin hf => SF_X6_add (yL Z) (Nat.le_refl 1) b a0 h hok ho fin hf) RX6 6 rfl (by decide) (lw_V q846 q848 qs25 q139 q849) ⟨rfl, by decide +kernel, by decide +kernel, by decide +kernel⟩ rfl (by omega) (by decide) rfl hcat hdg kk
theorem cl_X6_152 {ρ : Type} {fh : ρ → XH} {QQ : XZ ρ → State → Prop} {mn : String} {cc : ByteArray} {nL : Nat} {ret : Option FieldType} {d : Nat} {Z : XZ ρ} {pc : Nat} {lv : List (Nat × AV)} {st : List AV} {h : XH} {g : Int → XH → Option ρ} {b a0 a1 : Int} (hdd : 4 ≤ d) (hcat : (st.map fun v => if v.1 = 1 then 2 else 1).sum ≤ 8) (hdg : decode cc pc = .ok (.invokevirtual 152, 3)) (kk : ∀ r h1, XG fh QQ RX6 mn cc nL ret d Z (pc + 3) lv ((2, r) :: st) h1 (g r h1)) : XG fh QQ RX6 mn cc nL ret d Z pc lv ((0, a1) :: (0, a0) :: (2, b) :: st) h (ob h b 6 (mb (F_X6_row b a0 a1 h) g)) :=
  x_callVr [(0, a0), (0, a1)] 2 (WF_X6_row (Z := (Z.1, Z.2.1, ((0, h), h))) (Nat.le_refl 3) b a0 a1 h).1 (fun hok ho fin hf => SF_X6_row (yL Z) (Nat.le_refl 3) b a0 a1 h hok ho fin hf) RX6 6 rfl (by decide) (lw_V q851 q853 qs26 q139 q854) ⟨rfl, by decide +kernel, by decide +kernel, by decide +kernel⟩ rfl (by omega) (by decide) rfl hcat hdg kk
theorem crt_X6_143 {ρ : Type} {fh : ρ → XH} {QQ : XZ ρ → State → Prop} {mn : String} {cc : ByteArray} {nL : Nat} {ret : Option FieldType} {d : Nat} {Z : XZ ρ} {pc : Nat} {lv : List (Nat × AV)} {st : List AV} {h : XH} {g k : Int → XH → Option ρ} {b : Int} {dr : Nat} {R3 : Nat → Int → XH → Option XR3} (hRm : r3Mono R3) (hR3 : R3spec R3 (yL Z) dr) (hdd : dr + 1 ≤ d) (hcat : (st.map fun v => if v.1 = 1 then 2 else 1).sum ≤ 8) (hdg : decode cc pc = .ok (.invokevirtual 143, 3)) (kk : ∀ r h1, XG fh QQ RX6 mn cc nL ret d Z (pc + 3) lv ((2, r) :: st) h1 (g r h1)) (kx : ∀ r h1, XT fh QQ RX6 mn cc nL ret d Z pc lv r h1 (k r h1)) : XG fh QQ RX6 mn cc nL ret d Z pc lv ((2, b) :: st) h (ob h b 6 (mb3 (R3 1 b h) g k)) :=
  x3_callVr [] 0 (hRm (Z.1, Z.2.1, ((false, 0, h), h)) 1 b h) (fun hok ho fin hf => (hR3 b h hok ho).2.1 fin hf) RX6 6 rfl (by decide) (lw_V q803 q805 qs23 q139 q806) ⟨rfl, by decide +kernel, by decide +kernel, by decide +kernel⟩ rfl hdd (by decide) rfl hcat hdg kk kx
noncomputable def F_X6_test_33 (R3 : Nat → Int → XH → Option XR3) (x0 : Int) (x1 : Int) (h : XH) : Option XR3 := ob h x0 6 <| mb (F_X6_row x0 0 x1 h) fun r1 h2 => some (false, r1, h2)
theorem WF_X6_test_33 {d : Nat} {dr : Nat} {Z : XZ XR3} (hdd : dr + 1 ≤ d ∧ 8 ≤ d) {R3 : Nat → Int → XH → Option XR3} (hRm : r3Mono R3) (hR3 : R3spec R3 (yL Z) dr) : ∀ x0 x1 h, XG xf3 (xT 3) RX6 "test" cX6_test 2 (some (.object "ExamSlips$Test")) d Z 33 [(0, (2, x0)), (1, (0, x1))] [] h (F_X6_test_33 R3 x0 x1 h) := by
  intro x0 x1 h
  unfold F_X6_test_33
  refine x_aload_n 0 dX6_test_33 rfl rfl ?_
  refine x_ic dX6_test_34 (by decide) (by decide) ?_
  refine x_iload_n 1 dX6_test_35 rfl rfl ?_
  refine cl_X6_152 (by omega) (Nat.le_of_ble_eq_true rfl) dX6_test_36 fun r1 h2 => ?_
  exact x3_ret (Or.inr (Or.inr rfl)) (fun _ => x_aret rfl (Or.inl ⟨_, rfl⟩) dX6_test_39)
noncomputable def F_X6_test_13 (R3 : Nat → Int → XH → Option XR3) : Nat → Int → Int → XH → Option XR3
  | 0, _, _, _ => none
  | n + 1, x0, x1, h => ob h x0 6 <| mb (F_X6_accept x0 (-34) h) fun r1 h2 => if r1 = 0 then (F_X6_test_33 R3 x0 x1 h2) else (ob h2 x0 6 <| mt (R3 1 x0 h2) fun r3 h4 => ob h4 x0 6 <| mb (F_X6_add x0 r3 h4) fun r5 h6 => F_X6_test_13 R3 n x0 x1 h6)
theorem WF_X6_test_13 {d : Nat} {dr : Nat} {Z : XZ XR3} (hdd : dr + 1 ≤ d ∧ 8 ≤ d) {R3 : Nat → Int → XH → Option XR3} (hRm : r3Mono R3) (hR3 : R3spec R3 (yL Z) dr) : ∀ n x0 x1 h, XG xf3 (xT 3) RX6 "test" cX6_test 2 (some (.object "ExamSlips$Test")) d Z 13 [(0, (2, x0)), (1, (0, x1))] [] h (F_X6_test_13 R3 n x0 x1 h) := by
  intro n
  induction n with
  | zero => intro x0 x1 h; exact x_none
  | succ n ih =>
    intro x0 x1 h
    rw [F_X6_test_13]
    refine x_aload_n 0 dX6_test_13 rfl rfl ?_
    refine x_ldcS (tx := "or") (-34) (by decide) rfl dX6_test_14 ?_
    refine cl_X6_78 (by omega) (Nat.le_of_ble_eq_true rfl) dX6_test_16 fun r1 h2 => ?_
    refine x_if_eq 33 dX6_test_19 (by decide) (fun _ => ?_) (fun _ => ?_)
    · exact x_sub [0, 1] rfl (WF_X6_test_33 hdd hRm hR3 x0 x1 h2)
    · refine x_aload_n 0 dX6_test_22 rfl rfl ?_
      refine x_aload_n 0 dX6_test_23 rfl rfl ?_
      refine crt_X6_143 hRm hR3 hdd.1 (Nat.le_of_ble_eq_true rfl) dX6_test_24 (fun r3 h4 => ?_) fun _ _ => x3_out
      refine cl_X6_146 (by omega) (Nat.le_of_ble_eq_true rfl) dX6_test_27 fun r5 h6 => ?_
      refine x_goto 13 dX6_test_30 (by decide) ?_
      exact x_sub [0, 1] rfl (ih x0 x1 h6)
noncomputable def F_X6_test_b (R3 : Nat → Int → XH → Option XR3) (x0 : Int) (h : XH) : Option XR3 := ob h x0 6 <| nm (α := Int) (xv h x0 4) fun v1 => ob h x0 6 <| mt (R3 1 x0 h) fun r2 h3 => ob h3 x0 6 <| mb (F_X6_add x0 r2 h3) fun r4 h5 => F_X6_test_13 R3 FU x0 v1 h5
theorem WF_X6_test_b {d : Nat} {dr : Nat} {Z : XZ XR3} (hdd : dr + 1 ≤ d ∧ 8 ≤ d) {R3 : Nat → Int → XH → Option XR3} (hRm : r3Mono R3) (hR3 : R3spec R3 (yL Z) dr) : ∀ x0 h, XG xf3 (xT 3) RX6 "test" cX6_test 2 (some (.object "ExamSlips$Test")) d Z 0 [(0, (2, x0))] [] h (F_X6_test_b R3 x0 h) := by
  intro x0 h
  unfold F_X6_test_b
  refine x_aload_n 0 dX6_test_0 rfl rfl ?_
  refine xg_X6_62 dX6_test_1 ?_
  refine x_nmT fun v1 => ?_
  refine x_istore_n (lv' := [(1, (0, v1)), (0, (2, x0))]) dX6_test_4 rfl (by decide) rfl ?_
  refine x_aload_n 1 dX6_test_5 rfl rfl ?_
  refine x_aload_n 1 dX6_test_6 rfl rfl ?_
  refine crt_X6_143 hRm hR3 hdd.1 (Nat.le_of_ble_eq_true rfl) dX6_test_7 (fun r2 h3 => ?_) fun _ _ => x3_out
  refine cl_X6_146 (by omega) (Nat.le_of_ble_eq_true rfl) dX6_test_10 fun r4 h5 => ?_
  exact x_sub [1, 0] rfl (WF_X6_test_13 hdd hRm hR3 FU x0 v1 h5)
theorem SF_X6_test_b (l : Launch) {d dr : Nat} (hdd : dr + 1 ≤ d ∧ 8 ≤ d) {R3 : Nat → Int → XH → Option XR3} (hRm : r3Mono R3) (hR3 : R3spec R3 l dr) (x0 : Int) (h : XH) (hok : okH h) (ho : okXs (xn h) [(2, x0)]) (fin : XR3) (hf : F_X6_test_b R3 x0 h = some fin) : xSpec3 l yX6_test cX6_test 2 (some (.object "ExamSlips$Test")) d 3 [(2, x0)] h fin := x3_enter (lv := [(0, (2, x0))]) (by decide) rfl rfl (Nat.le_of_ble_eq_true rfl) rfl (fun Z hZ => by subst hZ; exact WF_X6_test_b hdd hRm hR3 x0 h) hok ho fin hf
theorem crt_X6_156 {ρ : Type} {fh : ρ → XH} {QQ : XZ ρ → State → Prop} {mn : String} {cc : ByteArray} {nL : Nat} {ret : Option FieldType} {d : Nat} {Z : XZ ρ} {pc : Nat} {lv : List (Nat × AV)} {st : List AV} {h : XH} {g k : Int → XH → Option ρ} {b : Int} {dr : Nat} {R3 : Nat → Int → XH → Option XR3} (hRm : r3Mono R3) (hR3 : R3spec R3 (yL Z) dr) (hdd : dr + 1 ≤ d) (hcat : (st.map fun v => if v.1 = 1 then 2 else 1).sum ≤ 8) (hdg : decode cc pc = .ok (.invokevirtual 156, 3)) (kk : ∀ r h1, XG fh QQ RX6 mn cc nL ret d Z (pc + 3) lv ((2, r) :: st) h1 (g r h1)) (kx : ∀ r h1, XT fh QQ RX6 mn cc nL ret d Z pc lv r h1 (k r h1)) : XG fh QQ RX6 mn cc nL ret d Z pc lv ((2, b) :: st) h (ob h b 6 (mb3 (R3 2 b h) g k)) :=
  x3_callVr [] 0 (hRm (Z.1, Z.2.1, ((false, 0, h), h)) 2 b h) (fun hok ho fin hf => (hR3 b h hok ho).2.2.1 fin hf) RX6 6 rfl (by decide) (lw_V q807 q809 qs24 q139 q810) ⟨rfl, by decide +kernel, by decide +kernel, by decide +kernel⟩ rfl hdd (by decide) rfl hcat hdg kk kx
noncomputable def F_X6_both_33 (R3 : Nat → Int → XH → Option XR3) (x0 : Int) (x1 : Int) (h : XH) : Option XR3 := ob h x0 6 <| mb (F_X6_row x0 1 x1 h) fun r1 h2 => some (false, r1, h2)
theorem WF_X6_both_33 {d : Nat} {dr : Nat} {Z : XZ XR3} (hdd : dr + 1 ≤ d ∧ 8 ≤ d) {R3 : Nat → Int → XH → Option XR3} (hRm : r3Mono R3) (hR3 : R3spec R3 (yL Z) dr) : ∀ x0 x1 h, XG xf3 (xT 3) RX6 "both" cX6_both 2 (some (.object "ExamSlips$Test")) d Z 33 [(0, (2, x0)), (1, (0, x1))] [] h (F_X6_both_33 R3 x0 x1 h) := by
  intro x0 x1 h
  unfold F_X6_both_33
  refine x_aload_n 0 dX6_both_33 rfl rfl ?_
  refine x_ic dX6_both_34 (by decide) (by decide) ?_
  refine x_iload_n 1 dX6_both_35 rfl rfl ?_
  refine cl_X6_152 (by omega) (Nat.le_of_ble_eq_true rfl) dX6_both_36 fun r1 h2 => ?_
  exact x3_ret (Or.inr (Or.inr rfl)) (fun _ => x_aret rfl (Or.inl ⟨_, rfl⟩) dX6_both_39)
noncomputable def F_X6_both_13 (R3 : Nat → Int → XH → Option XR3) : Nat → Int → Int → XH → Option XR3
  | 0, _, _, _ => none
  | n + 1, x0, x1, h => ob h x0 6 <| mb (F_X6_accept x0 (-33) h) fun r1 h2 => if r1 = 0 then (F_X6_both_33 R3 x0 x1 h2) else (ob h2 x0 6 <| mt (R3 2 x0 h2) fun r3 h4 => ob h4 x0 6 <| mb (F_X6_add x0 r3 h4) fun r5 h6 => F_X6_both_13 R3 n x0 x1 h6)
theorem WF_X6_both_13 {d : Nat} {dr : Nat} {Z : XZ XR3} (hdd : dr + 1 ≤ d ∧ 8 ≤ d) {R3 : Nat → Int → XH → Option XR3} (hRm : r3Mono R3) (hR3 : R3spec R3 (yL Z) dr) : ∀ n x0 x1 h, XG xf3 (xT 3) RX6 "both" cX6_both 2 (some (.object "ExamSlips$Test")) d Z 13 [(0, (2, x0)), (1, (0, x1))] [] h (F_X6_both_13 R3 n x0 x1 h) := by
  intro n
  induction n with
  | zero => intro x0 x1 h; exact x_none
  | succ n ih =>
    intro x0 x1 h
    rw [F_X6_both_13]
    refine x_aload_n 0 dX6_both_13 rfl rfl ?_
    refine x_ldcS (tx := "and") (-33) (by decide) rfl dX6_both_14 ?_
    refine cl_X6_78 (by omega) (Nat.le_of_ble_eq_true rfl) dX6_both_16 fun r1 h2 => ?_
    refine x_if_eq 33 dX6_both_19 (by decide) (fun _ => ?_) (fun _ => ?_)
    · exact x_sub [0, 1] rfl (WF_X6_both_33 hdd hRm hR3 x0 x1 h2)
    · refine x_aload_n 0 dX6_both_22 rfl rfl ?_
      refine x_aload_n 0 dX6_both_23 rfl rfl ?_
      refine crt_X6_156 hRm hR3 hdd.1 (Nat.le_of_ble_eq_true rfl) dX6_both_24 (fun r3 h4 => ?_) fun _ _ => x3_out
      refine cl_X6_146 (by omega) (Nat.le_of_ble_eq_true rfl) dX6_both_27 fun r5 h6 => ?_
      refine x_goto 13 dX6_both_30 (by decide) ?_
      exact x_sub [0, 1] rfl (ih x0 x1 h6)
noncomputable def F_X6_both_b (R3 : Nat → Int → XH → Option XR3) (x0 : Int) (h : XH) : Option XR3 := ob h x0 6 <| nm (α := Int) (xv h x0 4) fun v1 => ob h x0 6 <| mt (R3 2 x0 h) fun r2 h3 => ob h3 x0 6 <| mb (F_X6_add x0 r2 h3) fun r4 h5 => F_X6_both_13 R3 FU x0 v1 h5
theorem WF_X6_both_b {d : Nat} {dr : Nat} {Z : XZ XR3} (hdd : dr + 1 ≤ d ∧ 8 ≤ d) {R3 : Nat → Int → XH → Option XR3} (hRm : r3Mono R3) (hR3 : R3spec R3 (yL Z) dr) : ∀ x0 h, XG xf3 (xT 3) RX6 "both" cX6_both 2 (some (.object "ExamSlips$Test")) d Z 0 [(0, (2, x0))] [] h (F_X6_both_b R3 x0 h) := by
  intro x0 h
  unfold F_X6_both_b
  refine x_aload_n 0 dX6_both_0 rfl rfl ?_
  refine xg_X6_62 dX6_both_1 ?_
  refine x_nmT fun v1 => ?_
  refine x_istore_n (lv' := [(1, (0, v1)), (0, (2, x0))]) dX6_both_4 rfl (by decide) rfl ?_
  refine x_aload_n 1 dX6_both_5 rfl rfl ?_
  refine x_aload_n 1 dX6_both_6 rfl rfl ?_
  refine crt_X6_156 hRm hR3 hdd.1 (Nat.le_of_ble_eq_true rfl) dX6_both_7 (fun r2 h3 => ?_) fun _ _ => x3_out
  refine cl_X6_146 (by omega) (Nat.le_of_ble_eq_true rfl) dX6_both_10 fun r4 h5 => ?_
  exact x_sub [1, 0] rfl (WF_X6_both_13 hdd hRm hR3 FU x0 v1 h5)
theorem SF_X6_both_b (l : Launch) {d dr : Nat} (hdd : dr + 1 ≤ d ∧ 8 ≤ d) {R3 : Nat → Int → XH → Option XR3} (hRm : r3Mono R3) (hR3 : R3spec R3 l dr) (x0 : Int) (h : XH) (hok : okH h) (ho : okXs (xn h) [(2, x0)]) (fin : XR3) (hf : F_X6_both_b R3 x0 h = some fin) : xSpec3 l yX6_both cX6_both 2 (some (.object "ExamSlips$Test")) d 3 [(2, x0)] h fin := x3_enter (lv := [(0, (2, x0))]) (by decide) rfl rfl (Nat.le_of_ble_eq_true rfl) rfl (fun Z hZ => by subst hZ; exact WF_X6_both_b hdd hRm hR3 x0 h) hok ho fin hf
theorem cl_X6_187 {ρ : Type} {fh : ρ → XH} {QQ : XZ ρ → State → Prop} {mn : String} {cc : ByteArray} {nL : Nat} {ret : Option FieldType} {d : Nat} {Z : XZ ρ} {pc : Nat} {lv : List (Nat × AV)} {st : List AV} {h : XH} {g : Int → XH → Option ρ} {b a0 a1 a2 : Int} (hdd : 3 ≤ d) (hcat : (st.map fun v => if v.1 = 1 then 2 else 1).sum ≤ 8) (hdg : decode cc pc = .ok (.invokespecial 187, 3)) (kk : ∀ r h1, XG fh QQ RX6 mn cc nL ret d Z (pc + 3) lv st h1 (g r h1)) : XG fh QQ RX6 mn cc nL ret d Z pc lv ((2, a2) :: (0, a1) :: (2, a0) :: (2, b) :: st) h (pz b (mb (F_X13_init b a0 a1 a2 h) g)) :=
  x_callIv [(2, a0), (0, a1), (2, a2)] 3 (WF_X13_init (Z := (Z.1, Z.2.1, ((0, h), h))) (Nat.le_refl 2) b a0 a1 a2 h).1 (fun hok ho fin hf => SF_X13_init (yL Z) (Nat.le_refl 2) b a0 a1 a2 h hok ho fin hf) (lw_meth q821) q151 q819 q820 rfl ⟨by decide +kernel, by decide +kernel, by decide +kernel⟩ rfl (by omega) (by decide) rfl hcat hdg kk
theorem cl_X6_192 {ρ : Type} {fh : ρ → XH} {QQ : XZ ρ → State → Prop} {mn : String} {cc : ByteArray} {nL : Nat} {ret : Option FieldType} {d : Nat} {Z : XZ ρ} {pc : Nat} {lv : List (Nat × AV)} {st : List AV} {h : XH} {g : Int → XH → Option ρ} {b a0 : Int} (hdd : 3 ≤ d) (hcat : (st.map fun v => if v.1 = 1 then 2 else 1).sum ≤ 8) (hdg : decode cc pc = .ok (.invokespecial 192, 3)) (kk : ∀ r h1, XG fh QQ RX6 mn cc nL ret d Z (pc + 3) lv st h1 (g r h1)) : XG fh QQ RX6 mn cc nL ret d Z pc lv ((2, a0) :: (2, b) :: st) h (pz b (mb (F_X14_init b a0 h) g)) :=
  x_callIv [(2, a0)] 1 (WF_X14_init (Z := (Z.1, Z.2.1, ((0, h), h))) (Nat.le_refl 2) b a0 h).1 (fun hok ho fin hf => SF_X14_init (yL Z) (Nat.le_refl 2) b a0 h hok ho fin hf) (lw_meth q840) q152 q838 q839 rfl ⟨by decide +kernel, by decide +kernel, by decide +kernel⟩ rfl (by omega) (by decide) rfl hcat hdg kk
theorem xn_X6_185 {ρ : Type} {fh : ρ → XH} {QQ : XZ ρ → State → Prop} {mn : String} {cc : ByteArray} {nL : Nat} {ret : Option FieldType} {d : Nat} {Z : XZ ρ} {pc : Nat} {lv : List (Nat × AV)} {st : List AV} {h : XH} {f : Int → XH → Option ρ} (hd : decode cc pc = .ok (.new 185, 3)) (kk : ∀ r h1, XG fh QQ RX6 mn cc nL ret d Z (pc + 3) lv ((2, r) :: st) h1 (f r h1)) : XG fh QQ RX6 mn cc nL ret d Z pc lv st h (nw h 11 3 f) := x_new (C := RX13) 11 rfl in_X13 tyX13_ok (by decide) rfl (by decide) xfit_X13 q817 q818 q151 hd kk
theorem xn_X6_190 {ρ : Type} {fh : ρ → XH} {QQ : XZ ρ → State → Prop} {mn : String} {cc : ByteArray} {nL : Nat} {ret : Option FieldType} {d : Nat} {Z : XZ ρ} {pc : Nat} {lv : List (Nat × AV)} {st : List AV} {h : XH} {f : Int → XH → Option ρ} (hd : decode cc pc = .ok (.new 190, 3)) (kk : ∀ r h1, XG fh QQ RX6 mn cc nL ret d Z (pc + 3) lv ((2, r) :: st) h1 (f r h1)) : XG fh QQ RX6 mn cc nL ret d Z pc lv st h (nw h 12 1 f) := x_new (C := RX14) 12 rfl in_X14 tyX14_ok (by decide) rfl (by decide) xfit_X14 q836 q837 q152 hd kk
theorem crt_X6_130 {ρ : Type} {fh : ρ → XH} {QQ : XZ ρ → State → Prop} {mn : String} {cc : ByteArray} {nL : Nat} {ret : Option FieldType} {d : Nat} {Z : XZ ρ} {pc : Nat} {lv : List (Nat × AV)} {st : List AV} {h : XH} {g k : Int → XH → Option ρ} {b : Int} {dr : Nat} {R3 : Nat → Int → XH → Option XR3} (hRm : r3Mono R3) (hR3 : R3spec R3 (yL Z) dr) (hdd : dr + 1 ≤ d) (hcat : (st.map fun v => if v.1 = 1 then 2 else 1).sum ≤ 8) (hdg : decode cc pc = .ok (.invokevirtual 130, 3)) (kk : ∀ r h1, XG fh QQ RX6 mn cc nL ret d Z (pc + 3) lv ((2, r) :: st) h1 (g r h1)) (kx : ∀ r h1, XT fh QQ RX6 mn cc nL ret d Z pc lv r h1 (k r h1)) : XG fh QQ RX6 mn cc nL ret d Z pc lv ((2, b) :: st) h (ob h b 6 (mb3 (R3 3 b h) g k)) :=
  x3_callVr [] 0 (hRm (Z.1, Z.2.1, ((false, 0, h), h)) 3 b h) (fun hok ho fin hf => (hR3 b h hok ho).2.2.2.1 fin hf) RX6 6 rfl (by decide) (lw_V q721 q723 qs14 q139 q724) ⟨rfl, by decide +kernel, by decide +kernel, by decide +kernel⟩ rfl hdd (by decide) rfl hcat hdg kk kx
theorem crt_X6_136 {ρ : Type} {fh : ρ → XH} {QQ : XZ ρ → State → Prop} {mn : String} {cc : ByteArray} {nL : Nat} {ret : Option FieldType} {d : Nat} {Z : XZ ρ} {pc : Nat} {lv : List (Nat × AV)} {st : List AV} {h : XH} {g k : Int → XH → Option ρ} {b : Int} {dr : Nat} {R3 : Nat → Int → XH → Option XR3} (hRm : r3Mono R3) (hR3 : R3spec R3 (yL Z) dr) (hdd : dr + 1 ≤ d) (hcat : (st.map fun v => if v.1 = 1 then 2 else 1).sum ≤ 8) (hdg : decode cc pc = .ok (.invokevirtual 136, 3)) (kk : ∀ r h1, XG fh QQ RX6 mn cc nL ret d Z (pc + 3) lv ((2, r) :: st) h1 (g r h1)) (kx : ∀ r h1, XT fh QQ RX6 mn cc nL ret d Z pc lv r h1 (k r h1)) : XG fh QQ RX6 mn cc nL ret d Z pc lv ((2, b) :: st) h (ob h b 6 (mb3 (R3 0 b h) g k)) :=
  x3_callVr [] 0 (hRm (Z.1, Z.2.1, ((false, 0, h), h)) 0 b h) (fun hok ho fin hf => (hR3 b h hok ho).1 fin hf) RX6 6 rfl (by decide) (lw_V q799 q801 qs22 q139 q802) ⟨rfl, by decide +kernel, by decide +kernel, by decide +kernel⟩ rfl hdd (by decide) rfl hcat hdg kk kx
theorem ct_X6_170 {ρ : Type} {fh : ρ → XH} {QQ : XZ ρ → State → Prop} {mn : String} {cc : ByteArray} {nL : Nat} {ret : Option FieldType} {d : Nat} {Z : XZ ρ} {pc : Nat} {lv : List (Nat × AV)} {st : List AV} {h : XH} {g k : Int → XH → Option ρ} {b : Int} (hdd : 6 ≤ d) (hcat : (st.map fun v => if v.1 = 1 then 2 else 1).sum ≤ 8) (hdg : decode cc pc = .ok (.invokevirtual 170, 3)) (kk : ∀ r h1, XG fh QQ RX6 mn cc nL ret d Z (pc + 3) lv st h1 (g r h1)) (kx : ∀ r h1, XT fh QQ RX6 mn cc nL ret d Z pc lv r h1 (k r h1)) : XG fh QQ RX6 mn cc nL ret d Z pc lv ((2, b) :: st) h (ob h b 6 (mb3 (F_X6_open b h) g k)) :=
  x3_callVv [] 0 (WF_X6_open (Z := (Z.1, Z.2.1, ((false, 0, h), h))) (Nat.le_refl 5) b h).1 (fun hok ho fin hf => SF_X6_open (yL Z) (Nat.le_refl 5) b h hok ho fin hf) RX6 6 rfl (by decide) (lw_V q734 q736 qs17 q139 q737) ⟨rfl, by decide +kernel, by decide +kernel, by decide +kernel⟩ rfl (by omega) (by decide) rfl hcat hdg kk kx
theorem ct_X6_175 {ρ : Type} {fh : ρ → XH} {QQ : XZ ρ → State → Prop} {mn : String} {cc : ByteArray} {nL : Nat} {ret : Option FieldType} {d : Nat} {Z : XZ ρ} {pc : Nat} {lv : List (Nat × AV)} {st : List AV} {h : XH} {g k : Int → XH → Option ρ} {b a0 : Int} (hdd : 8 ≤ d) (hcat : (st.map fun v => if v.1 = 1 then 2 else 1).sum ≤ 8) (hdg : decode cc pc = .ok (.invokevirtual 175, 3)) (kk : ∀ r h1, XG fh QQ RX6 mn cc nL ret d Z (pc + 3) lv st h1 (g r h1)) (kx : ∀ r h1, XT fh QQ RX6 mn cc nL ret d Z pc lv r h1 (k r h1)) : XG fh QQ RX6 mn cc nL ret d Z pc lv ((2, a0) :: (2, b) :: st) h (ob h b 6 (mb3 (F_X6_close b a0 h) g k)) :=
  x3_callVv [(2, a0)] 1 (WF_X6_close (Z := (Z.1, Z.2.1, ((false, 0, h), h))) (Nat.le_refl 7) b a0 h).1 (fun hok ho fin hf => SF_X6_close (yL Z) (Nat.le_refl 7) b a0 h hok ho fin hf) RX6 6 rfl (by decide) (lw_V q739 q741 qs18 q139 q742) ⟨rfl, by decide +kernel, by decide +kernel, by decide +kernel⟩ rfl (by omega) (by decide) rfl hcat hdg kk kx
noncomputable def F_X6_plain_125 (R3 : Nat → Int → XH → Option XR3) (x1 : Int) (x2 : Int) (h : XH) : Option XR3 := if x1 = 0 then (some (false, x2, h)) else (nw h 12 1 fun r1 h2 => pz r1 <| mb (F_X14_init r1 x2 h2) fun r3 h4 => some (false, r1, h4))
theorem WF_X6_plain_125 {d : Nat} {dr : Nat} {Z : XZ XR3} (hdd : dr + 1 ≤ d ∧ 8 ≤ d) {R3 : Nat → Int → XH → Option XR3} (hRm : r3Mono R3) (hR3 : R3spec R3 (yL Z) dr) : ∀ x1 x2 h, XG xf3 (xT 3) RX6 "plain" cX6_plain 5 (some (.object "ExamSlips$Test")) d Z 125 [(1, (0, x1)), (2, (2, x2))] [] h (F_X6_plain_125 R3 x1 x2 h) := by
  intro x1 x2 h
  unfold F_X6_plain_125
  refine x_iload_n 0 dX6_plain_125 rfl rfl ?_
  refine x_if_eq 140 dX6_plain_126 (by decide) (fun _ => ?_) (fun _ => ?_)
  · refine x_aload_n 1 dX6_plain_140 rfl rfl ?_
    exact x3_ret (Or.inr (Or.inr rfl)) (fun _ => x_aret rfl (Or.inl ⟨_, rfl⟩) dX6_plain_141)
  · refine xn_X6_190 dX6_plain_129 fun r1 h2 => ?_
    refine x_dup dX6_plain_132 rfl ?_
    refine x_aload_n 1 dX6_plain_133 rfl rfl ?_
    refine cl_X6_192 (by omega) (Nat.le_of_ble_eq_true rfl) dX6_plain_134 fun r3 h4 => ?_
    refine x_goto 141 dX6_plain_137 (by decide) ?_
    exact x3_ret (Or.inr (Or.inr rfl)) (fun _ => x_aret rfl (Or.inl ⟨_, rfl⟩) dX6_plain_141)
noncomputable def F_X6_plain_89 (R3 : Nat → Int → XH → Option XR3) (s0 : Int) (s1 : Int) (x0 : Int) (x1 : Int) (x3 : Int) (h : XH) : Option XR3 := ob h s0 6 <| mt (F_X6_must s0 s1 h) fun r1 h2 => ob h2 x0 6 <| ob h2 (xv h2 x0 8) 1 <| ob h2 x0 6 <| ai h2 (xv h2 (xv h2 x0 8) 11) 2 (xv h2 x0 0) <| nm (α := Int) (xv h2 (xv h2 (xv h2 x0 8) 11) (xv h2 x0 0)) fun v3 => ob h2 x0 6 <| mb (F_X6_next x0 h2) fun r4 h5 => nw h5 11 3 fun r6 h7 => ob h7 x0 6 <| mt (R3 3 x0 h7) fun r8 h9 => pz r6 <| mb (F_X13_init r6 x3 v3 r8 h9) fun r10 h11 => F_X6_plain_125 R3 x1 r6 h11
theorem WF_X6_plain_89 {d : Nat} {dr : Nat} {Z : XZ XR3} (hdd : dr + 1 ≤ d ∧ 8 ≤ d) {R3 : Nat → Int → XH → Option XR3} (hRm : r3Mono R3) (hR3 : R3spec R3 (yL Z) dr) : ∀ s0 s1 x0 x1 x3 h, XG xf3 (xT 3) RX6 "plain" cX6_plain 5 (some (.object "ExamSlips$Test")) d Z 89 [(0, (2, x0)), (1, (0, x1)), (3, (2, x3))] [(0, s1), (2, s0)] h (F_X6_plain_89 R3 s0 s1 x0 x1 x3 h) := by
  intro s0 s1 x0 x1 x3 h
  unfold F_X6_plain_89
  refine ct_X6_68 (by omega) (Nat.le_of_ble_eq_true rfl) dX6_plain_89 (fun r1 h2 => ?_) fun _ _ => x3_out
  refine x_aload_n 0 dX6_plain_92 rfl rfl ?_
  refine xg_X6_3 dX6_plain_93 ?_
  refine xg_X6_99 dX6_plain_96 ?_
  refine x_aload_n 0 dX6_plain_99 rfl rfl ?_
  refine xg_X6_82 dX6_plain_100 ?_
  refine x_bald dX6_plain_103 ?_
  refine x_nmT fun v3 => ?_
  refine x_istore (lv' := [(4, (0, v3)), (0, (2, x0)), (1, (0, x1)), (3, (2, x3))]) dX6_plain_104 (by decide) rfl ?_
  refine x_aload_n 1 dX6_plain_106 rfl rfl ?_
  refine cl_X6_65 (by omega) (Nat.le_of_ble_eq_true rfl) dX6_plain_107 fun r4 h5 => ?_
  refine xn_X6_185 dX6_plain_110 fun r6 h7 => ?_
  refine x_dup dX6_plain_113 rfl ?_
  refine x_aload_n 3 dX6_plain_114 rfl rfl ?_
  refine x_iload 0 dX6_plain_115 rfl ?_
  refine x_aload_n 1 dX6_plain_117 rfl rfl ?_
  refine crt_X6_130 hRm hR3 hdd.1 (Nat.le_of_ble_eq_true rfl) dX6_plain_118 (fun r8 h9 => ?_) fun _ _ => x3_out
  refine cl_X6_187 (by omega) (Nat.le_of_ble_eq_true rfl) dX6_plain_121 fun r10 h11 => ?_
  refine x_astore_n (lv' := [(2, (2, r6)), (4, (0, v3)), (0, (2, x0)), (1, (0, x1)), (3, (2, x3))]) dX6_plain_124 rfl (by decide) rfl ?_
  exact x_sub [3, 0] rfl (WF_X6_plain_125 hdd hRm hR3 x1 r6 h11)
noncomputable def F_X6_plain_84 (R3 : Nat → Int → XH → Option XR3) (s0 : Int) (x0 : Int) (x1 : Int) (x3 : Int) (h : XH) : Option XR3 := F_X6_plain_89 R3 s0 1 x0 x1 x3 h
theorem WF_X6_plain_84 {d : Nat} {dr : Nat} {Z : XZ XR3} (hdd : dr + 1 ≤ d ∧ 8 ≤ d) {R3 : Nat → Int → XH → Option XR3} (hRm : r3Mono R3) (hR3 : R3spec R3 (yL Z) dr) : ∀ s0 x0 x1 x3 h, XG xf3 (xT 3) RX6 "plain" cX6_plain 5 (some (.object "ExamSlips$Test")) d Z 84 [(0, (2, x0)), (1, (0, x1)), (3, (2, x3))] [(2, s0)] h (F_X6_plain_84 R3 s0 x0 x1 x3 h) := by
  intro s0 x0 x1 x3 h
  unfold F_X6_plain_84
  refine x_ic dX6_plain_84 (by decide) (by decide) ?_
  refine x_goto 89 dX6_plain_85 (by decide) ?_
  exact x_sub [0, 1, 2] rfl (WF_X6_plain_89 hdd hRm hR3 s0 1 x0 x1 x3 h)
noncomputable def F_X6_plain_24 (R3 : Nat → Int → XH → Option XR3) (x0 : Int) (x1 : Int) (h : XH) : Option XR3 := ob h x0 6 <| mb (F_X6_isWord x0 (-28) h) fun r1 h2 => if r1 = 0 then (ob h2 x0 6 <| mt (R3 3 x0 h2) fun r3 h4 => ob h4 x0 6 <| mb (F_X6_isWord x0 (-30) h4) fun r5 h6 => if r5 = 0 then (ob h6 x0 6 <| mb (F_X6_isWord x0 (-31) h6) fun r7 h8 => if r7 = 0 then (ob h8 x0 6 <| mb (F_X6_isWord x0 (-32) h8) fun r9 h10 => if r9 = 0 then (F_X6_plain_89 R3 x0 0 x0 x1 r3 h10) else (F_X6_plain_84 R3 x0 x0 x1 r3 h10)) else (F_X6_plain_84 R3 x0 x0 x1 r3 h8)) else (F_X6_plain_84 R3 x0 x0 x1 r3 h6)) else (ob h2 x0 6 <| mt (F_X6_open x0 h2) fun r11 h12 => ob h12 x0 6 <| mt (R3 0 x0 h12) fun r13 h14 => ob h14 x0 6 <| mt (F_X6_close x0 (-29) h14) fun r15 h16 => F_X6_plain_125 R3 x1 r13 h16)
theorem WF_X6_plain_24 {d : Nat} {dr : Nat} {Z : XZ XR3} (hdd : dr + 1 ≤ d ∧ 8 ≤ d) {R3 : Nat → Int → XH → Option XR3} (hRm : r3Mono R3) (hR3 : R3spec R3 (yL Z) dr) : ∀ x0 x1 h, XG xf3 (xT 3) RX6 "plain" cX6_plain 5 (some (.object "ExamSlips$Test")) d Z 24 [(0, (2, x0)), (1, (0, x1))] [] h (F_X6_plain_24 R3 x0 x1 h) := by
  intro x0 x1 h
  unfold F_X6_plain_24
  refine x_aload_n 0 dX6_plain_24 rfl rfl ?_
  refine x_ldcS (tx := "(") (-28) (by decide) rfl dX6_plain_25 ?_
  refine cl_X6_118 (by omega) (Nat.le_of_ble_eq_true rfl) dX6_plain_27 fun r1 h2 => ?_
  refine x_if_eq 51 dX6_plain_30 (by decide) (fun _ => ?_) (fun _ => ?_)
  · refine x_aload_n 0 dX6_plain_51 rfl rfl ?_
    refine crt_X6_130 hRm hR3 hdd.1 (Nat.le_of_ble_eq_true rfl) dX6_plain_52 (fun r3 h4 => ?_) fun _ _ => x3_out
    refine x_astore_n (lv' := [(3, (2, r3)), (0, (2, x0)), (1, (0, x1))]) dX6_plain_55 rfl (by decide) rfl ?_
    refine x_aload_n 1 dX6_plain_56 rfl rfl ?_
    refine x_aload_n 1 dX6_plain_57 rfl rfl ?_
    refine x_ldcS (tx := "<") (-30) (by decide) rfl dX6_plain_58 ?_
    refine cl_X6_118 (by omega) (Nat.le_of_ble_eq_true rfl) dX6_plain_60 fun r5 h6 => ?_
    refine x_if_ne 84 dX6_plain_63 (by decide) (fun _ => ?_) (fun _ => ?_)
    · exact x_sub [1, 2, 0] rfl (WF_X6_plain_84 hdd hRm hR3 x0 x0 x1 r3 h6)
    · refine x_aload_n 1 dX6_plain_66 rfl rfl ?_
      refine x_ldcS (tx := ">") (-31) (by decide) rfl dX6_plain_67 ?_
      refine cl_X6_118 (by omega) (Nat.le_of_ble_eq_true rfl) dX6_plain_69 fun r7 h8 => ?_
      refine x_if_ne 84 dX6_plain_72 (by decide) (fun _ => ?_) (fun _ => ?_)
      · exact x_sub [1, 2, 0] rfl (WF_X6_plain_84 hdd hRm hR3 x0 x0 x1 r3 h8)
      · refine x_aload_n 1 dX6_plain_75 rfl rfl ?_
        refine x_ldcS (tx := "=") (-32) (by decide) rfl dX6_plain_76 ?_
        refine cl_X6_118 (by omega) (Nat.le_of_ble_eq_true rfl) dX6_plain_78 fun r9 h10 => ?_
        refine x_if_eq 88 dX6_plain_81 (by decide) (fun _ => ?_) (fun _ => ?_)
        · refine x_ic dX6_plain_88 (by decide) (by decide) ?_
          exact x_sub [1, 2, 0] rfl (WF_X6_plain_89 hdd hRm hR3 x0 0 x0 x1 r3 h10)
        · exact x_sub [1, 2, 0] rfl (WF_X6_plain_84 hdd hRm hR3 x0 x0 x1 r3 h10)
  · refine x_aload_n 0 dX6_plain_33 rfl rfl ?_
    refine ct_X6_170 (by omega) (Nat.le_of_ble_eq_true rfl) dX6_plain_34 (fun r11 h12 => ?_) fun _ _ => x3_out
    refine x_aload_n 0 dX6_plain_37 rfl rfl ?_
    refine crt_X6_136 hRm hR3 hdd.1 (Nat.le_of_ble_eq_true rfl) dX6_plain_38 (fun r13 h14 => ?_) fun _ _ => x3_out
    refine x_astore_n (lv' := [(2, (2, r13)), (0, (2, x0)), (1, (0, x1))]) dX6_plain_41 rfl (by decide) rfl ?_
    refine x_aload_n 1 dX6_plain_42 rfl rfl ?_
    refine x_ldcS (tx := ")") (-29) (by decide) rfl dX6_plain_43 ?_
    refine ct_X6_175 (by omega) (Nat.le_of_ble_eq_true rfl) dX6_plain_45 (fun r15 h16 => ?_) fun _ _ => x3_out
    refine x_goto 125 dX6_plain_48 (by decide) ?_
    exact x_sub [2, 0] rfl (WF_X6_plain_125 hdd hRm hR3 x1 r13 h16)
noncomputable def F_X6_plain_2 (R3 : Nat → Int → XH → Option XR3) : Nat → Int → Int → XH → Option XR3
  | 0, _, _, _ => none
  | n + 1, x0, x1, h => ob h x0 6 <| mb (F_X6_accept x0 (-27) h) fun r1 h2 => if r1 = 0 then (F_X6_plain_24 R3 x0 x1 h2) else (nm (α := Int) (if x1 = 0 then 1 else 0) fun v3 => F_X6_plain_2 R3 n x0 v3 h2)
theorem WF_X6_plain_2 {d : Nat} {dr : Nat} {Z : XZ XR3} (hdd : dr + 1 ≤ d ∧ 8 ≤ d) {R3 : Nat → Int → XH → Option XR3} (hRm : r3Mono R3) (hR3 : R3spec R3 (yL Z) dr) : ∀ n x0 x1 h, XG xf3 (xT 3) RX6 "plain" cX6_plain 5 (some (.object "ExamSlips$Test")) d Z 2 [(0, (2, x0)), (1, (0, x1))] [] h (F_X6_plain_2 R3 n x0 x1 h) := by
  intro n
  induction n with
  | zero => intro x0 x1 h; exact x_none
  | succ n ih =>
    intro x0 x1 h
    rw [F_X6_plain_2]
    refine x_aload_n 0 dX6_plain_2 rfl rfl ?_
    refine x_ldcS (tx := "not") (-27) (by decide) rfl dX6_plain_3 ?_
    refine cl_X6_78 (by omega) (Nat.le_of_ble_eq_true rfl) dX6_plain_5 fun r1 h2 => ?_
    refine x_if_eq 24 dX6_plain_8 (by decide) (fun _ => ?_) (fun _ => ?_)
    · exact x_sub [0, 1] rfl (WF_X6_plain_24 hdd hRm hR3 x0 x1 h2)
    · refine x_iload_n 1 dX6_plain_11 rfl rfl ?_
      refine x_join 20 (fun v3 => [(0, v3)]) (fun v3 => ?_) (fun hJ => ?_)
      · refine x_istore_n (lv' := [(1, (0, v3)), (0, (2, x0))]) dX6_plain_20 rfl (by decide) rfl ?_
        refine x_goto 2 dX6_plain_21 (by decide) ?_
        exact x_sub [1, 0] rfl (ih x0 v3 h2)
      · refine x_if_neF 19 dX6_plain_12 (by decide) (fun _ => ?_) (fun _ => ?_)
        · refine x_ic dX6_plain_19 (by decide) (by decide) ?_
          exact hJ _
        · refine x_ic dX6_plain_15 (by decide) (by decide) ?_
          refine x_goto 20 dX6_plain_16 (by decide) ?_
          exact hJ _
noncomputable def F_X6_plain_b (R3 : Nat → Int → XH → Option XR3) (x0 : Int) (h : XH) : Option XR3 := F_X6_plain_2 R3 FU x0 0 h
theorem WF_X6_plain_b {d : Nat} {dr : Nat} {Z : XZ XR3} (hdd : dr + 1 ≤ d ∧ 8 ≤ d) {R3 : Nat → Int → XH → Option XR3} (hRm : r3Mono R3) (hR3 : R3spec R3 (yL Z) dr) : ∀ x0 h, XG xf3 (xT 3) RX6 "plain" cX6_plain 5 (some (.object "ExamSlips$Test")) d Z 0 [(0, (2, x0))] [] h (F_X6_plain_b R3 x0 h) := by
  intro x0 h
  unfold F_X6_plain_b
  refine x_ic dX6_plain_0 (by decide) (by decide) ?_
  refine x_istore_n (lv' := [(1, (0, 0)), (0, (2, x0))]) dX6_plain_1 rfl (by decide) rfl ?_
  exact x_sub [1, 0] rfl (WF_X6_plain_2 hdd hRm hR3 FU x0 0 h)
theorem SF_X6_plain_b (l : Launch) {d dr : Nat} (hdd : dr + 1 ≤ d ∧ 8 ≤ d) {R3 : Nat → Int → XH → Option XR3} (hRm : r3Mono R3) (hR3 : R3spec R3 l dr) (x0 : Int) (h : XH) (hok : okH h) (ho : okXs (xn h) [(2, x0)]) (fin : XR3) (hf : F_X6_plain_b R3 x0 h = some fin) : xSpec3 l yX6_plain cX6_plain 5 (some (.object "ExamSlips$Test")) d 3 [(2, x0)] h fin := x3_enter (lv := [(0, (2, x0))]) (by decide) rfl rfl (Nat.le_of_ble_eq_true rfl) rfl (fun Z hZ => by subst hZ; exact WF_X6_plain_b hdd hRm hR3 x0 h) hok ho fin hf
theorem cl_X6_203 {ρ : Type} {fh : ρ → XH} {QQ : XZ ρ → State → Prop} {mn : String} {cc : ByteArray} {nL : Nat} {ret : Option FieldType} {d : Nat} {Z : XZ ρ} {pc : Nat} {lv : List (Nat × AV)} {st : List AV} {h : XH} {g : Int → XH → Option ρ} {b a0 a1 a2 : Int} (hdd : 3 ≤ d) (hcat : (st.map fun v => if v.1 = 1 then 2 else 1).sum ≤ 8) (hdg : decode cc pc = .ok (.invokespecial 203, 3)) (kk : ∀ r h1, XG fh QQ RX6 mn cc nL ret d Z (pc + 3) lv st h1 (g r h1)) : XG fh QQ RX6 mn cc nL ret d Z pc lv ((2, a2) :: (0, a1) :: (2, a0) :: (2, b) :: st) h (pz b (mb (F_X11_init b a0 a1 a2 h) g)) :=
  x_callIv [(2, a0), (0, a1), (2, a2)] 3 (WF_X11_init (Z := (Z.1, Z.2.1, ((0, h), h))) (Nat.le_refl 2) b a0 a1 a2 h).1 (fun hok ho fin hf => SF_X11_init (yL Z) (Nat.le_refl 2) b a0 a1 a2 h hok ho fin hf) (lw_meth q784) q149 q782 q783 rfl ⟨by decide +kernel, by decide +kernel, by decide +kernel⟩ rfl (by omega) (by decide) rfl hcat hdg kk
theorem xn_X6_201 {ρ : Type} {fh : ρ → XH} {QQ : XZ ρ → State → Prop} {mn : String} {cc : ByteArray} {nL : Nat} {ret : Option FieldType} {d : Nat} {Z : XZ ρ} {pc : Nat} {lv : List (Nat × AV)} {st : List AV} {h : XH} {f : Int → XH → Option ρ} (hd : decode cc pc = .ok (.new 201, 3)) (kk : ∀ r h1, XG fh QQ RX6 mn cc nL ret d Z (pc + 3) lv ((2, r) :: st) h1 (f r h1)) : XG fh QQ RX6 mn cc nL ret d Z pc lv st h (nw h 10 3 f) := x_new (C := RX11) 10 rfl in_X11 tyX11_ok (by decide) rfl (by decide) xfit_X11 q780 q781 q149 hd kk
theorem crt_X6_194 {ρ : Type} {fh : ρ → XH} {QQ : XZ ρ → State → Prop} {mn : String} {cc : ByteArray} {nL : Nat} {ret : Option FieldType} {d : Nat} {Z : XZ ρ} {pc : Nat} {lv : List (Nat × AV)} {st : List AV} {h : XH} {g k : Int → XH → Option ρ} {b : Int} {dr : Nat} {R3 : Nat → Int → XH → Option XR3} (hRm : r3Mono R3) (hR3 : R3spec R3 (yL Z) dr) (hdd : dr + 1 ≤ d) (hcat : (st.map fun v => if v.1 = 1 then 2 else 1).sum ≤ 8) (hdg : decode cc pc = .ok (.invokevirtual 194, 3)) (kk : ∀ r h1, XG fh QQ RX6 mn cc nL ret d Z (pc + 3) lv ((2, r) :: st) h1 (g r h1)) (kx : ∀ r h1, XT fh QQ RX6 mn cc nL ret d Z pc lv r h1 (k r h1)) : XG fh QQ RX6 mn cc nL ret d Z pc lv ((2, b) :: st) h (ob h b 6 (mb3 (R3 4 b h) g k)) :=
  x3_callVr [] 0 (hRm (Z.1, Z.2.1, ((false, 0, h), h)) 4 b h) (fun hok ho fin hf => (hR3 b h hok ho).2.2.2.2.1 fin hf) RX6 6 rfl (by decide) (lw_V q725 q727 qs15 q139 q728) ⟨rfl, by decide +kernel, by decide +kernel, by decide +kernel⟩ rfl hdd (by decide) rfl hcat hdg kk kx
noncomputable def F_X6_sum_23 (R3 : Nat → Int → XH → Option XR3) (K5 : Int → Int → XH → Option XR3) (x0 : Int) (x1 : Int) (h : XH) : Option XR3 := ob h x0 6 <| ob h (xv h x0 8) 1 <| ob h x0 6 <| ai h (xv h (xv h x0 8) 11) 2 (xv h x0 0) <| nm (α := Int) (xv h (xv h (xv h x0 8) 11) (xv h x0 0)) fun v1 => ob h x0 6 <| mb (F_X6_next x0 h) fun r2 h3 => nw h3 10 3 fun r4 h5 => ob h5 x0 6 <| mt (R3 4 x0 h5) fun r6 h7 => pz r4 <| mb (F_X11_init r4 x1 v1 r6 h7) fun r8 h9 => K5 x0 r4 h9
theorem WF_X6_sum_23 {d : Nat} {dr : Nat} {Z : XZ XR3} (hdd : dr + 1 ≤ d ∧ 8 ≤ d) {R3 : Nat → Int → XH → Option XR3} (hRm : r3Mono R3) (hR3 : R3spec R3 (yL Z) dr) {K5 : Int → Int → XH → Option XR3} (hK5 : ∀ x0 x1 h, XG xf3 (xT 3) RX6 "sum" cX6_sum 3 (some (.object "ExamSlips$Sum")) d Z 5 [(0, (2, x0)), (1, (2, x1))] [] h (K5 x0 x1 h)) : ∀ x0 x1 h, XG xf3 (xT 3) RX6 "sum" cX6_sum 3 (some (.object "ExamSlips$Sum")) d Z 23 [(0, (2, x0)), (1, (2, x1))] [] h (F_X6_sum_23 R3 K5 x0 x1 h) := by
  intro x0 x1 h
  unfold F_X6_sum_23
  refine x_aload_n 0 dX6_sum_23 rfl rfl ?_
  refine xg_X6_3 dX6_sum_24 ?_
  refine xg_X6_99 dX6_sum_27 ?_
  refine x_aload_n 0 dX6_sum_30 rfl rfl ?_
  refine xg_X6_82 dX6_sum_31 ?_
  refine x_bald dX6_sum_34 ?_
  refine x_nmT fun v1 => ?_
  refine x_istore_n (lv' := [(2, (0, v1)), (0, (2, x0)), (1, (2, x1))]) dX6_sum_35 rfl (by decide) rfl ?_
  refine x_aload_n 1 dX6_sum_36 rfl rfl ?_
  refine cl_X6_65 (by omega) (Nat.le_of_ble_eq_true rfl) dX6_sum_37 fun r2 h3 => ?_
  refine xn_X6_201 dX6_sum_40 fun r4 h5 => ?_
  refine x_dup dX6_sum_43 rfl ?_
  refine x_aload_n 2 dX6_sum_44 rfl rfl ?_
  refine x_iload_n 0 dX6_sum_45 rfl rfl ?_
  refine x_aload_n 1 dX6_sum_46 rfl rfl ?_
  refine crt_X6_194 hRm hR3 hdd.1 (Nat.le_of_ble_eq_true rfl) dX6_sum_47 (fun r6 h7 => ?_) fun _ _ => x3_out
  refine cl_X6_203 (by omega) (Nat.le_of_ble_eq_true rfl) dX6_sum_50 fun r8 h9 => ?_
  refine x_astore_n (lv' := [(1, (2, r4)), (2, (0, v1)), (0, (2, x0))]) dX6_sum_53 rfl (by decide) rfl ?_
  refine x_goto 5 dX6_sum_54 (by decide) ?_
  exact x_sub [2, 0] rfl (hK5 x0 r4 h9)
noncomputable def F_X6_sum_5 (R3 : Nat → Int → XH → Option XR3) : Nat → Int → Int → XH → Option XR3
  | 0, _, _, _ => none
  | n + 1, x0, x1, h => ob h x0 6 <| mb (F_X6_isWord x0 (-24) h) fun r1 h2 => if r1 = 0 then (ob h2 x0 6 <| mb (F_X6_isWord x0 (-25) h2) fun r3 h4 => if r3 = 0 then (some (false, x1, h4)) else (F_X6_sum_23 R3 (F_X6_sum_5 R3 n) x0 x1 h4)) else (F_X6_sum_23 R3 (F_X6_sum_5 R3 n) x0 x1 h2)
theorem WF_X6_sum_5 {d : Nat} {dr : Nat} {Z : XZ XR3} (hdd : dr + 1 ≤ d ∧ 8 ≤ d) {R3 : Nat → Int → XH → Option XR3} (hRm : r3Mono R3) (hR3 : R3spec R3 (yL Z) dr) : ∀ n x0 x1 h, XG xf3 (xT 3) RX6 "sum" cX6_sum 3 (some (.object "ExamSlips$Sum")) d Z 5 [(0, (2, x0)), (1, (2, x1))] [] h (F_X6_sum_5 R3 n x0 x1 h) := by
  intro n
  induction n with
  | zero => intro x0 x1 h; exact x_none
  | succ n ih =>
    intro x0 x1 h
    rw [F_X6_sum_5]
    refine x_aload_n 0 dX6_sum_5 rfl rfl ?_
    refine x_ldcS (tx := "+") (-24) (by decide) rfl dX6_sum_6 ?_
    refine cl_X6_118 (by omega) (Nat.le_of_ble_eq_true rfl) dX6_sum_8 fun r1 h2 => ?_
    refine x_if_ne 23 dX6_sum_11 (by decide) (fun _ => ?_) (fun _ => ?_)
    · exact x_sub [0, 1] rfl (WF_X6_sum_23 hdd hRm hR3 ih x0 x1 h2)
    · refine x_aload_n 0 dX6_sum_14 rfl rfl ?_
      refine x_ldcS (tx := "-") (-25) (by decide) rfl dX6_sum_15 ?_
      refine cl_X6_118 (by omega) (Nat.le_of_ble_eq_true rfl) dX6_sum_17 fun r3 h4 => ?_
      refine x_if_eq 57 dX6_sum_20 (by decide) (fun _ => ?_) (fun _ => ?_)
      · refine x_aload_n 1 dX6_sum_57 rfl rfl ?_
        exact x3_ret (Or.inr (Or.inr rfl)) (fun _ => x_aret rfl (Or.inl ⟨_, rfl⟩) dX6_sum_58)
      · exact x_sub [0, 1] rfl (WF_X6_sum_23 hdd hRm hR3 ih x0 x1 h4)
noncomputable def F_X6_sum_b (R3 : Nat → Int → XH → Option XR3) (x0 : Int) (h : XH) : Option XR3 := ob h x0 6 <| mt (R3 4 x0 h) fun r1 h2 => F_X6_sum_5 R3 FU x0 r1 h2
theorem WF_X6_sum_b {d : Nat} {dr : Nat} {Z : XZ XR3} (hdd : dr + 1 ≤ d ∧ 8 ≤ d) {R3 : Nat → Int → XH → Option XR3} (hRm : r3Mono R3) (hR3 : R3spec R3 (yL Z) dr) : ∀ x0 h, XG xf3 (xT 3) RX6 "sum" cX6_sum 3 (some (.object "ExamSlips$Sum")) d Z 0 [(0, (2, x0))] [] h (F_X6_sum_b R3 x0 h) := by
  intro x0 h
  unfold F_X6_sum_b
  refine x_aload_n 0 dX6_sum_0 rfl rfl ?_
  refine crt_X6_194 hRm hR3 hdd.1 (Nat.le_of_ble_eq_true rfl) dX6_sum_1 (fun r1 h2 => ?_) fun _ _ => x3_out
  refine x_astore_n (lv' := [(1, (2, r1)), (0, (2, x0))]) dX6_sum_4 rfl (by decide) rfl ?_
  exact x_sub [1, 0] rfl (WF_X6_sum_5 hdd hRm hR3 FU x0 r1 h2)
theorem SF_X6_sum_b (l : Launch) {d dr : Nat} (hdd : dr + 1 ≤ d ∧ 8 ≤ d) {R3 : Nat → Int → XH → Option XR3} (hRm : r3Mono R3) (hR3 : R3spec R3 l dr) (x0 : Int) (h : XH) (hok : okH h) (ho : okXs (xn h) [(2, x0)]) (fin : XR3) (hf : F_X6_sum_b R3 x0 h = some fin) : xSpec3 l yX6_sum cX6_sum 3 (some (.object "ExamSlips$Sum")) d 3 [(2, x0)] h fin := x3_enter (lv := [(0, (2, x0))]) (by decide) rfl rfl (Nat.le_of_ble_eq_true rfl) rfl (fun Z hZ => by subst hZ; exact WF_X6_sum_b hdd hRm hR3 x0 h) hok ho fin hf
theorem crt_X6_204 {ρ : Type} {fh : ρ → XH} {QQ : XZ ρ → State → Prop} {mn : String} {cc : ByteArray} {nL : Nat} {ret : Option FieldType} {d : Nat} {Z : XZ ρ} {pc : Nat} {lv : List (Nat × AV)} {st : List AV} {h : XH} {g k : Int → XH → Option ρ} {b : Int} {dr : Nat} {R3 : Nat → Int → XH → Option XR3} (hRm : r3Mono R3) (hR3 : R3spec R3 (yL Z) dr) (hdd : dr + 1 ≤ d) (hcat : (st.map fun v => if v.1 = 1 then 2 else 1).sum ≤ 8) (hdg : decode cc pc = .ok (.invokevirtual 204, 3)) (kk : ∀ r h1, XG fh QQ RX6 mn cc nL ret d Z (pc + 3) lv ((2, r) :: st) h1 (g r h1)) (kx : ∀ r h1, XT fh QQ RX6 mn cc nL ret d Z pc lv r h1 (k r h1)) : XG fh QQ RX6 mn cc nL ret d Z pc lv ((2, b) :: st) h (ob h b 6 (mb3 (R3 5 b h) g k)) :=
  x3_callVr [] 0 (hRm (Z.1, Z.2.1, ((false, 0, h), h)) 5 b h) (fun hok ho fin hf => (hR3 b h hok ho).2.2.2.2.2 fin hf) RX6 6 rfl (by decide) (lw_V q729 q731 qs16 q139 q732) ⟨rfl, by decide +kernel, by decide +kernel, by decide +kernel⟩ rfl hdd (by decide) rfl hcat hdg kk kx
noncomputable def F_X6_term_23 (R3 : Nat → Int → XH → Option XR3) (K5 : Int → Int → XH → Option XR3) (x0 : Int) (x1 : Int) (h : XH) : Option XR3 := ob h x0 6 <| ob h (xv h x0 8) 1 <| ob h x0 6 <| ai h (xv h (xv h x0 8) 11) 2 (xv h x0 0) <| nm (α := Int) (xv h (xv h (xv h x0 8) 11) (xv h x0 0)) fun v1 => ob h x0 6 <| mb (F_X6_next x0 h) fun r2 h3 => nw h3 10 3 fun r4 h5 => ob h5 x0 6 <| mt (R3 5 x0 h5) fun r6 h7 => pz r4 <| mb (F_X11_init r4 x1 v1 r6 h7) fun r8 h9 => K5 x0 r4 h9
theorem WF_X6_term_23 {d : Nat} {dr : Nat} {Z : XZ XR3} (hdd : dr + 1 ≤ d ∧ 8 ≤ d) {R3 : Nat → Int → XH → Option XR3} (hRm : r3Mono R3) (hR3 : R3spec R3 (yL Z) dr) {K5 : Int → Int → XH → Option XR3} (hK5 : ∀ x0 x1 h, XG xf3 (xT 3) RX6 "term" cX6_term 3 (some (.object "ExamSlips$Sum")) d Z 5 [(0, (2, x0)), (1, (2, x1))] [] h (K5 x0 x1 h)) : ∀ x0 x1 h, XG xf3 (xT 3) RX6 "term" cX6_term 3 (some (.object "ExamSlips$Sum")) d Z 23 [(0, (2, x0)), (1, (2, x1))] [] h (F_X6_term_23 R3 K5 x0 x1 h) := by
  intro x0 x1 h
  unfold F_X6_term_23
  refine x_aload_n 0 dX6_term_23 rfl rfl ?_
  refine xg_X6_3 dX6_term_24 ?_
  refine xg_X6_99 dX6_term_27 ?_
  refine x_aload_n 0 dX6_term_30 rfl rfl ?_
  refine xg_X6_82 dX6_term_31 ?_
  refine x_bald dX6_term_34 ?_
  refine x_nmT fun v1 => ?_
  refine x_istore_n (lv' := [(2, (0, v1)), (0, (2, x0)), (1, (2, x1))]) dX6_term_35 rfl (by decide) rfl ?_
  refine x_aload_n 1 dX6_term_36 rfl rfl ?_
  refine cl_X6_65 (by omega) (Nat.le_of_ble_eq_true rfl) dX6_term_37 fun r2 h3 => ?_
  refine xn_X6_201 dX6_term_40 fun r4 h5 => ?_
  refine x_dup dX6_term_43 rfl ?_
  refine x_aload_n 2 dX6_term_44 rfl rfl ?_
  refine x_iload_n 0 dX6_term_45 rfl rfl ?_
  refine x_aload_n 1 dX6_term_46 rfl rfl ?_
  refine crt_X6_204 hRm hR3 hdd.1 (Nat.le_of_ble_eq_true rfl) dX6_term_47 (fun r6 h7 => ?_) fun _ _ => x3_out
  refine cl_X6_203 (by omega) (Nat.le_of_ble_eq_true rfl) dX6_term_50 fun r8 h9 => ?_
  refine x_astore_n (lv' := [(1, (2, r4)), (2, (0, v1)), (0, (2, x0))]) dX6_term_53 rfl (by decide) rfl ?_
  refine x_goto 5 dX6_term_54 (by decide) ?_
  exact x_sub [2, 0] rfl (hK5 x0 r4 h9)
noncomputable def F_X6_term_5 (R3 : Nat → Int → XH → Option XR3) : Nat → Int → Int → XH → Option XR3
  | 0, _, _, _ => none
  | n + 1, x0, x1, h => ob h x0 6 <| mb (F_X6_isWord x0 (-22) h) fun r1 h2 => if r1 = 0 then (ob h2 x0 6 <| mb (F_X6_isWord x0 (-23) h2) fun r3 h4 => if r3 = 0 then (some (false, x1, h4)) else (F_X6_term_23 R3 (F_X6_term_5 R3 n) x0 x1 h4)) else (F_X6_term_23 R3 (F_X6_term_5 R3 n) x0 x1 h2)
theorem WF_X6_term_5 {d : Nat} {dr : Nat} {Z : XZ XR3} (hdd : dr + 1 ≤ d ∧ 8 ≤ d) {R3 : Nat → Int → XH → Option XR3} (hRm : r3Mono R3) (hR3 : R3spec R3 (yL Z) dr) : ∀ n x0 x1 h, XG xf3 (xT 3) RX6 "term" cX6_term 3 (some (.object "ExamSlips$Sum")) d Z 5 [(0, (2, x0)), (1, (2, x1))] [] h (F_X6_term_5 R3 n x0 x1 h) := by
  intro n
  induction n with
  | zero => intro x0 x1 h; exact x_none
  | succ n ih =>
    intro x0 x1 h
    rw [F_X6_term_5]
    refine x_aload_n 0 dX6_term_5 rfl rfl ?_
    refine x_ldcS (tx := "*") (-22) (by decide) rfl dX6_term_6 ?_
    refine cl_X6_118 (by omega) (Nat.le_of_ble_eq_true rfl) dX6_term_8 fun r1 h2 => ?_
    refine x_if_ne 23 dX6_term_11 (by decide) (fun _ => ?_) (fun _ => ?_)
    · exact x_sub [0, 1] rfl (WF_X6_term_23 hdd hRm hR3 ih x0 x1 h2)
    · refine x_aload_n 0 dX6_term_14 rfl rfl ?_
      refine x_ldcS (tx := "/") (-23) (by decide) rfl dX6_term_15 ?_
      refine cl_X6_118 (by omega) (Nat.le_of_ble_eq_true rfl) dX6_term_17 fun r3 h4 => ?_
      refine x_if_eq 57 dX6_term_20 (by decide) (fun _ => ?_) (fun _ => ?_)
      · refine x_aload_n 1 dX6_term_57 rfl rfl ?_
        exact x3_ret (Or.inr (Or.inr rfl)) (fun _ => x_aret rfl (Or.inl ⟨_, rfl⟩) dX6_term_58)
      · exact x_sub [0, 1] rfl (WF_X6_term_23 hdd hRm hR3 ih x0 x1 h4)
noncomputable def F_X6_term_b (R3 : Nat → Int → XH → Option XR3) (x0 : Int) (h : XH) : Option XR3 := ob h x0 6 <| mt (R3 5 x0 h) fun r1 h2 => F_X6_term_5 R3 FU x0 r1 h2
theorem WF_X6_term_b {d : Nat} {dr : Nat} {Z : XZ XR3} (hdd : dr + 1 ≤ d ∧ 8 ≤ d) {R3 : Nat → Int → XH → Option XR3} (hRm : r3Mono R3) (hR3 : R3spec R3 (yL Z) dr) : ∀ x0 h, XG xf3 (xT 3) RX6 "term" cX6_term 3 (some (.object "ExamSlips$Sum")) d Z 0 [(0, (2, x0))] [] h (F_X6_term_b R3 x0 h) := by
  intro x0 h
  unfold F_X6_term_b
  refine x_aload_n 0 dX6_term_0 rfl rfl ?_
  refine crt_X6_204 hRm hR3 hdd.1 (Nat.le_of_ble_eq_true rfl) dX6_term_1 (fun r1 h2 => ?_) fun _ _ => x3_out
  refine x_astore_n (lv' := [(1, (2, r1)), (0, (2, x0))]) dX6_term_4 rfl (by decide) rfl ?_
  exact x_sub [1, 0] rfl (WF_X6_term_5 hdd hRm hR3 FU x0 r1 h2)
theorem SF_X6_term_b (l : Launch) {d dr : Nat} (hdd : dr + 1 ≤ d ∧ 8 ≤ d) {R3 : Nat → Int → XH → Option XR3} (hRm : r3Mono R3) (hR3 : R3spec R3 l dr) (x0 : Int) (h : XH) (hok : okH h) (ho : okXs (xn h) [(2, x0)]) (fin : XR3) (hf : F_X6_term_b R3 x0 h = some fin) : xSpec3 l yX6_term cX6_term 3 (some (.object "ExamSlips$Sum")) d 3 [(2, x0)] h fin := x3_enter (lv := [(0, (2, x0))]) (by decide) rfl rfl (Nat.le_of_ble_eq_true rfl) rfl (fun Z hZ => by subst hZ; exact WF_X6_term_b hdd hRm hR3 x0 h) hok ho fin hf
theorem cl_X6_126 {ρ : Type} {fh : ρ → XH} {QQ : XZ ρ → State → Prop} {mn : String} {cc : ByteArray} {nL : Nat} {ret : Option FieldType} {d : Nat} {Z : XZ ρ} {pc : Nat} {lv : List (Nat × AV)} {st : List AV} {h : XH} {g : Int → XH → Option ρ} {b a0 : Int} (hdd : 7 ≤ d) (hcat : (st.map fun v => if v.1 = 1 then 2 else 1).sum ≤ 8) (hdg : decode cc pc = .ok (.invokevirtual 126, 3)) (kk : ∀ r h1, XG fh QQ RX6 mn cc nL ret d Z (pc + 3) lv ((0, r) :: st) h1 (g r h1)) : XG fh QQ RX6 mn cc nL ret d Z pc lv ((2, a0) :: (2, b) :: st) h (ob h b 6 (mb (F_X6_which b a0 h) g)) :=
  x_callVi [(2, a0)] 1 (WF_X6_which (Z := (Z.1, Z.2.1, ((0, h), h))) (Nat.le_refl 6) b a0 h).1 (fun hok ho fin hf => SF_X6_which (yL Z) (Nat.le_refl 6) b a0 h hok ho fin hf) RX6 6 rfl (by decide) (lw_V q667 q669 qs12 q139 q670) ⟨rfl, by decide +kernel, by decide +kernel, by decide +kernel⟩ rfl (by omega) (by decide) rfl hcat hdg kk
theorem cl_X6_224 {ρ : Type} {fh : ρ → XH} {QQ : XZ ρ → State → Prop} {mn : String} {cc : ByteArray} {nL : Nat} {ret : Option FieldType} {d : Nat} {Z : XZ ρ} {pc : Nat} {lv : List (Nat × AV)} {st : List AV} {h : XH} {g : Int → XH → Option ρ} {b a0 : Int} (hdd : 3 ≤ d) (hcat : (st.map fun v => if v.1 = 1 then 2 else 1).sum ≤ 8) (hdg : decode cc pc = .ok (.invokespecial 224, 3)) (kk : ∀ r h1, XG fh QQ RX6 mn cc nL ret d Z (pc + 3) lv st h1 (g r h1)) : XG fh QQ RX6 mn cc nL ret d Z pc lv ((0, a0) :: (2, b) :: st) h (pz b (mb (F_X9_init b a0 h) g)) :=
  x_callIv [(0, a0)] 1 (WF_X9_init (Z := (Z.1, Z.2.1, ((0, h), h))) (Nat.le_refl 2) b a0 h).1 (fun hok ho fin hf => SF_X9_init (yL Z) (Nat.le_refl 2) b a0 h hok ho fin hf) (lw_meth q759) q147 q757 q758 rfl ⟨by decide +kernel, by decide +kernel, by decide +kernel⟩ rfl (by omega) (by decide) rfl hcat hdg kk
theorem cl_X6_227 {ρ : Type} {fh : ρ → XH} {QQ : XZ ρ → State → Prop} {mn : String} {cc : ByteArray} {nL : Nat} {ret : Option FieldType} {d : Nat} {Z : XZ ρ} {pc : Nat} {lv : List (Nat × AV)} {st : List AV} {h : XH} {g : Int → XH → Option ρ} {b a0 : Int} (hdd : 3 ≤ d) (hcat : (st.map fun v => if v.1 = 1 then 2 else 1).sum ≤ 8) (hdg : decode cc pc = .ok (.invokespecial 227, 3)) (kk : ∀ r h1, XG fh QQ RX6 mn cc nL ret d Z (pc + 3) lv st h1 (g r h1)) : XG fh QQ RX6 mn cc nL ret d Z pc lv ((0, a0) :: (2, b) :: st) h (pz b (mb (F_X10_init b a0 h) g)) :=
  x_callIv [(0, a0)] 1 (WF_X10_init (Z := (Z.1, Z.2.1, ((0, h), h))) (Nat.le_refl 2) b a0 h).1 (fun hok ho fin hf => SF_X10_init (yL Z) (Nat.le_refl 2) b a0 h hok ho fin hf) (lw_meth q772) q148 q770 q771 rfl ⟨by decide +kernel, by decide +kernel, by decide +kernel⟩ rfl (by omega) (by decide) rfl hcat hdg kk
theorem xg_X6_37 {ρ : Type} {fh : ρ → XH} {QQ : XZ ρ → State → Prop} {mn : String} {cc : ByteArray} {nL : Nat} {ret : Option FieldType} {d : Nat} {Z : XZ ρ} {pc : Nat} {lv : List (Nat × AV)} {st : List AV} {h : XH} {res : Option ρ} {a : Int} (hd : decode cc pc = .ok (.getfield 37, 3)) (kk : XG fh QQ RX6 mn cc nL ret d Z (pc + 3) lv ((2, xv h a 6) :: st) h res) : XG fh QQ RX6 mn cc nL ret d Z pc lv ((2, a) :: st) h (ob h a 6 res) := x_get (C := RX6) (ref := RX6) 6 6 rfl in_X6 (by decide) rfl (by decide) (Or.inl rfl) q558 hd kk
theorem xn_X6_218 {ρ : Type} {fh : ρ → XH} {QQ : XZ ρ → State → Prop} {mn : String} {cc : ByteArray} {nL : Nat} {ret : Option FieldType} {d : Nat} {Z : XZ ρ} {pc : Nat} {lv : List (Nat × AV)} {st : List AV} {h : XH} {f : Int → XH → Option ρ} (hd : decode cc pc = .ok (.new 218, 3)) (kk : ∀ r h1, XG fh QQ RX6 mn cc nL ret d Z (pc + 3) lv ((2, r) :: st) h1 (f r h1)) : XG fh QQ RX6 mn cc nL ret d Z pc lv st h (nw h 8 1 f) := x_new (C := RX9) 8 rfl in_X9 tyX9_ok (by decide) rfl (by decide) xfit_X9 q751 q752 q147 hd kk
theorem xn_X6_225 {ρ : Type} {fh : ρ → XH} {QQ : XZ ρ → State → Prop} {mn : String} {cc : ByteArray} {nL : Nat} {ret : Option FieldType} {d : Nat} {Z : XZ ρ} {pc : Nat} {lv : List (Nat × AV)} {st : List AV} {h : XH} {f : Int → XH → Option ρ} (hd : decode cc pc = .ok (.new 225, 3)) (kk : ∀ r h1, XG fh QQ RX6 mn cc nL ret d Z (pc + 3) lv ((2, r) :: st) h1 (f r h1)) : XG fh QQ RX6 mn cc nL ret d Z pc lv st h (nw h 9 1 f) := x_new (C := RX10) 9 rfl in_X10 tyX10_ok (by decide) rfl (by decide) xfit_X10 q768 q769 q148 hd kk
theorem ct_X6_215 {ρ : Type} {fh : ρ → XH} {QQ : XZ ρ → State → Prop} {mn : String} {cc : ByteArray} {nL : Nat} {ret : Option FieldType} {d : Nat} {Z : XZ ρ} {pc : Nat} {lv : List (Nat × AV)} {st : List AV} {h : XH} {g k : Int → XH → Option ρ} {b : Int} (hdd : 6 ≤ d) (hcat : (st.map fun v => if v.1 = 1 then 2 else 1).sum ≤ 8) (hdg : decode cc pc = .ok (.invokevirtual 215, 3)) (kk : ∀ r h1, XG fh QQ RX6 mn cc nL ret d Z (pc + 3) lv st h1 (g r h1)) (kx : ∀ r h1, XT fh QQ RX6 mn cc nL ret d Z pc lv r h1 (k r h1)) : XG fh QQ RX6 mn cc nL ret d Z pc lv ((2, b) :: st) h (ob h b 6 (mb3 (F_X6_leaf b h) g k)) :=
  x3_callVv [] 0 (WF_X6_leaf (Z := (Z.1, Z.2.1, ((false, 0, h), h))) (Nat.le_refl 5) b h).1 (fun hok ho fin hf => SF_X6_leaf (yL Z) (Nat.le_refl 5) b h hok ho fin hf) RX6 6 rfl (by decide) (lw_V q747 q749 qs20 q139 q750) ⟨rfl, by decide +kernel, by decide +kernel, by decide +kernel⟩ rfl (by omega) (by decide) rfl hcat hdg kk kx
theorem ct_X6_220 {ρ : Type} {fh : ρ → XH} {QQ : XZ ρ → State → Prop} {mn : String} {cc : ByteArray} {nL : Nat} {ret : Option FieldType} {d : Nat} {Z : XZ ρ} {pc : Nat} {lv : List (Nat × AV)} {st : List AV} {h : XH} {g k : Int → XH → Option ρ} {b a0 : Int} (hdd : 6 ≤ d) (hcat : (st.map fun v => if v.1 = 1 then 2 else 1).sum ≤ 8) (hdg : decode cc pc = .ok (.invokevirtual 220, 3)) (kk : ∀ r h1, XG fh QQ RX6 mn cc nL ret d Z (pc + 3) lv ((0, r) :: st) h1 (g r h1)) (kx : ∀ r h1, XT fh QQ RX6 mn cc nL ret d Z pc lv r h1 (k r h1)) : XG fh QQ RX6 mn cc nL ret d Z pc lv ((0, a0) :: (2, b) :: st) h (ob h b 6 (mb3 (F_X6_number b a0 h) g k)) :=
  x3_callVi [(0, a0)] 1 (WF_X6_number (Z := (Z.1, Z.2.1, ((false, 0, h), h))) (Nat.le_refl 5) b a0 h).1 (fun hok ho fin hf => SF_X6_number (yL Z) (Nat.le_refl 5) b a0 h hok ho fin hf) RX6 6 rfl (by decide) (lw_V q753 q755 qs21 q139 q756) ⟨rfl, by decide +kernel, by decide +kernel, by decide +kernel⟩ rfl (by omega) (by decide) rfl hcat hdg kk kx
noncomputable def F_X6_part_78 (R3 : Nat → Int → XH → Option XR3) (s0 : Int) (s1 : Int) (x0 : Int) (x1 : Int) (h : XH) : Option XR3 := ob h s0 6 <| mt (F_X6_must s0 s1 h) fun r1 h2 => if x1 = (-1) then (ob h2 x0 6 <| mt (F_X6_leaf x0 h2) fun r11 h12 => nw h12 8 1 fun r13 h14 => ob h14 x0 6 <| mt (F_X6_number x0 1000 h14) fun r15 h16 => pz r13 <| mb (F_X9_init r13 r15 h16) fun r17 h18 => some (false, r13, h18)) else (ob h2 x0 6 <| mt (F_X6_leaf x0 h2) fun r3 h4 => ob h4 x0 6 <| mb (F_X6_next x0 h4) fun r5 h6 => nw h6 9 1 fun r7 h8 => pz r7 <| mb (F_X10_init r7 x1 h8) fun r9 h10 => some (false, r7, h10))
theorem WF_X6_part_78 {d : Nat} {dr : Nat} {Z : XZ XR3} (hdd : dr + 1 ≤ d ∧ 8 ≤ d) {R3 : Nat → Int → XH → Option XR3} (hRm : r3Mono R3) (hR3 : R3spec R3 (yL Z) dr) : ∀ s0 s1 x0 x1 h, XG xf3 (xT 3) RX6 "part" cX6_part 2 (some (.object "ExamSlips$Sum")) d Z 78 [(0, (2, x0)), (1, (0, x1))] [(0, s1), (2, s0)] h (F_X6_part_78 R3 s0 s1 x0 x1 h) := by
  intro s0 s1 x0 x1 h
  unfold F_X6_part_78
  refine ct_X6_68 (by omega) (Nat.le_of_ble_eq_true rfl) dX6_part_78 (fun r1 h2 => ?_) fun _ _ => x3_out
  refine x_iload_n 1 dX6_part_81 rfl rfl ?_
  refine x_ic dX6_part_82 (by decide) (by decide) ?_
  refine x_icmp_ne 105 dX6_part_83 (by decide) (fun _ => ?_) (fun _ => ?_)
  · refine x_aload_n 0 dX6_part_105 rfl rfl ?_
    refine ct_X6_215 (by omega) (Nat.le_of_ble_eq_true rfl) dX6_part_106 (fun r3 h4 => ?_) fun _ _ => x3_out
    refine x_aload_n 0 dX6_part_109 rfl rfl ?_
    refine cl_X6_65 (by omega) (Nat.le_of_ble_eq_true rfl) dX6_part_110 fun r5 h6 => ?_
    refine xn_X6_225 dX6_part_113 fun r7 h8 => ?_
    refine x_dup dX6_part_116 rfl ?_
    refine x_iload_n 1 dX6_part_117 rfl rfl ?_
    refine cl_X6_227 (by omega) (Nat.le_of_ble_eq_true rfl) dX6_part_118 fun r9 h10 => ?_
    exact x3_ret (Or.inr (Or.inr rfl)) (fun _ => x_aret rfl (Or.inl ⟨_, rfl⟩) dX6_part_121)
  · refine x_aload_n 0 dX6_part_86 rfl rfl ?_
    refine ct_X6_215 (by omega) (Nat.le_of_ble_eq_true rfl) dX6_part_87 (fun r11 h12 => ?_) fun _ _ => x3_out
    refine xn_X6_218 dX6_part_90 fun r13 h14 => ?_
    refine x_dup dX6_part_93 rfl ?_
    refine x_aload_n 0 dX6_part_94 rfl rfl ?_
    refine x_sp dX6_part_95 (by decide) (by decide) ?_
    refine ct_X6_220 (by omega) (Nat.le_of_ble_eq_true rfl) dX6_part_98 (fun r15 h16 => ?_) fun _ _ => x3_out
    refine cl_X6_224 (by omega) (Nat.le_of_ble_eq_true rfl) dX6_part_101 fun r17 h18 => ?_
    exact x3_ret (Or.inr (Or.inr rfl)) (fun _ => x_aret rfl (Or.inl ⟨_, rfl⟩) dX6_part_104)
noncomputable def F_X6_part_73 (R3 : Nat → Int → XH → Option XR3) (s0 : Int) (x0 : Int) (x1 : Int) (h : XH) : Option XR3 := F_X6_part_78 R3 s0 1 x0 x1 h
theorem WF_X6_part_73 {d : Nat} {dr : Nat} {Z : XZ XR3} (hdd : dr + 1 ≤ d ∧ 8 ≤ d) {R3 : Nat → Int → XH → Option XR3} (hRm : r3Mono R3) (hR3 : R3spec R3 (yL Z) dr) : ∀ s0 x0 x1 h, XG xf3 (xT 3) RX6 "part" cX6_part 2 (some (.object "ExamSlips$Sum")) d Z 73 [(0, (2, x0)), (1, (0, x1))] [(2, s0)] h (F_X6_part_73 R3 s0 x0 x1 h) := by
  intro s0 x0 x1 h
  unfold F_X6_part_73
  refine x_ic dX6_part_73 (by decide) (by decide) ?_
  refine x_goto 78 dX6_part_74 (by decide) ?_
  exact x_sub [0, 1] rfl (WF_X6_part_78 hdd hRm hR3 s0 1 x0 x1 h)
noncomputable def F_X6_part_77 (R3 : Nat → Int → XH → Option XR3) (s0 : Int) (x0 : Int) (x1 : Int) (h : XH) : Option XR3 := F_X6_part_78 R3 s0 0 x0 x1 h
theorem WF_X6_part_77 {d : Nat} {dr : Nat} {Z : XZ XR3} (hdd : dr + 1 ≤ d ∧ 8 ≤ d) {R3 : Nat → Int → XH → Option XR3} (hRm : r3Mono R3) (hR3 : R3spec R3 (yL Z) dr) : ∀ s0 x0 x1 h, XG xf3 (xT 3) RX6 "part" cX6_part 2 (some (.object "ExamSlips$Sum")) d Z 77 [(0, (2, x0)), (1, (0, x1))] [(2, s0)] h (F_X6_part_77 R3 s0 x0 x1 h) := by
  intro s0 x0 x1 h
  unfold F_X6_part_77
  refine x_ic dX6_part_77 (by decide) (by decide) ?_
  exact x_sub [0, 1] rfl (WF_X6_part_78 hdd hRm hR3 s0 0 x0 x1 h)
noncomputable def F_X6_part_b (R3 : Nat → Int → XH → Option XR3) (x0 : Int) (h : XH) : Option XR3 := ob h x0 6 <| mb (F_X6_isWord x0 (-20) h) fun r1 h2 => if r1 = 0 then (ob h2 x0 6 <| ob h2 x0 6 <| mb (F_X6_which x0 (xv h2 x0 6) h2) fun r3 h4 => if r3 = (-1) then (ob h4 x0 6 <| ob h4 x0 6 <| ob h4 (xv h4 x0 8) 1 <| if xv h4 (xv h4 x0 8) 12 ≤ xv h4 x0 0 then (F_X6_part_77 R3 x0 x0 r3 h4) else (ob h4 x0 6 <| ob h4 (xv h4 x0 8) 1 <| ob h4 x0 6 <| ai h4 (xv h4 (xv h4 x0 8) 11) 2 (xv h4 x0 0) <| mb (F_X0_isDigit (xv h4 (xv h4 (xv h4 x0 8) 11) (xv h4 x0 0)) h4) fun r5 h6 => if r5 = 0 then (F_X6_part_77 R3 x0 x0 r3 h6) else (F_X6_part_73 R3 x0 x0 r3 h6))) else (F_X6_part_73 R3 x0 x0 r3 h4)) else (ob h2 x0 6 <| mt (F_X6_open x0 h2) fun r7 h8 => ob h8 x0 6 <| mt (R3 3 x0 h8) fun r9 h10 => ob h10 x0 6 <| mt (F_X6_close x0 (-21) h10) fun r11 h12 => some (false, r9, h12))
theorem WF_X6_part_b {d : Nat} {dr : Nat} {Z : XZ XR3} (hdd : dr + 1 ≤ d ∧ 8 ≤ d) {R3 : Nat → Int → XH → Option XR3} (hRm : r3Mono R3) (hR3 : R3spec R3 (yL Z) dr) : ∀ x0 h, XG xf3 (xT 3) RX6 "part" cX6_part 2 (some (.object "ExamSlips$Sum")) d Z 0 [(0, (2, x0))] [] h (F_X6_part_b R3 x0 h) := by
  intro x0 h
  unfold F_X6_part_b
  refine x_aload_n 0 dX6_part_0 rfl rfl ?_
  refine x_ldcS (tx := "[") (-20) (by decide) rfl dX6_part_1 ?_
  refine cl_X6_118 (by omega) (Nat.le_of_ble_eq_true rfl) dX6_part_3 fun r1 h2 => ?_
  refine x_if_eq 26 dX6_part_6 (by decide) (fun _ => ?_) (fun _ => ?_)
  · refine x_aload_n 0 dX6_part_26 rfl rfl ?_
    refine x_aload_n 0 dX6_part_27 rfl rfl ?_
    refine xg_X6_37 dX6_part_28 ?_
    refine cl_X6_126 (by omega) (Nat.le_of_ble_eq_true rfl) dX6_part_31 fun r3 h4 => ?_
    refine x_istore_n (lv' := [(1, (0, r3)), (0, (2, x0))]) dX6_part_34 rfl (by decide) rfl ?_
    refine x_aload_n 1 dX6_part_35 rfl rfl ?_
    refine x_iload_n 0 dX6_part_36 rfl rfl ?_
    refine x_ic dX6_part_37 (by decide) (by decide) ?_
    refine x_icmp_ne 73 dX6_part_38 (by decide) (fun _ => ?_) (fun _ => ?_)
    · exact x_sub [1, 0] rfl (WF_X6_part_73 hdd hRm hR3 x0 x0 r3 h4)
    · refine x_aload_n 1 dX6_part_41 rfl rfl ?_
      refine xg_X6_82 dX6_part_42 ?_
      refine x_aload_n 1 dX6_part_45 rfl rfl ?_
      refine xg_X6_3 dX6_part_46 ?_
      refine xg_X6_85 dX6_part_49 ?_
      refine x_icmp_ge 77 dX6_part_52 (by decide) (fun _ => ?_) (fun _ => ?_)
      · exact x_sub [1, 0] rfl (WF_X6_part_77 hdd hRm hR3 x0 x0 r3 h4)
      · refine x_aload_n 1 dX6_part_55 rfl rfl ?_
        refine xg_X6_3 dX6_part_56 ?_
        refine xg_X6_99 dX6_part_59 ?_
        refine x_aload_n 1 dX6_part_62 rfl rfl ?_
        refine xg_X6_82 dX6_part_63 ?_
        refine x_bald dX6_part_66 ?_
        refine cl_X6_107 (by omega) (Nat.le_of_ble_eq_true rfl) dX6_part_67 fun r5 h6 => ?_
        refine x_if_eq 77 dX6_part_70 (by decide) (fun _ => ?_) (fun _ => ?_)
        · exact x_sub [1, 0] rfl (WF_X6_part_77 hdd hRm hR3 x0 x0 r3 h6)
        · exact x_sub [1, 0] rfl (WF_X6_part_73 hdd hRm hR3 x0 x0 r3 h6)
  · refine x_aload_n 0 dX6_part_9 rfl rfl ?_
    refine ct_X6_170 (by omega) (Nat.le_of_ble_eq_true rfl) dX6_part_10 (fun r7 h8 => ?_) fun _ _ => x3_out
    refine x_aload_n 0 dX6_part_13 rfl rfl ?_
    refine crt_X6_130 hRm hR3 hdd.1 (Nat.le_of_ble_eq_true rfl) dX6_part_14 (fun r9 h10 => ?_) fun _ _ => x3_out
    refine x_astore_n (lv' := [(1, (2, r9)), (0, (2, x0))]) dX6_part_17 rfl (by decide) rfl ?_
    refine x_aload_n 1 dX6_part_18 rfl rfl ?_
    refine x_ldcS (tx := "]") (-21) (by decide) rfl dX6_part_19 ?_
    refine ct_X6_175 (by omega) (Nat.le_of_ble_eq_true rfl) dX6_part_21 (fun r11 h12 => ?_) fun _ _ => x3_out
    refine x_aload_n 0 dX6_part_24 rfl rfl ?_
    exact x3_ret (Or.inr (Or.inr rfl)) (fun _ => x_aret rfl (Or.inl ⟨_, rfl⟩) dX6_part_25)
theorem SF_X6_part_b (l : Launch) {d dr : Nat} (hdd : dr + 1 ≤ d ∧ 8 ≤ d) {R3 : Nat → Int → XH → Option XR3} (hRm : r3Mono R3) (hR3 : R3spec R3 l dr) (x0 : Int) (h : XH) (hok : okH h) (ho : okXs (xn h) [(2, x0)]) (fin : XR3) (hf : F_X6_part_b R3 x0 h = some fin) : xSpec3 l yX6_part cX6_part 2 (some (.object "ExamSlips$Sum")) d 3 [(2, x0)] h fin := x3_enter (lv := [(0, (2, x0))]) (by decide) rfl rfl (Nat.le_of_ble_eq_true rfl) rfl (fun Z hZ => by subst hZ; exact WF_X6_part_b hdd hRm hR3 x0 h) hok ho fin hf
noncomputable def VRd : Nat → Nat → Int → XH → Option XR3
  | 0, _, _, _ => none
  | n + 1, i, b, h => if i = 0 then F_X6_test_b (VRd n) b h else if i = 1 then F_X6_both_b (VRd n) b h else if i = 2 then F_X6_plain_b (VRd n) b h else if i = 3 then F_X6_sum_b (VRd n) b h else if i = 4 then F_X6_term_b (VRd n) b h else if i = 5 then F_X6_part_b (VRd n) b h else none
theorem SVRd : ∀ n, r3Mono (VRd n) ∧ ∀ (l : Launch) (dr : Nat), 8 + n ≤ dr → R3spec (VRd n) l dr := by
  intro n
  induction n with
  | zero => exact ⟨(fun Z i b h fin hf => by cases hf), fun l dr _ b h _ _ => ⟨(fun fin hf => by cases hf), (fun fin hf => by cases hf), (fun fin hf => by cases hf), (fun fin hf => by cases hf), (fun fin hf => by cases hf), (fun fin hf => by cases hf)⟩⟩
  | succ n ih =>
    obtain ⟨im, is⟩ := ih
    refine ⟨fun Z i b h => ?_, fun l dr hd b h hok ho => ⟨?_, ?_, ?_, ?_, ?_, ?_⟩⟩
    · rw [VRd]
      refine XM.ite (fun _ => (WF_X6_test_b (Z := Z) (d := 8 + n + 1) (dr := 8 + n) ⟨Nat.le_refl _, by omega⟩ im (is (yL Z) (8 + n) (Nat.le_refl _)) b h).1) (fun _ => ?_)
      refine XM.ite (fun _ => (WF_X6_both_b (Z := Z) (d := 8 + n + 1) (dr := 8 + n) ⟨Nat.le_refl _, by omega⟩ im (is (yL Z) (8 + n) (Nat.le_refl _)) b h).1) (fun _ => ?_)
      refine XM.ite (fun _ => (WF_X6_plain_b (Z := Z) (d := 8 + n + 1) (dr := 8 + n) ⟨Nat.le_refl _, by omega⟩ im (is (yL Z) (8 + n) (Nat.le_refl _)) b h).1) (fun _ => ?_)
      refine XM.ite (fun _ => (WF_X6_sum_b (Z := Z) (d := 8 + n + 1) (dr := 8 + n) ⟨Nat.le_refl _, by omega⟩ im (is (yL Z) (8 + n) (Nat.le_refl _)) b h).1) (fun _ => ?_)
      refine XM.ite (fun _ => (WF_X6_term_b (Z := Z) (d := 8 + n + 1) (dr := 8 + n) ⟨Nat.le_refl _, by omega⟩ im (is (yL Z) (8 + n) (Nat.le_refl _)) b h).1) (fun _ => ?_)
      refine XM.ite (fun _ => (WF_X6_part_b (Z := Z) (d := 8 + n + 1) (dr := 8 + n) ⟨Nat.le_refl _, by omega⟩ im (is (yL Z) (8 + n) (Nat.le_refl _)) b h).1) (fun _ => ?_)
      exact fun fin hf => by cases hf
    · intro fin hf
      rw [VRd, if_pos rfl] at hf
      exact SF_X6_test_b l (d := dr) (dr := dr - 1) ⟨by omega, by omega⟩ im (is l (dr - 1) (by omega)) b h hok ho fin hf
    · intro fin hf
      rw [VRd, if_neg (by decide), if_pos rfl] at hf
      exact SF_X6_both_b l (d := dr) (dr := dr - 1) ⟨by omega, by omega⟩ im (is l (dr - 1) (by omega)) b h hok ho fin hf
    · intro fin hf
      rw [VRd, if_neg (by decide), if_neg (by decide), if_pos rfl] at hf
      exact SF_X6_plain_b l (d := dr) (dr := dr - 1) ⟨by omega, by omega⟩ im (is l (dr - 1) (by omega)) b h hok ho fin hf
    · intro fin hf
      rw [VRd, if_neg (by decide), if_neg (by decide), if_neg (by decide), if_pos rfl] at hf
      exact SF_X6_sum_b l (d := dr) (dr := dr - 1) ⟨by omega, by omega⟩ im (is l (dr - 1) (by omega)) b h hok ho fin hf
    · intro fin hf
      rw [VRd, if_neg (by decide), if_neg (by decide), if_neg (by decide), if_neg (by decide), if_pos rfl] at hf
      exact SF_X6_term_b l (d := dr) (dr := dr - 1) ⟨by omega, by omega⟩ im (is l (dr - 1) (by omega)) b h hok ho fin hf
    · intro fin hf
      rw [VRd, if_neg (by decide), if_neg (by decide), if_neg (by decide), if_neg (by decide), if_neg (by decide), if_pos rfl] at hf
      exact SF_X6_part_b l (d := dr) (dr := dr - 1) ⟨by omega, by omega⟩ im (is l (dr - 1) (by omega)) b h hok ho fin hf

theorem cl_X6_140 {ρ : Type} {fh : ρ → XH} {QQ : XZ ρ → State → Prop} {mn : String} {cc : ByteArray} {nL : Nat} {ret : Option FieldType} {d : Nat} {Z : XZ ρ} {pc : Nat} {lv : List (Nat × AV)} {st : List AV} {h : XH} {g : Int → XH → Option ρ} {b a0 a1 a2 : Int} (hdd : 2 ≤ d) (hcat : (st.map fun v => if v.1 = 1 then 2 else 1).sum ≤ 8) (hdg : decode cc pc = .ok (.invokespecial 140, 3)) (kk : ∀ r h1, XG fh QQ RX6 mn cc nL ret d Z (pc + 3) lv st h1 (g r h1)) : XG fh QQ RX6 mn cc nL ret d Z pc lv ((2, a2) :: (2, a1) :: (0, a0) :: (2, b) :: st) h (pz b (mb (F_X16_init b a0 a1 a2 h) g)) :=
  x_callIv [(0, a0), (2, a1), (2, a2)] 3 (WF_X16_init (Z := (Z.1, Z.2.1, ((0, h), h))) (Nat.le_refl 1) b a0 a1 a2 h).1 (fun hok ho fin hf => SF_X16_init (yL Z) (Nat.le_refl 1) b a0 a1 a2 h hok ho fin hf) (lw_meth q873) q154 q871 q872 rfl ⟨by decide +kernel, by decide +kernel, by decide +kernel⟩ rfl (by omega) (by decide) rfl hcat hdg kk
theorem xg_X6_47 {ρ : Type} {fh : ρ → XH} {QQ : XZ ρ → State → Prop} {mn : String} {cc : ByteArray} {nL : Nat} {ret : Option FieldType} {d : Nat} {Z : XZ ρ} {pc : Nat} {lv : List (Nat × AV)} {st : List AV} {h : XH} {res : Option ρ} {a : Int} (hd : decode cc pc = .ok (.getfield 47, 3)) (kk : XG fh QQ RX6 mn cc nL ret d Z (pc + 3) lv ((2, xv h a 7) :: st) h res) : XG fh QQ RX6 mn cc nL ret d Z pc lv ((2, a) :: st) h (ob h a 6 res) := x_get (C := RX6) (ref := RX6) 6 7 rfl in_X6 (by decide) rfl (by decide) (Or.inl rfl) q559 hd kk
theorem xn_X6_50 {ρ : Type} {fh : ρ → XH} {QQ : XZ ρ → State → Prop} {mn : String} {cc : ByteArray} {nL : Nat} {ret : Option FieldType} {d : Nat} {Z : XZ ρ} {pc : Nat} {lv : List (Nat × AV)} {st : List AV} {h : XH} {f : Int → XH → Option ρ} (hd : decode cc pc = .ok (.new 50, 3)) (kk : ∀ r h1, XG fh QQ RX6 mn cc nL ret d Z (pc + 3) lv ((2, r) :: st) h1 (f r h1)) : XG fh QQ RX6 mn cc nL ret d Z pc lv st h (nw h 14 4 f) := x_new (C := RX16) 14 rfl in_X16 tyX16_ok (by decide) rfl (by decide) xfit_X16 q584 q870 q154 hd kk
theorem ct_X6_130 {ρ : Type} {fh : ρ → XH} {QQ : XZ ρ → State → Prop} {mn : String} {cc : ByteArray} {nL : Nat} {ret : Option FieldType} {d : Nat} {Z : XZ ρ} {pc : Nat} {lv : List (Nat × AV)} {st : List AV} {h : XH} {g k : Int → XH → Option ρ} {b : Int} (hdd : 69 ≤ d) (hcat : (st.map fun v => if v.1 = 1 then 2 else 1).sum ≤ 8) (hdg : decode cc pc = .ok (.invokevirtual 130, 3)) (kk : ∀ r h1, XG fh QQ RX6 mn cc nL ret d Z (pc + 3) lv ((2, r) :: st) h1 (g r h1)) (kx : ∀ r h1, XT fh QQ RX6 mn cc nL ret d Z pc lv r h1 (k r h1)) : XG fh QQ RX6 mn cc nL ret d Z pc lv ((2, b) :: st) h (ob h b 6 (mb3 (VRd RF 3 b h) g k)) :=
  x3_callVr [] 0 ((SVRd RF).1 (Z.1, Z.2.1, ((false, 0, h), h)) 3 b h) (fun hok ho fin hf => ((SVRd RF).2 (yL Z) 68 (by rw [RF_eq]; decide) b h hok ho).2.2.2.1 fin hf) RX6 6 rfl (by decide) (lw_V q721 q723 qs14 q139 q724) ⟨rfl, by decide +kernel, by decide +kernel, by decide +kernel⟩ rfl (by omega) (by decide) rfl hcat hdg kk kx
theorem ct_X6_136 {ρ : Type} {fh : ρ → XH} {QQ : XZ ρ → State → Prop} {mn : String} {cc : ByteArray} {nL : Nat} {ret : Option FieldType} {d : Nat} {Z : XZ ρ} {pc : Nat} {lv : List (Nat × AV)} {st : List AV} {h : XH} {g k : Int → XH → Option ρ} {b : Int} (hdd : 69 ≤ d) (hcat : (st.map fun v => if v.1 = 1 then 2 else 1).sum ≤ 8) (hdg : decode cc pc = .ok (.invokevirtual 136, 3)) (kk : ∀ r h1, XG fh QQ RX6 mn cc nL ret d Z (pc + 3) lv ((2, r) :: st) h1 (g r h1)) (kx : ∀ r h1, XT fh QQ RX6 mn cc nL ret d Z pc lv r h1 (k r h1)) : XG fh QQ RX6 mn cc nL ret d Z pc lv ((2, b) :: st) h (ob h b 6 (mb3 (VRd RF 0 b h) g k)) :=
  x3_callVr [] 0 ((SVRd RF).1 (Z.1, Z.2.1, ((false, 0, h), h)) 0 b h) (fun hok ho fin hf => ((SVRd RF).2 (yL Z) 68 (by rw [RF_eq]; decide) b h hok ho).1 fin hf) RX6 6 rfl (by decide) (lw_V q799 q801 qs22 q139 q802) ⟨rfl, by decide +kernel, by decide +kernel, by decide +kernel⟩ rfl (by omega) (by decide) rfl hcat hdg kk kx
noncomputable def F_X6_clause_49 (s0 : Int) (x1 : Int) (x2 : Int) (h : XH) : Option XR3 := nw h 14 4 fun r1 h2 => pz r1 <| mb (F_X16_init r1 x1 x2 s0 h2) fun r3 h4 => some (false, r1, h4)
theorem WF_X6_clause_49 {d : Nat} {Z : XZ XR3} (hdd : 69 ≤ d) : ∀ s0 x1 x2 h, XG xf3 (xT 3) RX6 "clause" cX6_clause 4 (some (.object "ExamSlips$Clause")) d Z 49 [(1, (0, x1)), (2, (2, x2))] [(2, s0)] h (F_X6_clause_49 s0 x1 x2 h) := by
  intro s0 x1 x2 h
  unfold F_X6_clause_49
  refine x_astore_n (lv' := [(3, (2, s0)), (1, (0, x1)), (2, (2, x2))]) dX6_clause_49 rfl (by decide) rfl ?_
  refine xn_X6_50 dX6_clause_50 fun r1 h2 => ?_
  refine x_dup dX6_clause_53 rfl ?_
  refine x_iload_n 1 dX6_clause_54 rfl rfl ?_
  refine x_aload_n 2 dX6_clause_55 rfl rfl ?_
  refine x_aload_n 0 dX6_clause_56 rfl rfl ?_
  refine cl_X6_140 (by omega) (Nat.le_of_ble_eq_true rfl) dX6_clause_57 fun r3 h4 => ?_
  exact x3_ret (Or.inr (Or.inr rfl)) (fun _ => x_aret rfl (Or.inl ⟨_, rfl⟩) dX6_clause_60)
noncomputable def F_X6_clause (x0 : Int) (h : XH) : Option XR3 := ob h x0 6 <| ob h x0 6 <| mb (F_X6_which x0 (xv h x0 7) h) fun r1 h2 => nm (α := Int) (if r1 = (-1) then 0 else 1) fun v3 => ob h2 x0 6 <| mt (F_X6_must x0 v3 h2) fun r4 h5 => ob h5 x0 6 <| mb (F_X6_next x0 h5) fun r6 h7 => ob h7 x0 6 <| mt (VRd RF 3 x0 h7) fun r8 h9 => ob h9 x0 6 <| mb (F_X6_accept x0 (-26) h9) fun r10 h11 => if r10 = 0 then (F_X6_clause_49 0 r1 r8 h11) else (ob h11 x0 6 <| mt (VRd RF 0 x0 h11) fun r12 h13 => F_X6_clause_49 r12 r1 r8 h13)
theorem WF_X6_clause {d : Nat} {Z : XZ XR3} (hdd : 69 ≤ d) : ∀ x0 h, XG xf3 (xT 3) RX6 "clause" cX6_clause 4 (some (.object "ExamSlips$Clause")) d Z 0 [(0, (2, x0))] [] h (F_X6_clause x0 h) := by
  intro x0 h
  unfold F_X6_clause
  refine x_aload_n 0 dX6_clause_0 rfl rfl ?_
  refine x_aload_n 0 dX6_clause_1 rfl rfl ?_
  refine xg_X6_47 dX6_clause_2 ?_
  refine cl_X6_126 (by omega) (Nat.le_of_ble_eq_true rfl) dX6_clause_5 fun r1 h2 => ?_
  refine x_istore_n (lv' := [(1, (0, r1)), (0, (2, x0))]) dX6_clause_8 rfl (by decide) rfl ?_
  refine x_aload_n 1 dX6_clause_9 rfl rfl ?_
  refine x_iload_n 0 dX6_clause_10 rfl rfl ?_
  refine x_ic dX6_clause_11 (by decide) (by decide) ?_
  refine x_join 20 (fun v3 => [(0, v3), (2, x0)]) (fun v3 => ?_) (fun hJ => ?_)
  · refine ct_X6_68 (by omega) (Nat.le_of_ble_eq_true rfl) dX6_clause_20 (fun r4 h5 => ?_) fun _ _ => x3_out
    refine x_aload_n 1 dX6_clause_23 rfl rfl ?_
    refine cl_X6_65 (by omega) (Nat.le_of_ble_eq_true rfl) dX6_clause_24 fun r6 h7 => ?_
    refine x_aload_n 1 dX6_clause_27 rfl rfl ?_
    refine ct_X6_130 (by omega) (Nat.le_of_ble_eq_true rfl) dX6_clause_28 (fun r8 h9 => ?_) fun _ _ => x3_out
    refine x_astore_n (lv' := [(2, (2, r8)), (1, (0, r1)), (0, (2, x0))]) dX6_clause_31 rfl (by decide) rfl ?_
    refine x_aload_n 2 dX6_clause_32 rfl rfl ?_
    refine x_ldcS (tx := "if") (-26) (by decide) rfl dX6_clause_33 ?_
    refine cl_X6_78 (by omega) (Nat.le_of_ble_eq_true rfl) dX6_clause_35 fun r10 h11 => ?_
    refine x_if_eq 48 dX6_clause_38 (by decide) (fun _ => ?_) (fun _ => ?_)
    · refine x_null dX6_clause_48 ?_
      exact x_sub [1, 0] rfl (WF_X6_clause_49 hdd 0 r1 r8 h11)
    · refine x_aload_n 2 dX6_clause_41 rfl rfl ?_
      refine ct_X6_136 (by omega) (Nat.le_of_ble_eq_true rfl) dX6_clause_42 (fun r12 h13 => ?_) fun _ _ => x3_out
      refine x_goto 49 dX6_clause_45 (by decide) ?_
      exact x_sub [1, 0] rfl (WF_X6_clause_49 hdd r12 r1 r8 h13)
  · refine x_icmp_eqF 19 dX6_clause_12 (by decide) (fun _ => ?_) (fun _ => ?_)
    · refine x_ic dX6_clause_19 (by decide) (by decide) ?_
      exact hJ _
    · refine x_ic dX6_clause_15 (by decide) (by decide) ?_
      refine x_goto 20 dX6_clause_16 (by decide) ?_
      exact hJ _
theorem SF_X6_clause (l : Launch) {d : Nat} (hdd : 69 ≤ d) (x0 : Int) (h : XH) (hok : okH h) (ho : okXs (xn h) [(2, x0)]) (fin : XR3) (hf : F_X6_clause x0 h = some fin) : xSpec3 l yX6_clause cX6_clause 4 (some (.object "ExamSlips$Clause")) d 3 [(2, x0)] h fin := x3_enter (lv := [(0, (2, x0))]) (by decide) rfl rfl (Nat.le_of_ble_eq_true rfl) rfl (fun Z _ => WF_X6_clause hdd x0 h) hok ho fin hf
theorem cl_X6_96 {ρ : Type} {fh : ρ → XH} {QQ : XZ ρ → State → Prop} {mn : String} {cc : ByteArray} {nL : Nat} {ret : Option FieldType} {d : Nat} {Z : XZ ρ} {pc : Nat} {lv : List (Nat × AV)} {st : List AV} {h : XH} {g : Int → XH → Option ρ} {b a0 : Int} (hdd : 2 ≤ d) (hcat : (st.map fun v => if v.1 = 1 then 2 else 1).sum ≤ 8) (hdg : decode cc pc = .ok (.invokespecial 96, 3)) (kk : ∀ r h1, XG fh QQ RX6 mn cc nL ret d Z (pc + 3) lv st h1 (g r h1)) : XG fh QQ RX6 mn cc nL ret d Z pc lv ((2, a0) :: (2, b) :: st) h (pz b (mb (F_X3_init b a0 h) g)) :=
  x_callIv [(2, a0)] 1 (WF_X3_init (Z := (Z.1, Z.2.1, ((0, h), h))) (Nat.le_refl 1) b a0 h).1 (fun hok ho fin hf => SF_X3_init (yL Z) (Nat.le_refl 1) b a0 h hok ho fin hf) (lw_meth q282) q130 q892 q281 rfl ⟨by decide +kernel, by decide +kernel, by decide +kernel⟩ rfl (by omega) (by decide) rfl hcat hdg kk
theorem xn_X6_94 {ρ : Type} {fh : ρ → XH} {QQ : XZ ρ → State → Prop} {mn : String} {cc : ByteArray} {nL : Nat} {ret : Option FieldType} {d : Nat} {Z : XZ ρ} {pc : Nat} {lv : List (Nat × AV)} {st : List AV} {h : XH} {f : Int → XH → Option ρ} (hd : decode cc pc = .ok (.new 94, 3)) (kk : ∀ r h1, XG fh QQ RX6 mn cc nL ret d Z (pc + 3) lv ((2, r) :: st) h1 (f r h1)) : XG fh QQ RX6 mn cc nL ret d Z pc lv st h (nw h 4 1 f) := x_new (C := RX3) 4 rfl in_X3 tyX3_ok (by decide) rfl (by decide) xfit_X3 q891 q277 q130 hd kk
theorem ct_X6_72 {ρ : Type} {fh : ρ → XH} {QQ : XZ ρ → State → Prop} {mn : String} {cc : ByteArray} {nL : Nat} {ret : Option FieldType} {d : Nat} {Z : XZ ρ} {pc : Nat} {lv : List (Nat × AV)} {st : List AV} {h : XH} {g k : Int → XH → Option ρ} {b : Int} (hdd : 70 ≤ d) (hcat : (st.map fun v => if v.1 = 1 then 2 else 1).sum ≤ 8) (hdg : decode cc pc = .ok (.invokevirtual 72, 3)) (kk : ∀ r h1, XG fh QQ RX6 mn cc nL ret d Z (pc + 3) lv ((2, r) :: st) h1 (g r h1)) (kx : ∀ r h1, XT fh QQ RX6 mn cc nL ret d Z pc lv r h1 (k r h1)) : XG fh QQ RX6 mn cc nL ret d Z pc lv ((2, b) :: st) h (ob h b 6 (mb3 (F_X6_clause b h) g k)) :=
  x3_callVr [] 0 (WF_X6_clause (Z := (Z.1, Z.2.1, ((false, 0, h), h))) (Nat.le_refl 69) b h).1 (fun hok ho fin hf => SF_X6_clause (yL Z) (Nat.le_refl 69) b h hok ho fin hf) RX6 6 rfl (by decide) (lw_V q663 q665 qs11 q139 q666) ⟨rfl, by decide +kernel, by decide +kernel, by decide +kernel⟩ rfl (by omega) (by decide) rfl hcat hdg kk kx
noncomputable def F_X6_read_66 (x0 : Int) (x1 : Int) (x2 : Int) (h : XH) : Option XR3 := ob h x0 6 <| ob h x0 6 <| ob h (xv h x0 8) 1 <| nm (α := Int) (if xv h x0 0 = xv h (xv h x0 8) 12 then 1 else 0) fun v1 => ob h x0 6 <| mt (F_X6_must x0 v1 h) fun r2 h3 => na h3 4 x2 fun r4 h5 => cpg h5 4 x1 0 r4 0 x2 <| eg h5 "ExamSlips$Clause" x1 0 x2 <| nm (hcpy h5 x1 0 r4 0 x2) fun h6 => nw h6 4 1 fun r7 h8 => pz r7 <| mb (F_X3_init r7 r4 h8) fun r9 h10 => some (false, r7, h10)
theorem WF_X6_read_66 {d : Nat} {Z : XZ XR3} (hdd : 70 ≤ d) : ∀ x0 x1 x2 h, XG xf3 (xT 3) RX6 "read" cX6_read 4 (some (.object "ExamSlips$Text")) d Z 66 [(0, (2, x0)), (1, (2, x1)), (2, (0, x2))] [] h (F_X6_read_66 x0 x1 x2 h) := by
  intro x0 x1 x2 h
  unfold F_X6_read_66
  refine x_aload_n 0 dX6_read_66 rfl rfl ?_
  refine x_aload_n 0 dX6_read_67 rfl rfl ?_
  refine xg_X6_82 dX6_read_68 ?_
  refine x_aload_n 0 dX6_read_71 rfl rfl ?_
  refine xg_X6_3 dX6_read_72 ?_
  refine xg_X6_85 dX6_read_75 ?_
  refine x_join 86 (fun v1 => [(0, v1), (2, x0)]) (fun v1 => ?_) (fun hJ => ?_)
  · refine ct_X6_68 (by omega) (Nat.le_of_ble_eq_true rfl) dX6_read_86 (fun r2 h3 => ?_) fun _ _ => x3_out
    refine x_iload_n 2 dX6_read_89 rfl rfl ?_
    refine x_newq 4 (by decide) (by decide) rfl q584 q279 dX6_read_90 fun r4 h5 => ?_
    refine x_astore_n (lv' := [(3, (2, r4)), (0, (2, x0)), (1, (2, x1)), (2, (0, x2))]) dX6_read_93 rfl (by decide) rfl ?_
    refine x_aload_n 2 dX6_read_94 rfl rfl ?_
    refine x_ic dX6_read_95 (by decide) (by decide) ?_
    refine x_aload_n 0 dX6_read_96 rfl rfl ?_
    refine x_ic dX6_read_97 (by decide) (by decide) ?_
    refine x_iload_n 3 dX6_read_98 rfl rfl ?_
    refine x_copyq (E := "ExamSlips$Clause") 4 (by decide) (by decide) rfl q855 q480 q479 q136 (by omega) (Nat.le_of_ble_eq_true rfl) dX6_read_99 fun h6 => ?_
    refine xn_X6_94 dX6_read_102 fun r7 h8 => ?_
    refine x_dup dX6_read_105 rfl ?_
    refine x_aload_n 0 dX6_read_106 rfl rfl ?_
    refine cl_X6_96 (by omega) (Nat.le_of_ble_eq_true rfl) dX6_read_107 fun r9 h10 => ?_
    exact x3_ret (Or.inr (Or.inr rfl)) (fun _ => x_aret rfl (Or.inl ⟨_, rfl⟩) dX6_read_110)
  · refine x_icmp_neF 85 dX6_read_78 (by decide) (fun _ => ?_) (fun _ => ?_)
    · refine x_ic dX6_read_85 (by decide) (by decide) ?_
      exact hJ _
    · refine x_ic dX6_read_81 (by decide) (by decide) ?_
      refine x_goto 86 dX6_read_82 (by decide) ?_
      exact hJ _
noncomputable def F_X6_read_32 : Nat → Int → Int → Int → XH → Option XR3
  | 0, _, _, _, _ => none
  | n + 1, x0, x1, x2, h => nm (α := Int) (if 12 ≤ x2 then 0 else 1) fun v1 => ob h x0 6 <| mt (F_X6_must x0 v1 h) fun r2 h3 => ob h3 x0 6 <| mt (F_X6_clause x0 h3) fun r4 h5 => ai h5 x1 4 x2 <| qst h5 r4 14 <| nm (hset h5 x1 x2 r4) fun h6 => nm (w32 (x2 + 1)) fun v7 => ob h6 x0 6 <| mb (F_X6_accept x0 (-35) h6) fun r8 h9 => if r8 = 0 then (F_X6_read_66 x0 x1 v7 h9) else (F_X6_read_32 n x0 x1 v7 h9)
theorem WF_X6_read_32 {d : Nat} {Z : XZ XR3} (hdd : 70 ≤ d) : ∀ n x0 x1 x2 h, XG xf3 (xT 3) RX6 "read" cX6_read 4 (some (.object "ExamSlips$Text")) d Z 32 [(0, (2, x0)), (1, (2, x1)), (2, (0, x2))] [] h (F_X6_read_32 n x0 x1 x2 h) := by
  intro n
  induction n with
  | zero => intro x0 x1 x2 h; exact x_none
  | succ n ih =>
    intro x0 x1 x2 h
    rw [F_X6_read_32]
    refine x_aload_n 0 dX6_read_32 rfl rfl ?_
    refine x_iload_n 2 dX6_read_33 rfl rfl ?_
    refine x_bp dX6_read_34 (by decide) (by decide) ?_
    refine x_join 44 (fun v1 => [(0, v1), (2, x0)]) (fun v1 => ?_) (fun hJ => ?_)
    · refine ct_X6_68 (by omega) (Nat.le_of_ble_eq_true rfl) dX6_read_44 (fun r2 h3 => ?_) fun _ _ => x3_out
      refine x_aload_n 1 dX6_read_47 rfl rfl ?_
      refine x_iload_n 2 dX6_read_48 rfl rfl ?_
      refine x_aload_n 0 dX6_read_49 rfl rfl ?_
      refine ct_X6_72 (by omega) (Nat.le_of_ble_eq_true rfl) dX6_read_50 (fun r4 h5 => ?_) fun _ _ => x3_out
      refine x_aast 4 14 (by decide) (by decide) rfl rfl (by decide) (Or.inl rfl) dX6_read_53 fun h6 => ?_
      refine x_iinc 2 dX6_read_54 rfl (by decide) fun v7 => x_lv (lv' := [(2, (0, v7)), (0, (2, x0)), (1, (2, x1))]) rfl ?_
      refine x_aload_n 1 dX6_read_57 rfl rfl ?_
      refine x_ldcS (tx := ";") (-35) (by decide) rfl dX6_read_58 ?_
      refine cl_X6_78 (by omega) (Nat.le_of_ble_eq_true rfl) dX6_read_60 fun r8 h9 => ?_
      refine x_if_ne 32 dX6_read_63 (by decide) (fun _ => ?_) (fun _ => ?_)
      · exact x_sub [1, 2, 0] rfl (ih x0 x1 v7 h9)
      · exact x_sub [1, 2, 0] rfl (WF_X6_read_66 hdd x0 x1 v7 h9)
    · refine x_icmp_geF 43 dX6_read_36 (by decide) (fun _ => ?_) (fun _ => ?_)
      · refine x_ic dX6_read_43 (by decide) (by decide) ?_
        exact hJ _
      · refine x_ic dX6_read_39 (by decide) (by decide) ?_
        refine x_goto 44 dX6_read_40 (by decide) ?_
        exact hJ _
noncomputable def F_X6_read (x0 : Int) (h : XH) : Option XR3 := na h 4 12 fun r1 h2 => ob h2 x0 6 <| nm (hset h2 x0 1 0) fun h3 => ob h3 x0 6 <| nm (hset h3 x0 2 0) fun h4 => ob h4 x0 6 <| nm (hset h4 x0 3 0) fun h5 => ob h5 x0 6 <| nm (hset h5 x0 4 0) fun h6 => ob h6 x0 6 <| mb (F_X6_next x0 h6) fun r7 h8 => F_X6_read_32 FU x0 r1 0 h8
theorem WF_X6_read {d : Nat} {Z : XZ XR3} (hdd : 70 ≤ d) : ∀ x0 h, XG xf3 (xT 3) RX6 "read" cX6_read 4 (some (.object "ExamSlips$Text")) d Z 0 [(0, (2, x0))] [] h (F_X6_read x0 h) := by
  intro x0 h
  unfold F_X6_read
  refine x_bp dX6_read_0 (by decide) (by decide) ?_
  refine x_newq 4 (by decide) (by decide) rfl q584 q279 dX6_read_2 fun r1 h2 => ?_
  refine x_astore_n (lv' := [(1, (2, r1)), (0, (2, x0))]) dX6_read_5 rfl (by decide) rfl ?_
  refine x_ic dX6_read_6 (by decide) (by decide) ?_
  refine x_istore_n (lv' := [(2, (0, 0)), (1, (2, r1)), (0, (2, x0))]) dX6_read_7 rfl (by decide) rfl ?_
  refine x_aload_n 2 dX6_read_8 rfl rfl ?_
  refine x_ic dX6_read_9 (by decide) (by decide) ?_
  refine xp_X6_52 dX6_read_10 fun h3 => ?_
  refine x_aload_n 2 dX6_read_13 rfl rfl ?_
  refine x_ic dX6_read_14 (by decide) (by decide) ?_
  refine xp_X6_56 dX6_read_15 fun h4 => ?_
  refine x_aload_n 2 dX6_read_18 rfl rfl ?_
  refine x_ic dX6_read_19 (by decide) (by decide) ?_
  refine xp_X6_59 dX6_read_20 fun h5 => ?_
  refine x_aload_n 2 dX6_read_23 rfl rfl ?_
  refine x_ic dX6_read_24 (by decide) (by decide) ?_
  refine xp_X6_62 dX6_read_25 fun h6 => ?_
  refine x_aload_n 2 dX6_read_28 rfl rfl ?_
  refine cl_X6_65 (by omega) (Nat.le_of_ble_eq_true rfl) dX6_read_29 fun r7 h8 => ?_
  exact x_sub [2, 1, 0] rfl (WF_X6_read_32 hdd FU x0 r1 0 h8)
theorem SF_X6_read (l : Launch) {d : Nat} (hdd : 70 ≤ d) (x0 : Int) (h : XH) (hok : okH h) (ho : okXs (xn h) [(2, x0)]) (fin : XR3) (hf : F_X6_read x0 h = some fin) : xSpec3 l yX6_read cX6_read 4 (some (.object "ExamSlips$Text")) d 3 [(2, x0)] h fin := x3_enter (lv := [(0, (2, x0))]) (by decide) rfl rfl (Nat.le_of_ble_eq_true rfl) rfl (fun Z _ => WF_X6_read hdd x0 h) hok ho fin hf
