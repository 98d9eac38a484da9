/-! printed by tools/genx.py: the system's methods as pure functions over named cells, and their walks -/
set_option maxRecDepth 100000
set_option maxHeartbeats 4000000
noncomputable def F_J13_compare (x0 : Int) (x1 : Int) (h : XH) : Option XR := nm (α := Int) (if x1 ≤ x0 then (if x0 = x1 then 0 else 1) else (-1)) fun v1 => some (v1, h)
theorem WF_J13_compare {d : Nat} {Z : XZ XR} (hdd : 1 ≤ d) : ∀ x0 x1 h, XG xfh (xQ 0) RJ13 "compare" cJ13_compare 2 (some .int) d Z 0 [(0, (0, x0)), (1, (0, x1))] [] h (F_J13_compare x0 x1 h) := by
  intro x0 x1 h
  unfold F_J13_compare
  refine x_iload_n 0 dJ13_compare_0 rfl rfl ?_
  refine x_iload_n 1 dJ13_compare_1 rfl rfl ?_
  refine x_join 19 (fun v1 => [(0, v1)]) (fun v1 => ?_) (fun hJ => ?_)
  · exact x_iret rfl dJ13_compare_19
  · refine x_icmp_geF 9 dJ13_compare_2 (by decide) (fun _ => ?_) (fun _ => ?_)
    · refine x_iload_n 0 dJ13_compare_9 rfl rfl ?_
      refine x_iload_n 1 dJ13_compare_10 rfl rfl ?_
      refine x_icmp_neF 18 dJ13_compare_11 (by decide) (fun _ => ?_) (fun _ => ?_)
      · refine x_ic dJ13_compare_18 (by decide) (by decide) ?_
        exact hJ _
      · refine x_ic dJ13_compare_14 (by decide) (by decide) ?_
        refine x_goto 19 dJ13_compare_15 (by decide) ?_
        exact hJ _
    · refine x_ic dJ13_compare_5 (by decide) (by decide) ?_
      refine x_goto 19 dJ13_compare_6 (by decide) ?_
      exact hJ _
theorem SF_J13_compare (l : Launch) {d : Nat} (hdd : 1 ≤ d) (x0 : Int) (x1 : Int) (h : XH) (hok : okH h) (ho : okXs (xn h) [(0, x0), (0, x1)]) (fin : XR) (hf : F_J13_compare x0 x1 h = some fin) : xSpec l yJ13_compare cJ13_compare 2 (some .int) d 0 [(0, x0), (0, x1)] h fin := x_enter (lv := [(0, (0, x0)), (1, (0, x1))]) (by decide) rfl rfl (Nat.le_of_ble_eq_true rfl) rfl (fun Z _ => WF_J13_compare hdd x0 x1 h) hok ho fin hf
theorem cl_X25_21 {ρ : Type} {fh : ρ → XH} {QQ : XZ ρ → State → Prop} {mn : String} {cc : ByteArray} {nL : Nat} {ret : Option FieldType} {d : Nat} {Z : XZ ρ} {pc : Nat} {lv : List (Nat × AV)} {st : List AV} {h : XH} {g : Int → XH → Option ρ} {a0 a1 : Int} (hdd : 2 ≤ d) (hcat : (st.map fun v => if v.1 = 1 then 2 else 1).sum ≤ 8) (hdg : decode cc pc = .ok (.invokestatic 21, 3)) (kk : ∀ r h1, XG fh QQ RX25 mn cc nL ret d Z (pc + 3) lv ((0, r) :: st) h1 (g r h1)) : XG fh QQ RX25 mn cc nL ret d Z pc lv ((0, a1) :: (0, a0) :: st) h (mb (F_J13_compare a0 a1 h) g) :=
  x_callSi [(0, a0), (0, a1)] 2 (WF_J13_compare (Z := (Z.1, Z.2.1, ((0, h), h))) (Nat.le_refl 1) a0 a1 h).1 (fun hok ho fin hf => SF_J13_compare (yL Z) (Nat.le_refl 1) a0 a1 h hok ho fin hf) (lw_S q1554 q1555 q163 q1556) ⟨by decide +kernel, by decide +kernel, by decide +kernel⟩ rfl (by omega) (by decide) rfl hcat hdg kk
noncomputable def F_X25_compare_27 (x0 : Int) (x1 : Int) (x2 : Int) (h : XH) : Option XR := ob h x0 23 <| ai h (xv h x0 0) 0 x2 <| ob h x1 23 <| ai h (xv h x1 0) 0 x2 <| mb (F_J13_compare (xv h (xv h x0 0) x2) (xv h (xv h x1 0) x2) h) fun r1 h2 => some (r1, h2)
theorem WF_X25_compare_27 {d : Nat} {Z : XZ XR} (hdd : 2 ≤ d) : ∀ x0 x1 x2 h, XG xfh (xQ 0) RX25 "compare" cX25_compare 3 (some .int) d Z 27 [(0, (2, x0)), (1, (2, x1)), (2, (0, x2))] [] h (F_X25_compare_27 x0 x1 x2 h) := by
  intro x0 x1 x2 h
  unfold F_X25_compare_27
  refine x_aload_n 0 dX25_compare_27 rfl rfl ?_
  refine xg_X25_7 dX25_compare_28 ?_
  refine x_iload_n 2 dX25_compare_31 rfl rfl ?_
  refine x_iald dX25_compare_32 ?_
  refine x_aload_n 1 dX25_compare_33 rfl rfl ?_
  refine xg_X25_7 dX25_compare_34 ?_
  refine x_iload_n 2 dX25_compare_37 rfl rfl ?_
  refine x_iald dX25_compare_38 ?_
  refine cl_X25_21 (by omega) (Nat.le_of_ble_eq_true rfl) dX25_compare_39 fun r1 h2 => ?_
  exact x_iret rfl dX25_compare_42
noncomputable def F_X25_compare_8 : Nat → Int → Int → Int → XH → Option XR
  | 0, _, _, _, _ => none
  | n + 1, x0, x1, x2, h => if x2 < 0 then (some (0, h)) else (ob h x0 23 <| ai h (xv h x0 0) 0 x2 <| ob h x1 23 <| ai h (xv h x1 0) 0 x2 <| if xv h (xv h x0 0) x2 = xv h (xv h x1 0) x2 then (nm (w32 (x2 + (-1))) fun v1 => F_X25_compare_8 n x0 x1 v1 h) else (F_X25_compare_27 x0 x1 x2 h))
theorem WF_X25_compare_8 {d : Nat} {Z : XZ XR} (hdd : 2 ≤ d) : ∀ n x0 x1 x2 h, XG xfh (xQ 0) RX25 "compare" cX25_compare 3 (some .int) d Z 8 [(0, (2, x0)), (1, (2, x1)), (2, (0, x2))] [] h (F_X25_compare_8 n x0 x1 x2 h) := by
  intro n
  induction n with
  | zero => intro x0 x1 x2 h; exact x_none
  | succ n ih =>
    intro x0 x1 x2 h
    rw [F_X25_compare_8]
    refine x_iload_n 2 dX25_compare_8 rfl rfl ?_
    refine x_if_lt 49 dX25_compare_9 (by decide) (fun _ => ?_) (fun _ => ?_)
    · refine x_ic dX25_compare_49 (by decide) (by decide) ?_
      exact x_iret rfl dX25_compare_50
    · refine x_aload_n 0 dX25_compare_12 rfl rfl ?_
      refine xg_X25_7 dX25_compare_13 ?_
      refine x_iload_n 2 dX25_compare_16 rfl rfl ?_
      refine x_iald dX25_compare_17 ?_
      refine x_aload_n 1 dX25_compare_18 rfl rfl ?_
      refine xg_X25_7 dX25_compare_19 ?_
      refine x_iload_n 2 dX25_compare_22 rfl rfl ?_
      refine x_iald dX25_compare_23 ?_
      refine x_icmp_eq 43 dX25_compare_24 (by decide) (fun _ => ?_) (fun _ => ?_)
      · refine x_iinc 2 dX25_compare_43 rfl (by decide) fun v1 => x_lv (lv' := [(2, (0, v1)), (0, (2, x0)), (1, (2, x1))]) rfl ?_
        refine x_goto 8 dX25_compare_46 (by decide) ?_
        exact x_sub [1, 2, 0] rfl (ih x0 x1 v1 h)
      · exact x_sub [0, 1, 2] rfl (WF_X25_compare_27 hdd x0 x1 x2 h)
noncomputable def F_X25_compare (x0 : Int) (x1 : Int) (h : XH) : Option XR := ob h x0 23 <| al h (xv h x0 0) 0 <| nm (α := Int) (w32 ((xl h (xv h x0 0) : Int) - 1)) fun v1 => F_X25_compare_8 FU x0 x1 v1 h
theorem WF_X25_compare {d : Nat} {Z : XZ XR} (hdd : 2 ≤ d) : ∀ x0 x1 h, XG xfh (xQ 0) RX25 "compare" cX25_compare 3 (some .int) d Z 0 [(0, (2, x0)), (1, (2, x1))] [] h (F_X25_compare x0 x1 h) := by
  intro x0 x1 h
  unfold F_X25_compare
  refine x_aload_n 0 dX25_compare_0 rfl rfl ?_
  refine xg_X25_7 dX25_compare_1 ?_
  refine x_alen 0 (by decide) dX25_compare_4 ?_
  refine x_ic dX25_compare_5 (by decide) (by decide) ?_
  refine x_isub dX25_compare_6 ?_
  refine x_nmT fun v1 => ?_
  refine x_istore_n (lv' := [(2, (0, v1)), (0, (2, x0)), (1, (2, x1))]) dX25_compare_7 rfl (by decide) rfl ?_
  exact x_sub [1, 2, 0] rfl (WF_X25_compare_8 hdd FU x0 x1 v1 h)
theorem SF_X25_compare (l : Launch) {d : Nat} (hdd : 2 ≤ d) (x0 : Int) (x1 : Int) (h : XH) (hok : okH h) (ho : okXs (xn h) [(2, x0), (2, x1)]) (fin : XR) (hf : F_X25_compare x0 x1 h = some fin) : xSpec l yX25_compare cX25_compare 3 (some .int) d 0 [(2, x0), (2, x1)] h fin := x_enter (lv := [(0, (2, x0)), (1, (2, x1))]) (by decide) rfl rfl (Nat.le_of_ble_eq_true rfl) rfl (fun Z _ => WF_X25_compare hdd x0 x1 h) hok ho fin hf
theorem cl_X25_27 {ρ : Type} {fh : ρ → XH} {QQ : XZ ρ → State → Prop} {mn : String} {cc : ByteArray} {nL : Nat} {ret : Option FieldType} {d : Nat} {Z : XZ ρ} {pc : Nat} {lv : List (Nat × AV)} {st : List AV} {h : XH} {g : Int → XH → Option ρ} {b a0 : Int} (hdd : 2 ≤ d) (hcat : (st.map fun v => if v.1 = 1 then 2 else 1).sum ≤ 8) (hdg : decode cc pc = .ok (.invokespecial 27, 3)) (kk : ∀ r h1, XG fh QQ RX25 mn cc nL ret d Z (pc + 3) lv st h1 (g r h1)) : XG fh QQ RX25 mn cc nL ret d Z pc lv ((2, a0) :: (2, b) :: st) h (pz b (mb (F_X25_init_2 b a0 h) g)) :=
  x_callIv [(2, a0)] 1 (WF_X25_init_2 (Z := (Z.1, Z.2.1, ((0, h), h))) (Nat.le_refl 1) b a0 h).1 (fun hok ho fin hf => SF_X25_init_2 (yL Z) (Nat.le_refl 1) b a0 h hok ho fin hf) (lw_meth q1531) q167 q1548 q1530 rfl ⟨by decide +kernel, by decide +kernel, by decide +kernel⟩ rfl (by omega) (by decide) rfl hcat hdg kk
theorem cl_X25_30 {ρ : Type} {fh : ρ → XH} {QQ : XZ ρ → State → Prop} {mn : String} {cc : ByteArray} {nL : Nat} {ret : Option FieldType} {d : Nat} {Z : XZ ρ} {pc : Nat} {lv : List (Nat × AV)} {st : List AV} {h : XH} {g : Int → XH → Option ρ} {b a0 : Int} (hdd : 2 ≤ d) (hcat : (st.map fun v => if v.1 = 1 then 2 else 1).sum ≤ 8) (hdg : decode cc pc = .ok (.invokevirtual 30, 3)) (kk : ∀ r h1, XG fh QQ RX25 mn cc nL ret d Z (pc + 3) lv ((2, r) :: st) h1 (g r h1)) : XG fh QQ RX25 mn cc nL ret d Z pc lv ((0, a0) :: (2, b) :: st) h (ob h b 23 (mb (F_X25_times b a0 h) g)) :=
  x_callVr [(0, a0)] 1 (WF_X25_times (Z := (Z.1, Z.2.1, ((0, h), h))) (Nat.le_refl 1) b a0 h).1 (fun hok ho fin hf => SF_X25_times (yL Z) (Nat.le_refl 1) b a0 h hok ho fin hf) RX25 23 rfl (by decide) (lw_V q1549 q1525 q1526 q167 q1527) ⟨rfl, by decide +kernel, by decide +kernel, by decide +kernel⟩ rfl (by omega) (by decide) rfl hcat hdg kk
theorem cl_X25_34 {ρ : Type} {fh : ρ → XH} {QQ : XZ ρ → State → Prop} {mn : String} {cc : ByteArray} {nL : Nat} {ret : Option FieldType} {d : Nat} {Z : XZ ρ} {pc : Nat} {lv : List (Nat × AV)} {st : List AV} {h : XH} {g : Int → XH → Option ρ} {b a0 : Int} (hdd : 3 ≤ d) (hcat : (st.map fun v => if v.1 = 1 then 2 else 1).sum ≤ 8) (hdg : decode cc pc = .ok (.invokevirtual 34, 3)) (kk : ∀ r h1, XG fh QQ RX25 mn cc nL ret d Z (pc + 3) lv ((0, r) :: st) h1 (g r h1)) : XG fh QQ RX25 mn cc nL ret d Z pc lv ((2, a0) :: (2, b) :: st) h (ob h b 23 (mb (F_X25_compare b a0 h) g)) :=
  x_callVi [(2, a0)] 1 (WF_X25_compare (Z := (Z.1, Z.2.1, ((0, h), h))) (Nat.le_refl 2) b a0 h).1 (fun hok ho fin hf => SF_X25_compare (yL Z) (Nat.le_refl 2) b a0 h hok ho fin hf) RX25 23 rfl (by decide) (lw_V q1550 q1551 q1552 q167 q1553) ⟨rfl, by decide +kernel, by decide +kernel, by decide +kernel⟩ rfl (by omega) (by decide) rfl hcat hdg kk
theorem xn_X25_8 {ρ : Type} {fh : ρ → XH} {QQ : XZ ρ → State → Prop} {mn : String} {cc : ByteArray} {nL : Nat} {ret : Option FieldType} {d : Nat} {Z : XZ ρ} {pc : Nat} {lv : List (Nat × AV)} {st : List AV} {h : XH} {f : Int → XH → Option ρ} (hd : decode cc pc = .ok (.new 8, 3)) (kk : ∀ r h1, XG fh QQ RX25 mn cc nL ret d Z (pc + 3) lv ((2, r) :: st) h1 (f r h1)) : XG fh QQ RX25 mn cc nL ret d Z pc lv st h (nw h 23 1 f) := x_new (C := RX25) 23 rfl in_X25 tyX25_ok (by decide) rfl (by decide) xfit_X25 q1547 q1515 q167 hd kk
noncomputable def F_X25_has_55 (K5 : Int → Int → Int → Int → XH → Option XR) (x0 : Int) (x1 : Int) (x3 : Int) (x4 : Int) (h : XH) : Option XR := K5 x0 x1 x3 x4 h
theorem WF_X25_has_55 {d : Nat} {Z : XZ XR} (hdd : 3 ≤ d) {K5 : Int → Int → Int → Int → XH → Option XR} (hK5 : ∀ x0 x1 x3 x4 h, XG xfh (xQ 0) RX25 "has" cX25_has 6 (some .int) d Z 5 [(0, (2, x0)), (1, (2, x1)), (3, (0, x3)), (4, (0, x4))] [] h (K5 x0 x1 x3 x4 h)) : ∀ x0 x1 x3 x4 h, XG xfh (xQ 0) RX25 "has" cX25_has 6 (some .int) d Z 55 [(0, (2, x0)), (1, (2, x1)), (3, (0, x3)), (4, (0, x4))] [] h (F_X25_has_55 K5 x0 x1 x3 x4 h) := by
  intro x0 x1 x3 x4 h
  unfold F_X25_has_55
  refine x_goto 5 dX25_has_55 (by decide) ?_
  exact x_sub [0, 1, 2, 3] rfl (hK5 x0 x1 x3 x4 h)
noncomputable def F_X25_has_5 : Nat → Int → Int → Int → Int → XH → Option XR
  | 0, _, _, _, _, _ => none
  | n + 1, x0, x1, x3, x4, h => if x4 ≤ x3 then (some (x3, h)) else (nm (α := Int) (w32 (x3 + (w32 ((w32 ((w32 (x4 - x3)) + 1)).tdiv 2)))) fun v1 => nw h 23 1 fun r2 h3 => pz r2 <| mb (F_X25_init_2 r2 x1 h3) fun r4 h5 => ob h5 r2 23 <| mb (F_X25_times r2 v1 h5) fun r6 h7 => ob h7 r6 23 <| mb (F_X25_compare r6 x0 h7) fun r8 h9 => if 0 < r8 then (nm (α := Int) (w32 (v1 - 1)) fun v10 => F_X25_has_55 (F_X25_has_5 n) x0 x1 x3 v10 h9) else (F_X25_has_55 (F_X25_has_5 n) x0 x1 v1 x4 h9))
theorem WF_X25_has_5 {d : Nat} {Z : XZ XR} (hdd : 3 ≤ d) : ∀ n x0 x1 x3 x4 h, XG xfh (xQ 0) RX25 "has" cX25_has 6 (some .int) d Z 5 [(0, (2, x0)), (1, (2, x1)), (3, (0, x3)), (4, (0, x4))] [] h (F_X25_has_5 n x0 x1 x3 x4 h) := by
  intro n
  induction n with
  | zero => intro x0 x1 x3 x4 h; exact x_none
  | succ n ih =>
    intro x0 x1 x3 x4 h
    rw [F_X25_has_5]
    refine x_iload_n 2 dX25_has_5 rfl rfl ?_
    refine x_iload 3 dX25_has_6 rfl ?_
    refine x_icmp_ge 58 dX25_has_8 (by decide) (fun _ => ?_) (fun _ => ?_)
    · refine x_iload_n 2 dX25_has_58 rfl rfl ?_
      exact x_iret rfl dX25_has_59
    · refine x_iload_n 2 dX25_has_11 rfl rfl ?_
      refine x_iload 3 dX25_has_12 rfl ?_
      refine x_iload_n 2 dX25_has_14 rfl rfl ?_
      refine x_isub dX25_has_15 ?_
      refine x_ic dX25_has_16 (by decide) (by decide) ?_
      refine x_iadd dX25_has_17 ?_
      refine x_ic dX25_has_18 (by decide) (by decide) ?_
      refine x_nz (b := 2) (by decide) (x_idiv dX25_has_19 ?_)
      refine x_iadd dX25_has_20 ?_
      refine x_nmT fun v1 => ?_
      refine x_istore (lv' := [(5, (0, v1)), (0, (2, x0)), (1, (2, x1)), (3, (0, x3)), (4, (0, x4))]) dX25_has_21 (by decide) rfl ?_
      refine xn_X25_8 dX25_has_23 fun r2 h3 => ?_
      refine x_dup dX25_has_26 rfl ?_
      refine x_aload_n 2 dX25_has_27 rfl rfl ?_
      refine cl_X25_27 (by omega) (Nat.le_of_ble_eq_true rfl) dX25_has_28 fun r4 h5 => ?_
      refine x_iload 0 dX25_has_31 rfl ?_
      refine cl_X25_30 (by omega) (Nat.le_of_ble_eq_true rfl) dX25_has_33 fun r6 h7 => ?_
      refine x_aload_n 1 dX25_has_36 rfl rfl ?_
      refine cl_X25_34 (by omega) (Nat.le_of_ble_eq_true rfl) dX25_has_37 fun r8 h9 => ?_
      refine x_if_gt 49 dX25_has_40 (by decide) (fun _ => ?_) (fun _ => ?_)
      · refine x_iload 0 dX25_has_49 rfl ?_
        refine x_ic dX25_has_51 (by decide) (by decide) ?_
        refine x_isub dX25_has_52 ?_
        refine x_nmT fun v10 => ?_
        refine x_istore (lv' := [(4, (0, v10)), (5, (0, v1)), (0, (2, x0)), (1, (2, x1)), (3, (0, x3))]) dX25_has_53 (by decide) rfl ?_
        exact x_sub [2, 3, 4, 0] rfl (WF_X25_has_55 hdd ih x0 x1 x3 v10 h9)
      · refine x_iload 0 dX25_has_43 rfl ?_
        refine x_istore_n (lv' := [(3, (0, v1)), (5, (0, v1)), (0, (2, x0)), (1, (2, x1)), (4, (0, x4))]) dX25_has_45 rfl (by decide) rfl ?_
        refine x_goto 55 dX25_has_46 (by decide) ?_
        exact x_sub [2, 3, 0, 4] rfl (WF_X25_has_55 hdd ih x0 x1 v1 x4 h9)
noncomputable def F_X25_has (x0 : Int) (x1 : Int) (x2 : Int) (h : XH) : Option XR := F_X25_has_5 FU x0 x1 0 x2 h
theorem WF_X25_has {d : Nat} {Z : XZ XR} (hdd : 3 ≤ d) : ∀ x0 x1 x2 h, XG xfh (xQ 0) RX25 "has" cX25_has 6 (some .int) d Z 0 [(0, (2, x0)), (1, (2, x1)), (2, (0, x2))] [] h (F_X25_has x0 x1 x2 h) := by
  intro x0 x1 x2 h
  unfold F_X25_has
  refine x_ic dX25_has_0 (by decide) (by decide) ?_
  refine x_istore_n (lv' := [(3, (0, 0)), (0, (2, x0)), (1, (2, x1)), (2, (0, x2))]) dX25_has_1 rfl (by decide) rfl ?_
  refine x_iload_n 3 dX25_has_2 rfl rfl ?_
  refine x_istore (lv' := [(4, (0, x2)), (3, (0, 0)), (0, (2, x0)), (1, (2, x1)), (2, (0, x2))]) dX25_has_3 (by decide) rfl ?_
  exact x_sub [2, 3, 1, 0] rfl (WF_X25_has_5 hdd FU x0 x1 0 x2 h)
theorem SF_X25_has (l : Launch) {d : Nat} (hdd : 3 ≤ d) (x0 : Int) (x1 : Int) (x2 : Int) (h : XH) (hok : okH h) (ho : okXs (xn h) [(2, x0), (2, x1), (0, x2)]) (fin : XR) (hf : F_X25_has x0 x1 x2 h = some fin) : xSpec l yX25_has cX25_has 6 (some .int) d 0 [(2, x0), (2, x1), (0, x2)] h fin := x_enter (lv := [(0, (2, x0)), (1, (2, x1)), (2, (0, x2))]) (by decide) rfl rfl (Nat.le_of_ble_eq_true rfl) rfl (fun Z _ => WF_X25_has hdd x0 x1 x2 h) hok ho fin hf
theorem cl_X0_397 {ρ : Type} {fh : ρ → XH} {QQ : XZ ρ → State → Prop} {mn : String} {cc : ByteArray} {nL : Nat} {ret : Option FieldType} {d : Nat} {Z : XZ ρ} {pc : Nat} {lv : List (Nat × AV)} {st : List AV} {h : XH} {g : Int → XH → Option ρ} {b a0 a1 : Int} (hdd : 6 ≤ d) (hcat : (st.map fun v => if v.1 = 1 then 2 else 1).sum ≤ 8) (hdg : decode cc pc = .ok (.invokevirtual 397, 3)) (kk : ∀ r h1, XG fh QQ RX0 mn cc nL ret d Z (pc + 3) lv ((0, r) :: st) h1 (g r h1)) : XG fh QQ RX0 mn cc nL ret d Z pc lv ((0, a1) :: (0, a0) :: (2, b) :: st) h (ob h b 1 (mb (F_X0_drawn b a0 a1 h) g)) :=
  x_callVi [(0, a0), (0, a1)] 2 (WF_X0_drawn (Z := (Z.1, Z.2.1, ((0, h), h))) (Nat.le_refl 5) b a0 a1 h).1 (fun hok ho fin hf => SF_X0_drawn (yL Z) (Nat.le_refl 5) b a0 a1 h hok ho fin hf) RX0 1 rfl (by decide) (lw_V q1542 q1502 q1503 q124 q1504) ⟨rfl, by decide +kernel, by decide +kernel, by decide +kernel⟩ rfl (by omega) (by decide) rfl hcat hdg kk
theorem cl_X0_401 {ρ : Type} {fh : ρ → XH} {QQ : XZ ρ → State → Prop} {mn : String} {cc : ByteArray} {nL : Nat} {ret : Option FieldType} {d : Nat} {Z : XZ ρ} {pc : Nat} {lv : List (Nat × AV)} {st : List AV} {h : XH} {g : Int → XH → Option ρ} {b a0 a1 : Int} (hdd : 4 ≤ d) (hcat : (st.map fun v => if v.1 = 1 then 2 else 1).sum ≤ 8) (hdg : decode cc pc = .ok (.invokevirtual 401, 3)) (kk : ∀ r h1, XG fh QQ RX0 mn cc nL ret d Z (pc + 3) lv ((0, r) :: st) h1 (g r h1)) : XG fh QQ RX0 mn cc nL ret d Z pc lv ((0, a1) :: (2, a0) :: (2, b) :: st) h (ob h b 23 (mb (F_X25_has b a0 a1 h) g)) :=
  x_callVi [(2, a0), (0, a1)] 2 (WF_X25_has (Z := (Z.1, Z.2.1, ((0, h), h))) (Nat.le_refl 3) b a0 a1 h).1 (fun hok ho fin hf => SF_X25_has (yL Z) (Nat.le_refl 3) b a0 a1 h hok ho fin hf) RX25 23 rfl (by decide) (lw_V q1543 q1544 q1545 q167 q1546) ⟨rfl, by decide +kernel, by decide +kernel, by decide +kernel⟩ rfl (by omega) (by decide) rfl hcat hdg kk
noncomputable def F_X0_seldomOf_63 (K30 : Int → Int → Int → Int → Int → XH → Option XR) (x2 : Int) (x3 : Int) (x4 : Int) (x5 : Int) (x6 : Int) (h : XH) : Option XR := nm (w32 (x6 + 1)) fun v1 => K30 x2 x3 x4 x5 v1 h
theorem WF_X0_seldomOf_63 {d : Nat} {Z : XZ XR} (hdd : 6 ≤ d) {K30 : Int → Int → Int → Int → Int → XH → Option XR} (hK30 : ∀ x2 x3 x4 x5 x6 h, XG xfh (xQ 0) RX0 "seldomOf" cX0_seldomOf 7 (some .int) d Z 30 [(2, (2, x2)), (3, (2, x3)), (4, (2, x4)), (5, (0, x5)), (6, (0, x6))] [] h (K30 x2 x3 x4 x5 x6 h)) : ∀ x2 x3 x4 x5 x6 h, XG xfh (xQ 0) RX0 "seldomOf" cX0_seldomOf 7 (some .int) d Z 63 [(2, (2, x2)), (3, (2, x3)), (4, (2, x4)), (5, (0, x5)), (6, (0, x6))] [] h (F_X0_seldomOf_63 K30 x2 x3 x4 x5 x6 h) := by
  intro x2 x3 x4 x5 x6 h
  unfold F_X0_seldomOf_63
  refine x_iinc 4 dX0_seldomOf_63 rfl (by decide) fun v1 => x_lv (lv' := [(6, (0, v1)), (2, (2, x2)), (3, (2, x3)), (4, (2, x4)), (5, (0, x5))]) rfl ?_
  refine x_goto 30 dX0_seldomOf_66 (by decide) ?_
  exact x_sub [1, 2, 3, 4, 0] rfl (hK30 x2 x3 x4 x5 v1 h)
noncomputable def F_X0_seldomOf_69 (x3 : Int) (x4 : Int) (h : XH) : Option XR := ob h x4 23 <| mb (F_X25_times x4 1000000 h) fun r1 h2 => ob h2 r1 23 <| mb (F_X25_has r1 x3 1000000 h2) fun r3 h4 => some (r3, h4)
theorem WF_X0_seldomOf_69 {d : Nat} {Z : XZ XR} (hdd : 6 ≤ d) : ∀ x3 x4 h, XG xfh (xQ 0) RX0 "seldomOf" cX0_seldomOf 7 (some .int) d Z 69 [(3, (2, x3)), (4, (2, x4))] [] h (F_X0_seldomOf_69 x3 x4 h) := by
  intro x3 x4 h
  unfold F_X0_seldomOf_69
  refine x_aload 1 dX0_seldomOf_69 rfl ?_
  refine x_ldcw (n := 1000000) q1537 dX0_seldomOf_71 (by decide +kernel) ⟨by decide, by decide⟩ ?_
  refine cl_X0_386 (by omega) (Nat.le_of_ble_eq_true rfl) dX0_seldomOf_74 fun r1 h2 => ?_
  refine x_aload_n 0 dX0_seldomOf_77 rfl rfl ?_
  refine x_ldcw (n := 1000000) q1537 dX0_seldomOf_78 (by decide +kernel) ⟨by decide, by decide⟩ ?_
  refine cl_X0_401 (by omega) (Nat.le_of_ble_eq_true rfl) dX0_seldomOf_81 fun r3 h4 => ?_
  exact x_iret rfl dX0_seldomOf_84
noncomputable def F_X0_seldomOf_30 : Nat → Int → Int → Int → Int → Int → XH → Option XR
  | 0, _, _, _, _, _, _ => none
  | n + 1, x2, x3, x4, x5, x6, h => al h x2 6 <| if (xl h x2 : Int) ≤ x6 then (F_X0_seldomOf_69 x3 x4 h) else (ai h x2 6 x6 <| ob h x3 23 <| mb (F_X25_plus x3 (xv h x2 x6) h) fun r1 h2 => if x5 < x6 then (F_X0_seldomOf_63 (F_X0_seldomOf_30 n) x2 x3 x4 x5 x6 h2) else (ai h2 x2 6 x6 <| ob h2 x4 23 <| mb (F_X25_plus x4 (xv h2 x2 x6) h2) fun r3 h4 => F_X0_seldomOf_63 (F_X0_seldomOf_30 n) x2 x3 x4 x5 x6 h4))
theorem WF_X0_seldomOf_30 {d : Nat} {Z : XZ XR} (hdd : 6 ≤ d) : ∀ n x2 x3 x4 x5 x6 h, XG xfh (xQ 0) RX0 "seldomOf" cX0_seldomOf 7 (some .int) d Z 30 [(2, (2, x2)), (3, (2, x3)), (4, (2, x4)), (5, (0, x5)), (6, (0, x6))] [] h (F_X0_seldomOf_30 n x2 x3 x4 x5 x6 h) := by
  intro n
  induction n with
  | zero => intro x2 x3 x4 x5 x6 h; exact x_none
  | succ n ih =>
    intro x2 x3 x4 x5 x6 h
    rw [F_X0_seldomOf_30]
    refine x_iload 4 dX0_seldomOf_30 rfl ?_
    refine x_aload_n 0 dX0_seldomOf_32 rfl rfl ?_
    refine x_alen 6 (by decide) dX0_seldomOf_33 ?_
    refine x_icmp_ge 69 dX0_seldomOf_34 (by decide) (fun _ => ?_) (fun _ => ?_)
    · exact x_sub [1, 2] rfl (WF_X0_seldomOf_69 hdd x3 x4 h)
    · refine x_aload_n 1 dX0_seldomOf_37 rfl rfl ?_
      refine x_aload_n 0 dX0_seldomOf_38 rfl rfl ?_
      refine x_iload 4 dX0_seldomOf_39 rfl ?_
      refine x_aald 6 _ (by decide) (by decide) rfl dX0_seldomOf_41 ?_
      refine cl_X0_393 (by omega) (Nat.le_of_ble_eq_true rfl) dX0_seldomOf_42 fun r1 h2 => ?_
      refine x_pop dX0_seldomOf_45 rfl ?_
      refine x_iload 4 dX0_seldomOf_46 rfl ?_
      refine x_iload 3 dX0_seldomOf_48 rfl ?_
      refine x_icmp_gt 63 dX0_seldomOf_50 (by decide) (fun _ => ?_) (fun _ => ?_)
      · exact x_sub [0, 1, 2, 3, 4] rfl (WF_X0_seldomOf_63 hdd ih x2 x3 x4 x5 x6 h2)
      · refine x_aload 2 dX0_seldomOf_53 rfl ?_
        refine x_aload_n 0 dX0_seldomOf_55 rfl rfl ?_
        refine x_iload 4 dX0_seldomOf_56 rfl ?_
        refine x_aald 6 _ (by decide) (by decide) rfl dX0_seldomOf_58 ?_
        refine cl_X0_393 (by omega) (Nat.le_of_ble_eq_true rfl) dX0_seldomOf_59 fun r3 h4 => ?_
        refine x_pop dX0_seldomOf_62 rfl ?_
        exact x_sub [0, 1, 2, 3, 4] rfl (WF_X0_seldomOf_63 hdd ih x2 x3 x4 x5 x6 h4)
noncomputable def F_X0_seldomOf (x0 : Int) (x1 : Int) (x2 : Int) (h : XH) : Option XR := nw h 23 1 fun r1 h2 => pz r1 <| mb (F_X25_init r1 0 h2) fun r3 h4 => nw h4 23 1 fun r5 h6 => pz r5 <| mb (F_X25_init r5 0 h6) fun r7 h8 => ob h8 x0 1 <| mb (F_X0_drawn x0 x1 0 h8) fun r9 h10 => F_X0_seldomOf_30 FU x2 r1 r5 r9 0 h10
theorem WF_X0_seldomOf {d : Nat} {Z : XZ XR} (hdd : 6 ≤ d) : ∀ x0 x1 x2 h, XG xfh (xQ 0) RX0 "seldomOf" cX0_seldomOf 7 (some .int) d Z 0 [(0, (2, x0)), (1, (0, x1)), (2, (2, x2))] [] h (F_X0_seldomOf x0 x1 x2 h) := by
  intro x0 x1 x2 h
  unfold F_X0_seldomOf
  refine xn_X0_382 dX0_seldomOf_0 fun r1 h2 => ?_
  refine x_dup dX0_seldomOf_3 rfl ?_
  refine x_ic dX0_seldomOf_4 (by decide) (by decide) ?_
  refine cl_X0_384 (by omega) (Nat.le_of_ble_eq_true rfl) dX0_seldomOf_5 fun r3 h4 => ?_
  refine x_astore_n (lv' := [(3, (2, r1)), (0, (2, x0)), (1, (0, x1)), (2, (2, x2))]) dX0_seldomOf_8 rfl (by decide) rfl ?_
  refine xn_X0_382 dX0_seldomOf_9 fun r5 h6 => ?_
  refine x_dup dX0_seldomOf_12 rfl ?_
  refine x_ic dX0_seldomOf_13 (by decide) (by decide) ?_
  refine cl_X0_384 (by omega) (Nat.le_of_ble_eq_true rfl) dX0_seldomOf_14 fun r7 h8 => ?_
  refine x_astore (lv' := [(4, (2, r5)), (3, (2, r1)), (0, (2, x0)), (1, (0, x1)), (2, (2, x2))]) dX0_seldomOf_17 (by decide) rfl ?_
  refine x_aload_n 2 dX0_seldomOf_19 rfl rfl ?_
  refine x_iload_n 3 dX0_seldomOf_20 rfl rfl ?_
  refine x_ic dX0_seldomOf_21 (by decide) (by decide) ?_
  refine cl_X0_397 (by omega) (Nat.le_of_ble_eq_true rfl) dX0_seldomOf_22 fun r9 h10 => ?_
  refine x_istore (lv' := [(5, (0, r9)), (4, (2, r5)), (3, (2, r1)), (0, (2, x0)), (1, (0, x1)), (2, (2, x2))]) dX0_seldomOf_25 (by decide) rfl ?_
  refine x_ic dX0_seldomOf_27 (by decide) (by decide) ?_
  refine x_istore (lv' := [(6, (0, 0)), (5, (0, r9)), (4, (2, r5)), (3, (2, r1)), (0, (2, x0)), (1, (0, x1)), (2, (2, x2))]) dX0_seldomOf_28 (by decide) rfl ?_
  exact x_sub [6, 3, 2, 1, 0] rfl (WF_X0_seldomOf_30 hdd FU x2 r1 r5 r9 0 h10)
theorem SF_X0_seldomOf (l : Launch) {d : Nat} (hdd : 6 ≤ d) (x0 : Int) (x1 : Int) (x2 : Int) (h : XH) (hok : okH h) (ho : okXs (xn h) [(2, x0), (0, x1), (2, x2)]) (fin : XR) (hf : F_X0_seldomOf x0 x1 x2 h = some fin) : xSpec l yX0_seldomOf cX0_seldomOf 7 (some .int) d 0 [(2, x0), (0, x1), (2, x2)] h fin := x_enter (lv := [(0, (2, x0)), (1, (0, x1)), (2, (2, x2))]) (by decide) rfl rfl (Nat.le_of_ble_eq_true rfl) rfl (fun Z _ => WF_X0_seldomOf hdd x0 x1 x2 h) hok ho fin hf
theorem cl_X0_405 {ρ : Type} {fh : ρ → XH} {QQ : XZ ρ → State → Prop} {mn : String} {cc : ByteArray} {nL : Nat} {ret : Option FieldType} {d : Nat} {Z : XZ ρ} {pc : Nat} {lv : List (Nat × AV)} {st : List AV} {h : XH} {g : Int → XH → Option ρ} {b : Int} (hdd : 4 ≤ d) (hcat : (st.map fun v => if v.1 = 1 then 2 else 1).sum ≤ 8) (hdg : decode cc pc = .ok (.invokevirtual 405, 3)) (kk : ∀ r h1, XG fh QQ RX0 mn cc nL ret d Z (pc + 3) lv ((2, r) :: st) h1 (g r h1)) : XG fh QQ RX0 mn cc nL ret d Z pc lv ((2, b) :: st) h (ob h b 1 (mb (F_X0_waysOf b h) g)) :=
  x_callVr [] 0 (WF_X0_waysOf (Z := (Z.1, Z.2.1, ((0, h), h))) (Nat.le_refl 3) b h).1 (fun hok ho fin hf => SF_X0_waysOf (yL Z) (Nat.le_refl 3) b h hok ho fin hf) RX0 1 rfl (by decide) (lw_V q1509 q1511 qs55 q124 q1512) ⟨rfl, by decide +kernel, by decide +kernel, by decide +kernel⟩ rfl (by omega) (by decide) rfl hcat hdg kk
theorem cl_X0_409 {ρ : Type} {fh : ρ → XH} {QQ : XZ ρ → State → Prop} {mn : String} {cc : ByteArray} {nL : Nat} {ret : Option FieldType} {d : Nat} {Z : XZ ρ} {pc : Nat} {lv : List (Nat × AV)} {st : List AV} {h : XH} {g : Int → XH → Option ρ} {b a0 a1 : Int} (hdd : 7 ≤ d) (hcat : (st.map fun v => if v.1 = 1 then 2 else 1).sum ≤ 8) (hdg : decode cc pc = .ok (.invokevirtual 409, 3)) (kk : ∀ r h1, XG fh QQ RX0 mn cc nL ret d Z (pc + 3) lv ((0, r) :: st) h1 (g r h1)) : XG fh QQ RX0 mn cc nL ret d Z pc lv ((2, a1) :: (0, a0) :: (2, b) :: st) h (ob h b 1 (mb (F_X0_seldomOf b a0 a1 h) g)) :=
  x_callVi [(0, a0), (2, a1)] 2 (WF_X0_seldomOf (Z := (Z.1, Z.2.1, ((0, h), h))) (Nat.le_refl 6) b a0 a1 h).1 (fun hok ho fin hf => SF_X0_seldomOf (yL Z) (Nat.le_refl 6) b a0 a1 h hok ho fin hf) RX0 1 rfl (by decide) (lw_V q1538 q1540 qs56 q124 q1541) ⟨rfl, by decide +kernel, by decide +kernel, by decide +kernel⟩ rfl (by omega) (by decide) rfl hcat hdg kk
noncomputable def F_X0_seldom_120 (x0 : Int) (x4 : Int) (h : XH) : Option XR := ob h x0 1 <| mb (F_X0_many x0 h) fun r1 h2 => nm (α := Int) (if (w64 (x4 * r1)) < (1000000 : Int) then (w64 (x4 * r1)) else (1000000 : Int)) fun v3 => some (w32 v3, h2)
theorem WF_X0_seldom_120 {d : Nat} {Z : XZ XR} (hdd : 7 ≤ d) : ∀ x0 x4 h, XG xfh (xQ 0) RX0 "seldom" cX0_seldom 6 (some .int) d Z 120 [(0, (2, x0)), (4, (0, x4))] [] h (F_X0_seldom_120 x0 x4 h) := by
  intro x0 x4 h
  unfold F_X0_seldom_120
  refine x_ldc2 (n := 1000000) q1557 dX0_seldom_120 (by decide +kernel) ⟨by decide, by decide⟩ ?_
  refine x_iload 1 dX0_seldom_123 rfl ?_
  refine x_i2l dX0_seldom_125 ?_
  refine x_aload_n 0 dX0_seldom_126 rfl rfl ?_
  refine cl_X0_13 (by omega) (Nat.le_of_ble_eq_true rfl) dX0_seldom_127 fun r1 h2 => ?_
  refine x_i2l dX0_seldom_130 ?_
  refine x_lmul dX0_seldom_131 ?_
  refine x_mminl q1558 q968 q132 q969 (by omega) (Nat.le_of_ble_eq_true rfl) dX0_seldom_132 ?_
  refine x_nmT fun v3 => ?_
  refine x_l2i dX0_seldom_135 ?_
  exact x_iret rfl dX0_seldom_136
noncomputable def F_X0_seldom_87 : Nat → Int → Int → Int → Int → Int → XH → Option XR
  | 0, _, _, _, _, _, _ => none
  | n + 1, x0, x2, x3, x4, x5, h => ob h x0 1 <| mb (F_X0_many x0 h) fun r1 h2 => if r1 ≤ x5 then (F_X0_seldom_120 x0 x4 h2) else (if x2 = 0 then (ob h2 x0 1 <| mb (F_X0_seldomOf x0 x5 x3 h2) fun r3 h4 => nm (α := Int) (if r3 < x4 then r3 else x4) fun v5 => nm (w32 (x5 + 1)) fun v6 => F_X0_seldom_87 n x0 x2 x3 v5 v6 h4) else (F_X0_seldom_120 x0 x4 h2))
theorem WF_X0_seldom_87 {d : Nat} {Z : XZ XR} (hdd : 7 ≤ d) : ∀ n x0 x2 x3 x4 x5 h, XG xfh (xQ 0) RX0 "seldom" cX0_seldom 6 (some .int) d Z 87 [(0, (2, x0)), (2, (0, x2)), (3, (2, x3)), (4, (0, x4)), (5, (0, x5))] [] h (F_X0_seldom_87 n x0 x2 x3 x4 x5 h) := by
  intro n
  induction n with
  | zero => intro x0 x2 x3 x4 x5 h; exact x_none
  | succ n ih =>
    intro x0 x2 x3 x4 x5 h
    rw [F_X0_seldom_87]
    refine x_iload 4 dX0_seldom_87 rfl ?_
    refine x_aload_n 0 dX0_seldom_89 rfl rfl ?_
    refine cl_X0_13 (by omega) (Nat.le_of_ble_eq_true rfl) dX0_seldom_90 fun r1 h2 => ?_
    refine x_icmp_ge 120 dX0_seldom_93 (by decide) (fun _ => ?_) (fun _ => ?_)
    · exact x_sub [0, 3] rfl (WF_X0_seldom_120 hdd x0 x4 h2)
    · refine x_iload_n 1 dX0_seldom_96 rfl rfl ?_
      refine x_if_ne 120 dX0_seldom_97 (by decide) (fun _ => ?_) (fun _ => ?_)
      · exact x_sub [0, 3] rfl (WF_X0_seldom_120 hdd x0 x4 h2)
      · refine x_iload 3 dX0_seldom_100 rfl ?_
        refine x_aload_n 0 dX0_seldom_102 rfl rfl ?_
        refine x_iload 4 dX0_seldom_103 rfl ?_
        refine x_aload_n 2 dX0_seldom_105 rfl rfl ?_
        refine cl_X0_409 (by omega) (Nat.le_of_ble_eq_true rfl) dX0_seldom_106 fun r3 h4 => ?_
        refine x_mmin q363 q364 q132 q365 (by omega) (Nat.le_of_ble_eq_true rfl) dX0_seldom_109 ?_
        refine x_nmT fun v5 => ?_
        refine x_istore (lv' := [(4, (0, v5)), (0, (2, x0)), (2, (0, x2)), (3, (2, x3)), (5, (0, x5))]) dX0_seldom_112 (by decide) rfl ?_
        refine x_iinc 4 dX0_seldom_114 rfl (by decide) fun v6 => x_lv (lv' := [(5, (0, v6)), (4, (0, v5)), (0, (2, x0)), (2, (0, x2)), (3, (2, x3))]) rfl ?_
        refine x_goto 87 dX0_seldom_117 (by decide) ?_
        exact x_sub [2, 3, 4, 1, 0] rfl (ih x0 x2 x3 v5 v6 h4)
noncomputable def F_X0_seldom_56 (s0 : Int) (x0 : Int) (x1 : Int) (x2 : Int) (h : XH) : Option XR := if x1 = (-1) then (F_X0_seldom_87 FU x0 x2 s0 1000000 0 h) else (if x2 = 0 then (ob h x0 1 <| mb (F_X0_seldomOf x0 x1 s0 h) fun r1 h2 => some (r1, h2)) else (some (1000000, h)))
theorem WF_X0_seldom_56 {d : Nat} {Z : XZ XR} (hdd : 7 ≤ d) : ∀ s0 x0 x1 x2 h, XG xfh (xQ 0) RX0 "seldom" cX0_seldom 6 (some .int) d Z 56 [(0, (2, x0)), (1, (0, x1)), (2, (0, x2))] [(2, s0)] h (F_X0_seldom_56 s0 x0 x1 x2 h) := by
  intro s0 x0 x1 x2 h
  unfold F_X0_seldom_56
  refine x_astore_n (lv' := [(3, (2, s0)), (0, (2, x0)), (1, (0, x1)), (2, (0, x2))]) dX0_seldom_56 rfl (by decide) rfl ?_
  refine x_iload_n 2 dX0_seldom_57 rfl rfl ?_
  refine x_ic dX0_seldom_58 (by decide) (by decide) ?_
  refine x_icmp_eq 79 dX0_seldom_59 (by decide) (fun _ => ?_) (fun _ => ?_)
  · refine x_ldcw (n := 1000000) q1537 dX0_seldom_79 (by decide +kernel) ⟨by decide, by decide⟩ ?_
    refine x_istore (lv' := [(4, (0, 1000000)), (3, (2, s0)), (0, (2, x0)), (1, (0, x1)), (2, (0, x2))]) dX0_seldom_82 (by decide) rfl ?_
    refine x_ic dX0_seldom_84 (by decide) (by decide) ?_
    refine x_istore (lv' := [(5, (0, 0)), (4, (0, 1000000)), (3, (2, s0)), (0, (2, x0)), (1, (0, x1)), (2, (0, x2))]) dX0_seldom_85 (by decide) rfl ?_
    exact x_sub [3, 5, 2, 1, 0] rfl (WF_X0_seldom_87 hdd FU x0 x2 s0 1000000 0 h)
  · refine x_iload_n 3 dX0_seldom_62 rfl rfl ?_
    refine x_if_eq 72 dX0_seldom_63 (by decide) (fun _ => ?_) (fun _ => ?_)
    · refine x_aload_n 1 dX0_seldom_72 rfl rfl ?_
      refine x_iload_n 2 dX0_seldom_73 rfl rfl ?_
      refine x_aload_n 0 dX0_seldom_74 rfl rfl ?_
      refine cl_X0_409 (by omega) (Nat.le_of_ble_eq_true rfl) dX0_seldom_75 fun r1 h2 => ?_
      exact x_iret rfl dX0_seldom_78
    · refine x_ldcw (n := 1000000) q1537 dX0_seldom_66 (by decide +kernel) ⟨by decide, by decide⟩ ?_
      refine x_goto 78 dX0_seldom_69 (by decide) ?_
      exact x_iret rfl dX0_seldom_78
noncomputable def F_X0_seldom_13 (x0 : Int) (x1 : Int) (h : XH) : Option XR := ob h x0 1 <| mb (F_X0_many x0 h) fun r1 h2 => if r1 = 0 then (some ((-1), h2)) else (ob h2 x0 1 <| ob h2 (xv h2 x0 0) 2 <| ai h2 (xv h2 (xv h2 x0 0) 3) 0 0 <| ob h2 x0 1 <| mb (F_X0_many x0 h2) fun r3 h4 => nm (α := Int) (if xv h2 (xv h2 (xv h2 x0 0) 3) 0 < r3 then 0 else 1) fun v5 => if v5 = 0 then (ob h4 x0 1 <| mb (F_X0_waysOf x0 h4) fun r6 h7 => F_X0_seldom_56 r6 x0 x1 v5 h7) else (F_X0_seldom_56 0 x0 x1 v5 h4))
theorem WF_X0_seldom_13 {d : Nat} {Z : XZ XR} (hdd : 7 ≤ d) : ∀ x0 x1 h, XG xfh (xQ 0) RX0 "seldom" cX0_seldom 6 (some .int) d Z 13 [(0, (2, x0)), (1, (0, x1))] [] h (F_X0_seldom_13 x0 x1 h) := by
  intro x0 x1 h
  unfold F_X0_seldom_13
  refine x_aload_n 0 dX0_seldom_13 rfl rfl ?_
  refine cl_X0_13 (by omega) (Nat.le_of_ble_eq_true rfl) dX0_seldom_14 fun r1 h2 => ?_
  refine x_if_ne 22 dX0_seldom_17 (by decide) (fun _ => ?_) (fun _ => ?_)
  · refine x_aload_n 0 dX0_seldom_22 rfl rfl ?_
    refine xg_X0_17 dX0_seldom_23 ?_
    refine xg_X0_174 dX0_seldom_26 ?_
    refine x_ic dX0_seldom_29 (by decide) (by decide) ?_
    refine x_iald dX0_seldom_30 ?_
    refine x_aload_n 0 dX0_seldom_31 rfl rfl ?_
    refine cl_X0_13 (by omega) (Nat.le_of_ble_eq_true rfl) dX0_seldom_32 fun r3 h4 => ?_
    refine x_join 43 (fun v5 => [(0, v5)]) (fun v5 => ?_) (fun hJ => ?_)
    · refine x_istore_n (lv' := [(2, (0, v5)), (0, (2, x0)), (1, (0, x1))]) dX0_seldom_43 rfl (by decide) rfl ?_
      refine x_iload_n 0 dX0_seldom_44 rfl rfl ?_
      refine x_if_eq 52 dX0_seldom_45 (by decide) (fun _ => ?_) (fun _ => ?_)
      · refine x_aload_n 1 dX0_seldom_52 rfl rfl ?_
        refine cl_X0_405 (by omega) (Nat.le_of_ble_eq_true rfl) dX0_seldom_53 fun r6 h7 => ?_
        exact x_sub [1, 2, 0] rfl (WF_X0_seldom_56 hdd r6 x0 x1 v5 h7)
      · refine x_null dX0_seldom_48 ?_
        refine x_goto 56 dX0_seldom_49 (by decide) ?_
        exact x_sub [1, 2, 0] rfl (WF_X0_seldom_56 hdd 0 x0 x1 v5 h4)
    · refine x_icmp_ltF 42 dX0_seldom_35 (by decide) (fun _ => ?_) (fun _ => ?_)
      · refine x_ic dX0_seldom_42 (by decide) (by decide) ?_
        exact hJ _
      · refine x_ic dX0_seldom_38 (by decide) (by decide) ?_
        refine x_goto 43 dX0_seldom_39 (by decide) ?_
        exact hJ _
  · refine x_ic dX0_seldom_20 (by decide) (by decide) ?_
    exact x_iret rfl dX0_seldom_21
noncomputable def F_X0_seldom (x0 : Int) (x1 : Int) (h : XH) : Option XR := if x1 = (-1) then (F_X0_seldom_13 x0 x1 h) else (ob h x0 1 <| mb (F_X0_questionOf x0 x1 h) fun r1 h2 => if r1 = 0 then (some ((-1), h2)) else (F_X0_seldom_13 x0 x1 h2))
theorem WF_X0_seldom {d : Nat} {Z : XZ XR} (hdd : 7 ≤ d) : ∀ x0 x1 h, XG xfh (xQ 0) RX0 "seldom" cX0_seldom 6 (some .int) d Z 0 [(0, (2, x0)), (1, (0, x1))] [] h (F_X0_seldom x0 x1 h) := by
  intro x0 x1 h
  unfold F_X0_seldom
  refine x_iload_n 1 dX0_seldom_0 rfl rfl ?_
  refine x_ic dX0_seldom_1 (by decide) (by decide) ?_
  refine x_icmp_eq 13 dX0_seldom_2 (by decide) (fun _ => ?_) (fun _ => ?_)
  · exact x_sub [0, 1] rfl (WF_X0_seldom_13 hdd x0 x1 h)
  · refine x_aload_n 0 dX0_seldom_5 rfl rfl ?_
    refine x_iload_n 1 dX0_seldom_6 rfl rfl ?_
    refine cl_X0_147 (by omega) (Nat.le_of_ble_eq_true rfl) dX0_seldom_7 fun r1 h2 => ?_
    refine x_ifnull 20 dX0_seldom_10 (by decide) (fun _ => ?_) (fun _ => ?_)
    · refine x_ic dX0_seldom_20 (by decide) (by decide) ?_
      exact x_iret rfl dX0_seldom_21
    · exact x_sub [0, 1] rfl (WF_X0_seldom_13 hdd x0 x1 h2)
theorem SF_X0_seldom (l : Launch) {d : Nat} (hdd : 7 ≤ d) (x0 : Int) (x1 : Int) (h : XH) (hok : okH h) (ho : okXs (xn h) [(2, x0), (0, x1)]) (fin : XR) (hf : F_X0_seldom x0 x1 h = some fin) : xSpec l yX0_seldom cX0_seldom 6 (some .int) d 0 [(2, x0), (0, x1)] h fin := x_enter (lv := [(0, (2, x0)), (1, (0, x1))]) (by decide) rfl rfl (Nat.le_of_ble_eq_true rfl) rfl (fun Z _ => WF_X0_seldom hdd x0 x1 h) hok ho fin hf
noncomputable def F_X0_pick_21 (x2 : Int) (h : XH) : Option XR := some (iand x2 (w32 (-x2)), h)
theorem WF_X0_pick_21 {d : Nat} {Z : XZ XR} (hdd : 1 ≤ d) : ∀ x2 h, XG xfh (xQ 0) RX0 "pick" cX0_pick 4 (some .int) d Z 21 [(2, (0, x2))] [] h (F_X0_pick_21 x2 h) := by
  intro x2 h
  unfold F_X0_pick_21
  refine x_iload_n 0 dX0_pick_21 rfl rfl ?_
  refine x_iload_n 0 dX0_pick_22 rfl rfl ?_
  refine x_ineg dX0_pick_23 ?_
  refine x_iand dX0_pick_24 ?_
  exact x_iret rfl dX0_pick_25
noncomputable def F_X0_pick_4 : Nat → Int → Int → Int → XH → Option XR
  | 0, _, _, _, _ => none
  | n + 1, x1, x2, x3, h => if x1 ≤ x3 then (F_X0_pick_21 x2 h) else (nm (α := Int) (iand x2 (w32 (x2 - 1))) fun v1 => nm (w32 (x3 + 1)) fun v2 => F_X0_pick_4 n x1 v1 v2 h)
theorem WF_X0_pick_4 {d : Nat} {Z : XZ XR} (hdd : 1 ≤ d) : ∀ n x1 x2 x3 h, XG xfh (xQ 0) RX0 "pick" cX0_pick 4 (some .int) d Z 4 [(1, (0, x1)), (2, (0, x2)), (3, (0, x3))] [] h (F_X0_pick_4 n x1 x2 x3 h) := by
  intro n
  induction n with
  | zero => intro x1 x2 x3 h; exact x_none
  | succ n ih =>
    intro x1 x2 x3 h
    rw [F_X0_pick_4]
    refine x_iload_n 2 dX0_pick_4 rfl rfl ?_
    refine x_iload_n 0 dX0_pick_5 rfl rfl ?_
    refine x_icmp_ge 21 dX0_pick_6 (by decide) (fun _ => ?_) (fun _ => ?_)
    · exact x_sub [1] rfl (WF_X0_pick_21 hdd x2 h)
    · refine x_iload_n 1 dX0_pick_9 rfl rfl ?_
      refine x_iload_n 1 dX0_pick_10 rfl rfl ?_
      refine x_ic dX0_pick_11 (by decide) (by decide) ?_
      refine x_isub dX0_pick_12 ?_
      refine x_iand dX0_pick_13 ?_
      refine x_nmT fun v1 => ?_
      refine x_istore_n (lv' := [(2, (0, v1)), (1, (0, x1)), (3, (0, x3))]) dX0_pick_14 rfl (by decide) rfl ?_
      refine x_iinc 2 dX0_pick_15 rfl (by decide) fun v2 => x_lv (lv' := [(3, (0, v2)), (2, (0, v1)), (1, (0, x1))]) rfl ?_
      refine x_goto 4 dX0_pick_18 (by decide) ?_
      exact x_sub [2, 1, 0] rfl (ih x1 v1 v2 h)
noncomputable def F_X0_pick (x0 : Int) (x1 : Int) (h : XH) : Option XR := F_X0_pick_4 FU x1 x0 0 h
theorem WF_X0_pick {d : Nat} {Z : XZ XR} (hdd : 1 ≤ d) : ∀ x0 x1 h, XG xfh (xQ 0) RX0 "pick" cX0_pick 4 (some .int) d Z 0 [(0, (0, x0)), (1, (0, x1))] [] h (F_X0_pick x0 x1 h) := by
  intro x0 x1 h
  unfold F_X0_pick
  refine x_iload_n 0 dX0_pick_0 rfl rfl ?_
  refine x_istore_n (lv' := [(2, (0, x0)), (0, (0, x0)), (1, (0, x1))]) dX0_pick_1 rfl (by decide) rfl ?_
  refine x_ic dX0_pick_2 (by decide) (by decide) ?_
  refine x_istore_n (lv' := [(3, (0, 0)), (2, (0, x0)), (0, (0, x0)), (1, (0, x1))]) dX0_pick_3 rfl (by decide) rfl ?_
  exact x_sub [3, 1, 0] rfl (WF_X0_pick_4 hdd FU x1 x0 0 h)
theorem SF_X0_pick (l : Launch) {d : Nat} (hdd : 1 ≤ d) (x0 : Int) (x1 : Int) (h : XH) (hok : okH h) (ho : okXs (xn h) [(0, x0), (0, x1)]) (fin : XR) (hf : F_X0_pick x0 x1 h = some fin) : xSpec l yX0_pick cX0_pick 4 (some .int) d 0 [(0, x0), (0, x1)] h fin := x_enter (lv := [(0, (0, x0)), (1, (0, x1))]) (by decide) rfl rfl (Nat.le_of_ble_eq_true rfl) rfl (fun Z _ => WF_X0_pick hdd x0 x1 h) hok ho fin hf
theorem xg_X26_7 {ρ : Type} {fh : ρ → XH} {QQ : XZ ρ → State → Prop} {mn : String} {cc : ByteArray} {nL : Nat} {ret : Option FieldType} {d : Nat} {Z : XZ ρ} {pc : Nat} {lv : List (Nat × AV)} {st : List AV} {h : XH} {res : Option ρ} {a : Int} (hd : decode cc pc = .ok (.getfield 7, 3)) (kk : XG fh QQ RX26 mn cc nL ret d Z (pc + 3) lv ((1, xv h a 0) :: st) h res) : XG fh QQ RX26 mn cc nL ret d Z pc lv ((2, a) :: st) h (ob h a 24 res) := x_get (C := RX26) (ref := RX26) 24 0 rfl in_X26 (by decide) rfl (by decide) (Or.inl rfl) q1569 hd kk
theorem xp_X26_7 {ρ : Type} {fh : ρ → XH} {QQ : XZ ρ → State → Prop} {mn : String} {cc : ByteArray} {nL : Nat} {ret : Option FieldType} {d : Nat} {Z : XZ ρ} {pc : Nat} {lv : List (Nat × AV)} {st : List AV} {h : XH} {f : XH → Option ρ} {a x : Int} (hd : decode cc pc = .ok (.putfield 7, 3)) (kk : ∀ h1, XG fh QQ RX26 mn cc nL ret d Z (pc + 3) lv st h1 (f h1)) : XG fh QQ RX26 mn cc nL ret d Z pc lv ((1, x) :: (2, a) :: st) h (ob h a 24 (nm (hset h a 0 x) f)) := x_put (C := RX26) (ref := RX26) 24 0 rfl in_X26 tyX26_ok nmX26 (by decide) rfl (by decide) (Or.inl rfl) (by decide) (xfit_X26 0 (by decide)) 1 rfl q1569 hd kk
noncomputable def F_X26_of (x0 : Int) (x1 : Int) (h : XH) : Option XR := ob h x0 24 <| ob h x0 24 <| nm (hset h x0 0 ((w64 ((w64 ((xv h x0 0) * 1103)) + 12345)).tmod 1000003)) fun h1 => ob h1 x0 24 <| cz x1 <| some (w32 ((xv h1 x0 0).tmod x1), h1)
theorem WF_X26_of {d : Nat} {Z : XZ XR} (hdd : 1 ≤ d) : ∀ x0 x1 h, XG xfh (xQ 0) RX26 "of" cX26_of 2 (some .int) d Z 0 [(0, (2, x0)), (1, (0, x1))] [] h (F_X26_of x0 x1 h) := by
  intro x0 x1 h
  unfold F_X26_of
  refine x_aload_n 0 dX26_of_0 rfl rfl ?_
  refine x_aload_n 0 dX26_of_1 rfl rfl ?_
  refine xg_X26_7 dX26_of_2 ?_
  refine x_ldc2 (n := 1103) q1599 dX26_of_5 (by decide +kernel) ⟨by decide, by decide⟩ ?_
  refine x_lmul dX26_of_8 ?_
  refine x_ldc2 (n := 12345) q1600 dX26_of_9 (by decide +kernel) ⟨by decide, by decide⟩ ?_
  refine x_ladd dX26_of_12 ?_
  refine x_ldc2 (n := 1000003) q1601 dX26_of_13 (by decide +kernel) ⟨by decide, by decide⟩ ?_
  refine x_nz (b := 1000003) (by decide) (x_lrem dX26_of_16 ?_)
  refine xp_X26_7 dX26_of_17 fun h1 => ?_
  refine x_aload_n 0 dX26_of_20 rfl rfl ?_
  refine xg_X26_7 dX26_of_21 ?_
  refine x_iload_n 1 dX26_of_24 rfl rfl ?_
  refine x_i2l dX26_of_25 ?_
  refine x_lrem dX26_of_26 ?_
  refine x_l2i dX26_of_27 ?_
  exact x_iret rfl dX26_of_28
theorem SF_X26_of (l : Launch) {d : Nat} (hdd : 1 ≤ d) (x0 : Int) (x1 : Int) (h : XH) (hok : okH h) (ho : okXs (xn h) [(2, x0), (0, x1)]) (fin : XR) (hf : F_X26_of x0 x1 h = some fin) : xSpec l yX26_of cX26_of 2 (some .int) d 0 [(2, x0), (0, x1)] h fin := x_enter (lv := [(0, (2, x0)), (1, (0, x1))]) (by decide) rfl rfl (Nat.le_of_ble_eq_true rfl) rfl (fun Z _ => WF_X26_of hdd x0 x1 h) hok ho fin hf
noncomputable def F_X27_init (x0 : Int) (h : XH) : Option XR := pz x0 <| some (0, h)
theorem WF_X27_init {d : Nat} {Z : XZ XR} (hdd : 1 ≤ d) : ∀ x0 h, XG xfh (xQ 2) RX27 "<init>" cX27_init 1 none d Z 0 [(0, (2, x0))] [] h (F_X27_init x0 h) := by
  intro x0 h
  unfold F_X27_init
  refine x_aload_n 0 dX27_init_0 rfl rfl ?_
  refine x_objinit q1582 q176 q177 (by omega) (Nat.le_of_ble_eq_true rfl) dX27_init_1 ?_
  exact x_vret rfl dX27_init_4
theorem SF_X27_init (l : Launch) {d : Nat} (hdd : 1 ≤ d) (x0 : Int) (h : XH) (hok : okH h) (ho : okXs (xn h) [(2, x0)]) (fin : XR) (hf : F_X27_init x0 h = some fin) : xSpec l yX27_init cX27_init 1 none d 2 [(2, x0)] h fin := x_enter (lv := [(0, (2, x0))]) (by decide) rfl rfl (Nat.le_of_ble_eq_true rfl) rfl (fun Z _ => WF_X27_init hdd x0 h) hok ho fin hf
noncomputable def F_X0_chanceOf (x0 : Int) (x1 : Int) (h : XH) : Option XR := ob h x0 1 <| ob h (xv h x0 0) 2 <| ob h (xv h (xv h x0 0) 0) 26 <| mb (F_J2_get (xv h (xv h x0 0) 0) x1 h) fun r1 h2 => ob h2 r1 5 <| ob h2 r1 5 <| ob h2 x0 1 <| mb (F_X0_chance x0 (xv h2 r1 3) h2) fun r3 h4 => some (r3, h4)
theorem WF_X0_chanceOf {d : Nat} {Z : XZ XR} (hdd : 127 ≤ d) : ∀ x0 x1 h, XG xfh (xQ 0) RX0 "chanceOf" cX0_chanceOf 2 (some .int) d Z 0 [(0, (2, x0)), (1, (0, x1))] [] h (F_X0_chanceOf x0 x1 h) := by
  intro x0 x1 h
  unfold F_X0_chanceOf
  refine x_aload_n 0 dX0_chanceOf_0 rfl rfl ?_
  refine x_aload_n 0 dX0_chanceOf_1 rfl rfl ?_
  refine xg_X0_17 dX0_chanceOf_2 ?_
  refine xg_X0_21 dX0_chanceOf_5 ?_
  refine x_iload_n 1 dX0_chanceOf_8 rfl rfl ?_
  refine cl_X0_27 (by omega) (Nat.le_of_ble_eq_true rfl) dX0_chanceOf_9 fun r1 h2 => ?_
  refine x_cast (C := RX5) 5 rfl (by decide) q374 dX0_chanceOf_12 ?_
  refine xg_X0_39 dX0_chanceOf_15 ?_
  refine cl_X0_3 (by omega) (Nat.le_of_ble_eq_true rfl) dX0_chanceOf_18 fun r3 h4 => ?_
  exact x_iret rfl dX0_chanceOf_21
theorem SF_X0_chanceOf (l : Launch) {d : Nat} (hdd : 127 ≤ d) (x0 : Int) (x1 : Int) (h : XH) (hok : okH h) (ho : okXs (xn h) [(2, x0), (0, x1)]) (fin : XR) (hf : F_X0_chanceOf x0 x1 h = some fin) : xSpec l yX0_chanceOf cX0_chanceOf 2 (some .int) d 0 [(2, x0), (0, x1)] h fin := x_enter (lv := [(0, (2, x0)), (1, (0, x1))]) (by decide) rfl rfl (Nat.le_of_ble_eq_true rfl) rfl (fun Z _ => WF_X0_chanceOf hdd x0 x1 h) hok ho fin hf
theorem cl_X0_420 {ρ : Type} {fh : ρ → XH} {QQ : XZ ρ → State → Prop} {mn : String} {cc : ByteArray} {nL : Nat} {ret : Option FieldType} {d : Nat} {Z : XZ ρ} {pc : Nat} {lv : List (Nat × AV)} {st : List AV} {h : XH} {g : Int → XH → Option ρ} {b : Int} (hdd : 2 ≤ d) (hcat : (st.map fun v => if v.1 = 1 then 2 else 1).sum ≤ 8) (hdg : decode cc pc = .ok (.invokespecial 420, 3)) (kk : ∀ r h1, XG fh QQ RX0 mn cc nL ret d Z (pc + 3) lv st h1 (g r h1)) : XG fh QQ RX0 mn cc nL ret d Z pc lv ((2, b) :: st) h (pz b (mb (F_X27_init b h) g)) :=
  x_callJv [] 0 (WF_X27_init (Z := (Z.1, Z.2.1, ((0, h), h))) (Nat.le_refl 1) b h).1 (fun hok ho fin hf => SF_X27_init (yL Z) (Nat.le_refl 1) b h hok ho fin hf) (lw_meth q1581) q169 q1579 q1580 rfl ⟨by decide +kernel, by decide +kernel, by decide +kernel⟩ rfl (by omega) (by decide) rfl hcat hdg kk
theorem cl_X0_421 {ρ : Type} {fh : ρ → XH} {QQ : XZ ρ → State → Prop} {mn : String} {cc : ByteArray} {nL : Nat} {ret : Option FieldType} {d : Nat} {Z : XZ ρ} {pc : Nat} {lv : List (Nat × AV)} {st : List AV} {h : XH} {g : Int → XH → Option ρ} {a0 : Int} (hdd : 2 ≤ d) (hcat : (st.map fun v => if v.1 = 1 then 2 else 1).sum ≤ 8) (hdg : decode cc pc = .ok (.invokestatic 421, 3)) (kk : ∀ r h1, XG fh QQ RX0 mn cc nL ret d Z (pc + 3) lv ((0, r) :: st) h1 (g r h1)) : XG fh QQ RX0 mn cc nL ret d Z pc lv ((0, a0) :: st) h (mb (F_J13_bitCount a0 h) g) :=
  x_callSi [(0, a0)] 1 (WF_J13_bitCount (Z := (Z.1, Z.2.1, ((0, h), h))) (Nat.le_refl 1) a0 h).1 (fun hok ho fin hf => SF_J13_bitCount (yL Z) (Nat.le_refl 1) a0 h hok ho fin hf) (lw_S q1594 q1417 q163 q1418) ⟨by decide +kernel, by decide +kernel, by decide +kernel⟩ rfl (by omega) (by decide) rfl hcat hdg kk
theorem cl_X0_429 {ρ : Type} {fh : ρ → XH} {QQ : XZ ρ → State → Prop} {mn : String} {cc : ByteArray} {nL : Nat} {ret : Option FieldType} {d : Nat} {Z : XZ ρ} {pc : Nat} {lv : List (Nat × AV)} {st : List AV} {h : XH} {g : Int → XH → Option ρ} {b a0 : Int} (hdd : 2 ≤ d) (hcat : (st.map fun v => if v.1 = 1 then 2 else 1).sum ≤ 8) (hdg : decode cc pc = .ok (.invokevirtual 429, 3)) (kk : ∀ r h1, XG fh QQ RX0 mn cc nL ret d Z (pc + 3) lv ((0, r) :: st) h1 (g r h1)) : XG fh QQ RX0 mn cc nL ret d Z pc lv ((0, a0) :: (2, b) :: st) h (ob h b 24 (mb (F_X26_of b a0 h) g)) :=
  x_callVi [(0, a0)] 1 (WF_X26_of (Z := (Z.1, Z.2.1, ((0, h), h))) (Nat.le_refl 1) b a0 h).1 (fun hok ho fin hf => SF_X26_of (yL Z) (Nat.le_refl 1) b a0 h hok ho fin hf) RX26 24 rfl (by decide) (lw_V q1595 q1596 q1597 q168 q1598) ⟨rfl, by decide +kernel, by decide +kernel, by decide +kernel⟩ rfl (by omega) (by decide) rfl hcat hdg kk
theorem cl_X0_433 {ρ : Type} {fh : ρ → XH} {QQ : XZ ρ → State → Prop} {mn : String} {cc : ByteArray} {nL : Nat} {ret : Option FieldType} {d : Nat} {Z : XZ ρ} {pc : Nat} {lv : List (Nat × AV)} {st : List AV} {h : XH} {g : Int → XH → Option ρ} {a0 a1 : Int} (hdd : 2 ≤ d) (hcat : (st.map fun v => if v.1 = 1 then 2 else 1).sum ≤ 8) (hdg : decode cc pc = .ok (.invokestatic 433, 3)) (kk : ∀ r h1, XG fh QQ RX0 mn cc nL ret d Z (pc + 3) lv ((0, r) :: st) h1 (g r h1)) : XG fh QQ RX0 mn cc nL ret d Z pc lv ((0, a1) :: (0, a0) :: st) h (mb (F_X0_pick a0 a1 h) g) :=
  x_callSi [(0, a0), (0, a1)] 2 (WF_X0_pick (Z := (Z.1, Z.2.1, ((0, h), h))) (Nat.le_refl 1) a0 a1 h).1 (fun hok ho fin hf => SF_X0_pick (yL Z) (Nat.le_refl 1) a0 a1 h hok ho fin hf) (lw_S q1602 q1603 q124 q1604) ⟨by decide +kernel, by decide +kernel, by decide +kernel⟩ rfl (by omega) (by decide) rfl hcat hdg kk
theorem cl_X0_439 {ρ : Type} {fh : ρ → XH} {QQ : XZ ρ → State → Prop} {mn : String} {cc : ByteArray} {nL : Nat} {ret : Option FieldType} {d : Nat} {Z : XZ ρ} {pc : Nat} {lv : List (Nat × AV)} {st : List AV} {h : XH} {g : Int → XH → Option ρ} {b a0 : Int} (hdd : 128 ≤ d) (hcat : (st.map fun v => if v.1 = 1 then 2 else 1).sum ≤ 8) (hdg : decode cc pc = .ok (.invokevirtual 439, 3)) (kk : ∀ r h1, XG fh QQ RX0 mn cc nL ret d Z (pc + 3) lv ((0, r) :: st) h1 (g r h1)) : XG fh QQ RX0 mn cc nL ret d Z pc lv ((0, a0) :: (2, b) :: st) h (ob h b 1 (mb (F_X0_chanceOf b a0 h) g)) :=
  x_callVi [(0, a0)] 1 (WF_X0_chanceOf (Z := (Z.1, Z.2.1, ((0, h), h))) (Nat.le_refl 127) b a0 h).1 (fun hok ho fin hf => SF_X0_chanceOf (yL Z) (Nat.le_refl 127) b a0 h hok ho fin hf) RX0 1 rfl (by decide) (lw_V q1605 q1607 qs58 q124 q1608) ⟨rfl, by decide +kernel, by decide +kernel, by decide +kernel⟩ rfl (by omega) (by decide) rfl hcat hdg kk
theorem xg_X0_426 {ρ : Type} {fh : ρ → XH} {QQ : XZ ρ → State → Prop} {mn : String} {cc : ByteArray} {nL : Nat} {ret : Option FieldType} {d : Nat} {Z : XZ ρ} {pc : Nat} {lv : List (Nat × AV)} {st : List AV} {h : XH} {res : Option ρ} {a : Int} (hd : decode cc pc = .ok (.getfield 426, 3)) (kk : XG fh QQ RX0 mn cc nL ret d Z (pc + 3) lv ((0, xv h a 0) :: st) h res) : XG fh QQ RX0 mn cc nL ret d Z pc lv ((2, a) :: st) h (ob h a 25 res) := x_getN (C := RX27) (ref := RX27) 25 0 rfl in_X27 (by decide) rfl (by decide) (Or.inl rfl) q1583 hd kk
theorem xp_X0_426 {ρ : Type} {fh : ρ → XH} {QQ : XZ ρ → State → Prop} {mn : String} {cc : ByteArray} {nL : Nat} {ret : Option FieldType} {d : Nat} {Z : XZ ρ} {pc : Nat} {lv : List (Nat × AV)} {st : List AV} {h : XH} {f : XH → Option ρ} {a x : Int} (hd : decode cc pc = .ok (.putfield 426, 3)) (kk : ∀ h1, XG fh QQ RX0 mn cc nL ret d Z (pc + 3) lv st h1 (f h1)) : XG fh QQ RX0 mn cc nL ret d Z pc lv ((0, x) :: (2, a) :: st) h (ob h a 25 (nm (hset h a 0 x) f)) := x_putN (C := RX27) (ref := RX27) 25 0 rfl in_X27 tyX27_ok nmX27 (by decide) rfl (by decide) (Or.inl rfl) (by decide) (xfit_X27 0 (by decide)) 0 rfl q1583 hd kk
theorem xg_X0_436 {ρ : Type} {fh : ρ → XH} {QQ : XZ ρ → State → Prop} {mn : String} {cc : ByteArray} {nL : Nat} {ret : Option FieldType} {d : Nat} {Z : XZ ρ} {pc : Nat} {lv : List (Nat × AV)} {st : List AV} {h : XH} {res : Option ρ} {a : Int} (hd : decode cc pc = .ok (.getfield 436, 3)) (kk : XG fh QQ RX0 mn cc nL ret d Z (pc + 3) lv ((0, xv h a 1) :: st) h res) : XG fh QQ RX0 mn cc nL ret d Z pc lv ((2, a) :: st) h (ob h a 25 res) := x_getN (C := RX27) (ref := RX27) 25 1 rfl in_X27 (by decide) rfl (by decide) (Or.inl rfl) q1584 hd kk
theorem xp_X0_436 {ρ : Type} {fh : ρ → XH} {QQ : XZ ρ → State → Prop} {mn : String} {cc : ByteArray} {nL : Nat} {ret : Option FieldType} {d : Nat} {Z : XZ ρ} {pc : Nat} {lv : List (Nat × AV)} {st : List AV} {h : XH} {f : XH → Option ρ} {a x : Int} (hd : decode cc pc = .ok (.putfield 436, 3)) (kk : ∀ h1, XG fh QQ RX0 mn cc nL ret d Z (pc + 3) lv st h1 (f h1)) : XG fh QQ RX0 mn cc nL ret d Z pc lv ((0, x) :: (2, a) :: st) h (ob h a 25 (nm (hset h a 1 x) f)) := x_putN (C := RX27) (ref := RX27) 25 1 rfl in_X27 tyX27_ok nmX27 (by decide) rfl (by decide) (Or.inl rfl) (by decide) (xfit_X27 1 (by decide)) 0 rfl q1584 hd kk
theorem xg_X0_442 {ρ : Type} {fh : ρ → XH} {QQ : XZ ρ → State → Prop} {mn : String} {cc : ByteArray} {nL : Nat} {ret : Option FieldType} {d : Nat} {Z : XZ ρ} {pc : Nat} {lv : List (Nat × AV)} {st : List AV} {h : XH} {res : Option ρ} {a : Int} (hd : decode cc pc = .ok (.getfield 442, 3)) (kk : XG fh QQ RX0 mn cc nL ret d Z (pc + 3) lv ((0, xv h a 2) :: st) h res) : XG fh QQ RX0 mn cc nL ret d Z pc lv ((2, a) :: st) h (ob h a 25 res) := x_getN (C := RX27) (ref := RX27) 25 2 rfl in_X27 (by decide) rfl (by decide) (Or.inl rfl) q1586 hd kk
theorem xp_X0_442 {ρ : Type} {fh : ρ → XH} {QQ : XZ ρ → State → Prop} {mn : String} {cc : ByteArray} {nL : Nat} {ret : Option FieldType} {d : Nat} {Z : XZ ρ} {pc : Nat} {lv : List (Nat × AV)} {st : List AV} {h : XH} {f : XH → Option ρ} {a x : Int} (hd : decode cc pc = .ok (.putfield 442, 3)) (kk : ∀ h1, XG fh QQ RX0 mn cc nL ret d Z (pc + 3) lv st h1 (f h1)) : XG fh QQ RX0 mn cc nL ret d Z pc lv ((0, x) :: (2, a) :: st) h (ob h a 25 (nm (hset h a 2 x) f)) := x_putN (C := RX27) (ref := RX27) 25 2 rfl in_X27 tyX27_ok nmX27 (by decide) rfl (by decide) (Or.inl rfl) (by decide) (xfit_X27 2 (by decide)) 0 rfl q1586 hd kk
theorem xn_X0_418 {ρ : Type} {fh : ρ → XH} {QQ : XZ ρ → State → Prop} {mn : String} {cc : ByteArray} {nL : Nat} {ret : Option FieldType} {d : Nat} {Z : XZ ρ} {pc : Nat} {lv : List (Nat × AV)} {st : List AV} {h : XH} {f : Int → XH → Option ρ} (hd : decode cc pc = .ok (.new 418, 3)) (kk : ∀ r h1, XG fh QQ RX0 mn cc nL ret d Z (pc + 3) lv ((2, r) :: st) h1 (f r h1)) : XG fh QQ RX0 mn cc nL ret d Z pc lv st h (nw h 25 3 f) := x_new (C := RX27) 25 rfl in_X27 tyX27_ok (by decide) rfl (by decide) xfit_X27 q1577 q1578 q169 hd kk
noncomputable def F_X0_draw_87 (K16 : Int → Int → Int → Int → Int → Int → XH → Option XR) (s0 : Int) (s1 : Int) (x0 : Int) (x1 : Int) (x2 : Int) (x3 : Int) (x5 : Int) (h : XH) : Option XR := nm (α := Int) (ior s0 s1) fun v1 => nm (w32 (x5 + 1)) fun v2 => K16 x0 x1 x2 x3 v1 v2 h
theorem WF_X0_draw_87 {d : Nat} {Z : XZ XR} (hdd : 128 ≤ d) {K16 : Int → Int → Int → Int → Int → Int → XH → Option XR} (hK16 : ∀ x0 x1 x2 x3 x4 x5 h, XG xfh (xQ 3) RX0 "draw" cX0_draw 10 (some (.object "ExamSlips$Table")) d Z 16 [(0, (2, x0)), (1, (2, x1)), (2, (2, x2)), (3, (0, x3)), (4, (0, x4)), (5, (0, x5))] [] h (K16 x0 x1 x2 x3 x4 x5 h)) : ∀ s0 s1 x0 x1 x2 x3 x5 h, XG xfh (xQ 3) RX0 "draw" cX0_draw 10 (some (.object "ExamSlips$Table")) d Z 87 [(0, (2, x0)), (1, (2, x1)), (2, (2, x2)), (3, (0, x3)), (5, (0, x5))] [(0, s1), (0, s0)] h (F_X0_draw_87 K16 s0 s1 x0 x1 x2 x3 x5 h) := by
  intro s0 s1 x0 x1 x2 x3 x5 h
  unfold F_X0_draw_87
  refine x_ior dX0_draw_87 ?_
  refine x_nmT fun v1 => ?_
  refine x_istore (lv' := [(4, (0, v1)), (0, (2, x0)), (1, (2, x1)), (2, (2, x2)), (3, (0, x3)), (5, (0, x5))]) dX0_draw_88 (by decide) rfl ?_
  refine x_iinc 5 dX0_draw_90 rfl (by decide) fun v2 => x_lv (lv' := [(5, (0, v2)), (4, (0, v1)), (0, (2, x0)), (1, (2, x1)), (2, (2, x2)), (3, (0, x3))]) rfl ?_
  refine x_goto 16 dX0_draw_93 (by decide) ?_
  exact x_sub [2, 3, 4, 5, 1, 0] rfl (hK16 x0 x1 x2 x3 v1 v2 h)
noncomputable def F_X0_draw_86 (K16 : Int → Int → Int → Int → Int → Int → XH → Option XR) (s0 : Int) (x0 : Int) (x1 : Int) (x2 : Int) (x3 : Int) (x5 : Int) (h : XH) : Option XR := F_X0_draw_87 K16 s0 0 x0 x1 x2 x3 x5 h
theorem WF_X0_draw_86 {d : Nat} {Z : XZ XR} (hdd : 128 ≤ d) {K16 : Int → Int → Int → Int → Int → Int → XH → Option XR} (hK16 : ∀ x0 x1 x2 x3 x4 x5 h, XG xfh (xQ 3) RX0 "draw" cX0_draw 10 (some (.object "ExamSlips$Table")) d Z 16 [(0, (2, x0)), (1, (2, x1)), (2, (2, x2)), (3, (0, x3)), (4, (0, x4)), (5, (0, x5))] [] h (K16 x0 x1 x2 x3 x4 x5 h)) : ∀ s0 x0 x1 x2 x3 x5 h, XG xfh (xQ 3) RX0 "draw" cX0_draw 10 (some (.object "ExamSlips$Table")) d Z 86 [(0, (2, x0)), (1, (2, x1)), (2, (2, x2)), (3, (0, x3)), (5, (0, x5))] [(0, s0)] h (F_X0_draw_86 K16 s0 x0 x1 x2 x3 x5 h) := by
  intro s0 x0 x1 x2 x3 x5 h
  unfold F_X0_draw_86
  refine x_ic dX0_draw_86 (by decide) (by decide) ?_
  exact x_sub [0, 1, 2, 3, 4] rfl (WF_X0_draw_87 hdd hK16 s0 0 x0 x1 x2 x3 x5 h)
noncomputable def F_X0_draw_318 (K233 : Int → Int → Int → Int → XH → Option XR) (K264 : Int → Int → Int → Int → Int → Int → XH → Option XR) (x0 : Int) (x1 : Int) (x2 : Int) (x7 : Int) (x8 : Int) (x9 : Int) (h : XH) : Option XR := nm (w32 (x9 + 1)) fun v1 => K264 x0 x1 x2 x7 x8 v1 h
theorem WF_X0_draw_318 {d : Nat} {Z : XZ XR} (hdd : 128 ≤ d) {K233 : Int → Int → Int → Int → XH → Option XR} (hK233 : ∀ x0 x1 x2 x7 h, XG xfh (xQ 3) RX0 "draw" cX0_draw 10 (some (.object "ExamSlips$Table")) d Z 233 [(0, (2, x0)), (1, (2, x1)), (2, (2, x2)), (7, (0, x7))] [] h (K233 x0 x1 x2 x7 h)) {K264 : Int → Int → Int → Int → Int → Int → XH → Option XR} (hK264 : ∀ x0 x1 x2 x7 x8 x9 h, XG xfh (xQ 3) RX0 "draw" cX0_draw 10 (some (.object "ExamSlips$Table")) d Z 264 [(0, (2, x0)), (1, (2, x1)), (2, (2, x2)), (7, (0, x7)), (8, (0, x8)), (9, (0, x9))] [] h (K264 x0 x1 x2 x7 x8 x9 h)) : ∀ x0 x1 x2 x7 x8 x9 h, XG xfh (xQ 3) RX0 "draw" cX0_draw 10 (some (.object "ExamSlips$Table")) d Z 318 [(0, (2, x0)), (1, (2, x1)), (2, (2, x2)), (7, (0, x7)), (8, (0, x8)), (9, (0, x9))] [] h (F_X0_draw_318 K233 K264 x0 x1 x2 x7 x8 x9 h) := by
  intro x0 x1 x2 x7 x8 x9 h
  unfold F_X0_draw_318
  refine x_iinc 5 dX0_draw_318 rfl (by decide) fun v1 => x_lv (lv' := [(9, (0, v1)), (0, (2, x0)), (1, (2, x1)), (2, (2, x2)), (7, (0, x7)), (8, (0, x8))]) rfl ?_
  refine x_goto 264 dX0_draw_321 (by decide) ?_
  exact x_sub [1, 2, 3, 4, 5, 0] rfl (hK264 x0 x1 x2 x7 x8 v1 h)
noncomputable def F_X0_draw_314 (K233 : Int → Int → Int → Int → XH → Option XR) (K264 : Int → Int → Int → Int → Int → Int → XH → Option XR) (x0 : Int) (x1 : Int) (x2 : Int) (x7 : Int) (x9 : Int) (h : XH) : Option XR := F_X0_draw_318 K233 K264 x0 x1 x2 x7 x9 x9 h
theorem WF_X0_draw_314 {d : Nat} {Z : XZ XR} (hdd : 128 ≤ d) {K233 : Int → Int → Int → Int → XH → Option XR} (hK233 : ∀ x0 x1 x2 x7 h, XG xfh (xQ 3) RX0 "draw" cX0_draw 10 (some (.object "ExamSlips$Table")) d Z 233 [(0, (2, x0)), (1, (2, x1)), (2, (2, x2)), (7, (0, x7))] [] h (K233 x0 x1 x2 x7 h)) {K264 : Int → Int → Int → Int → Int → Int → XH → Option XR} (hK264 : ∀ x0 x1 x2 x7 x8 x9 h, XG xfh (xQ 3) RX0 "draw" cX0_draw 10 (some (.object "ExamSlips$Table")) d Z 264 [(0, (2, x0)), (1, (2, x1)), (2, (2, x2)), (7, (0, x7)), (8, (0, x8)), (9, (0, x9))] [] h (K264 x0 x1 x2 x7 x8 x9 h)) : ∀ x0 x1 x2 x7 x9 h, XG xfh (xQ 3) RX0 "draw" cX0_draw 10 (some (.object "ExamSlips$Table")) d Z 314 [(0, (2, x0)), (1, (2, x1)), (2, (2, x2)), (7, (0, x7)), (9, (0, x9))] [] h (F_X0_draw_314 K233 K264 x0 x1 x2 x7 x9 h) := by
  intro x0 x1 x2 x7 x9 h
  unfold F_X0_draw_314
  refine x_iload 4 dX0_draw_314 rfl ?_
  refine x_istore (lv' := [(8, (0, x9)), (0, (2, x0)), (1, (2, x1)), (2, (2, x2)), (7, (0, x7)), (9, (0, x9))]) dX0_draw_316 (by decide) rfl ?_
  exact x_sub [1, 2, 3, 4, 0, 5] rfl (WF_X0_draw_318 hdd hK233 hK264 x0 x1 x2 x7 x9 x9 h)
noncomputable def F_X0_draw_324 (K233 : Int → Int → Int → Int → XH → Option XR) (x0 : Int) (x1 : Int) (x2 : Int) (x7 : Int) (x8 : Int) (h : XH) : Option XR := ob h x2 25 <| ob h x2 25 <| nm (hset h x2 1 (ior (xv h x2 1) (ishl 1 x8))) fun h1 => ob h1 x2 25 <| ob h1 x1 24 <| mb (F_X26_of x1 100 h1) fun r2 h3 => ob h3 x0 1 <| mb (F_X0_chanceOf x0 x8 h3) fun r4 h5 => nm (α := Int) (if r4 ≤ r2 then 0 else ishl 1 x8) fun v6 => ob h5 x2 25 <| nm (hset h5 x2 2 (ior (xv h1 x2 2) v6)) fun h7 => nm (w32 (x7 + 1)) fun v8 => K233 x0 x1 x2 v8 h7
theorem WF_X0_draw_324 {d : Nat} {Z : XZ XR} (hdd : 128 ≤ d) {K233 : Int → Int → Int → Int → XH → Option XR} (hK233 : ∀ x0 x1 x2 x7 h, XG xfh (xQ 3) RX0 "draw" cX0_draw 10 (some (.object "ExamSlips$Table")) d Z 233 [(0, (2, x0)), (1, (2, x1)), (2, (2, x2)), (7, (0, x7))] [] h (K233 x0 x1 x2 x7 h)) : ∀ x0 x1 x2 x7 x8 h, XG xfh (xQ 3) RX0 "draw" cX0_draw 10 (some (.object "ExamSlips$Table")) d Z 324 [(0, (2, x0)), (1, (2, x1)), (2, (2, x2)), (7, (0, x7)), (8, (0, x8))] [] h (F_X0_draw_324 K233 x0 x1 x2 x7 x8 h) := by
  intro x0 x1 x2 x7 x8 h
  unfold F_X0_draw_324
  refine x_aload_n 2 dX0_draw_324 rfl rfl ?_
  refine x_dup dX0_draw_325 rfl ?_
  refine xg_X0_436 dX0_draw_326 ?_
  refine x_ic dX0_draw_329 (by decide) (by decide) ?_
  refine x_iload 4 dX0_draw_330 rfl ?_
  refine x_ishl dX0_draw_332 ?_
  refine x_ior dX0_draw_333 ?_
  refine xp_X0_436 dX0_draw_334 fun h1 => ?_
  refine x_aload_n 2 dX0_draw_337 rfl rfl ?_
  refine x_dup dX0_draw_338 rfl ?_
  refine xg_X0_442 dX0_draw_339 ?_
  refine x_aload_n 1 dX0_draw_342 rfl rfl ?_
  refine x_bp dX0_draw_343 (by decide) (by decide) ?_
  refine cl_X0_429 (by omega) (Nat.le_of_ble_eq_true rfl) dX0_draw_345 fun r2 h3 => ?_
  refine x_aload_n 0 dX0_draw_348 rfl rfl ?_
  refine x_iload 4 dX0_draw_349 rfl ?_
  refine cl_X0_439 (by omega) (Nat.le_of_ble_eq_true rfl) dX0_draw_351 fun r4 h5 => ?_
  refine x_join 365 (fun v6 => [(0, v6), (0, xv h1 x2 2), (2, x2)]) (fun v6 => ?_) (fun hJ => ?_)
  · refine x_ior dX0_draw_365 ?_
    refine xp_X0_442 dX0_draw_366 fun h7 => ?_
    refine x_iinc 3 dX0_draw_369 rfl (by decide) fun v8 => x_lv (lv' := [(7, (0, v8)), (0, (2, x0)), (1, (2, x1)), (2, (2, x2)), (8, (0, x8))]) rfl ?_
    refine x_goto 233 dX0_draw_372 (by decide) ?_
    exact x_sub [1, 2, 3, 0] rfl (hK233 x0 x1 x2 v8 h7)
  · refine x_icmp_geF 364 dX0_draw_354 (by decide) (fun _ => ?_) (fun _ => ?_)
    · refine x_ic dX0_draw_364 (by decide) (by decide) ?_
      exact hJ _
    · refine x_ic dX0_draw_357 (by decide) (by decide) ?_
      refine x_iload 4 dX0_draw_358 rfl ?_
      refine x_ishl dX0_draw_360 ?_
      refine x_goto 365 dX0_draw_361 (by decide) ?_
      exact hJ _
noncomputable def F_X0_draw_264 (K233 : Int → Int → Int → Int → XH → Option XR) : Nat → Int → Int → Int → Int → Int → Int → XH → Option XR
  | 0, _, _, _, _, _, _, _ => none
  | n + 1, x0, x1, x2, x7, x8, x9, h => ob h x0 1 <| mb (F_X0_many x0 h) fun r1 h2 => if r1 ≤ x9 then (F_X0_draw_324 K233 x0 x1 x2 x7 x8 h2) else (ob h2 x2 25 <| ob h2 x2 25 <| if iand (ishr (iand (xv h2 x2 0) (ixor (xv h2 x2 1) (-1))) x9) 1 = 1 then (if x8 = (-1) then (F_X0_draw_314 K233 (F_X0_draw_264 K233 n) x0 x1 x2 x7 x9 h2) else (ob h2 x0 1 <| mb (F_X0_chanceOf x0 x9 h2) fun r3 h4 => ob h4 x0 1 <| mb (F_X0_chanceOf x0 x8 h4) fun r5 h6 => if r3 ≤ r5 then (F_X0_draw_318 K233 (F_X0_draw_264 K233 n) x0 x1 x2 x7 x8 x9 h6) else (F_X0_draw_314 K233 (F_X0_draw_264 K233 n) x0 x1 x2 x7 x9 h6))) else (F_X0_draw_318 K233 (F_X0_draw_264 K233 n) x0 x1 x2 x7 x8 x9 h2))
theorem WF_X0_draw_264 {d : Nat} {Z : XZ XR} (hdd : 128 ≤ d) {K233 : Int → Int → Int → Int → XH → Option XR} (hK233 : ∀ x0 x1 x2 x7 h, XG xfh (xQ 3) RX0 "draw" cX0_draw 10 (some (.object "ExamSlips$Table")) d Z 233 [(0, (2, x0)), (1, (2, x1)), (2, (2, x2)), (7, (0, x7))] [] h (K233 x0 x1 x2 x7 h)) : ∀ n x0 x1 x2 x7 x8 x9 h, XG xfh (xQ 3) RX0 "draw" cX0_draw 10 (some (.object "ExamSlips$Table")) d Z 264 [(0, (2, x0)), (1, (2, x1)), (2, (2, x2)), (7, (0, x7)), (8, (0, x8)), (9, (0, x9))] [] h (F_X0_draw_264 K233 n x0 x1 x2 x7 x8 x9 h) := by
  intro n
  induction n with
  | zero => intro x0 x1 x2 x7 x8 x9 h; exact x_none
  | succ n ih =>
    intro x0 x1 x2 x7 x8 x9 h
    rw [F_X0_draw_264]
    refine x_iload 5 dX0_draw_264 rfl ?_
    refine x_aload_n 0 dX0_draw_266 rfl rfl ?_
    refine cl_X0_13 (by omega) (Nat.le_of_ble_eq_true rfl) dX0_draw_267 fun r1 h2 => ?_
    refine x_icmp_ge 324 dX0_draw_270 (by decide) (fun _ => ?_) (fun _ => ?_)
    · exact x_sub [0, 1, 2, 3, 4] rfl (WF_X0_draw_324 hdd hK233 x0 x1 x2 x7 x8 h2)
    · refine x_aload_n 2 dX0_draw_273 rfl rfl ?_
      refine xg_X0_426 dX0_draw_274 ?_
      refine x_aload_n 2 dX0_draw_277 rfl rfl ?_
      refine xg_X0_436 dX0_draw_278 ?_
      refine x_ic dX0_draw_281 (by decide) (by decide) ?_
      refine x_ixor dX0_draw_282 ?_
      refine x_iand dX0_draw_283 ?_
      refine x_iload 5 dX0_draw_284 rfl ?_
      refine x_ishr dX0_draw_286 ?_
      refine x_ic dX0_draw_287 (by decide) (by decide) ?_
      refine x_iand dX0_draw_288 ?_
      refine x_ic dX0_draw_289 (by decide) (by decide) ?_
      refine x_icmp_ne 318 dX0_draw_290 (by decide) (fun _ => ?_) (fun _ => ?_)
      · exact x_sub [0, 1, 2, 3, 4, 5] rfl (WF_X0_draw_318 hdd hK233 ih x0 x1 x2 x7 x8 x9 h2)
      · refine x_iload 4 dX0_draw_293 rfl ?_
        refine x_ic dX0_draw_295 (by decide) (by decide) ?_
        refine x_icmp_eq 314 dX0_draw_296 (by decide) (fun _ => ?_) (fun _ => ?_)
        · exact x_sub [0, 1, 2, 3, 5] rfl (WF_X0_draw_314 hdd hK233 ih x0 x1 x2 x7 x9 h2)
        · refine x_aload_n 0 dX0_draw_299 rfl rfl ?_
          refine x_iload 5 dX0_draw_300 rfl ?_
          refine cl_X0_439 (by omega) (Nat.le_of_ble_eq_true rfl) dX0_draw_302 fun r3 h4 => ?_
          refine x_aload_n 0 dX0_draw_305 rfl rfl ?_
          refine x_iload 4 dX0_draw_306 rfl ?_
          refine cl_X0_439 (by omega) (Nat.le_of_ble_eq_true rfl) dX0_draw_308 fun r5 h6 => ?_
          refine x_icmp_le 318 dX0_draw_311 (by decide) (fun _ => ?_) (fun _ => ?_)
          · exact x_sub [0, 1, 2, 3, 4, 5] rfl (WF_X0_draw_318 hdd hK233 ih x0 x1 x2 x7 x8 x9 h6)
          · exact x_sub [0, 1, 2, 3, 5] rfl (WF_X0_draw_314 hdd hK233 ih x0 x1 x2 x7 x9 h6)
noncomputable def F_X0_draw_233 : Nat → Int → Int → Int → Int → XH → Option XR
  | 0, _, _, _, _, _ => none
  | n + 1, x0, x1, x2, x7, h => ob h x0 1 <| ob h (xv h x0 0) 2 <| ai h (xv h (xv h x0 0) 3) 0 1 <| if xv h (xv h (xv h x0 0) 3) 1 ≤ x7 then (some (x2, h)) else (ob h x2 25 <| ob h x2 25 <| if xv h x2 1 = xv h x2 0 then (some (x2, h)) else (F_X0_draw_264 (F_X0_draw_233 n) FU x0 x1 x2 x7 (-1) 0 h))
theorem WF_X0_draw_233 {d : Nat} {Z : XZ XR} (hdd : 128 ≤ d) : ∀ n x0 x1 x2 x7 h, XG xfh (xQ 3) RX0 "draw" cX0_draw 10 (some (.object "ExamSlips$Table")) d Z 233 [(0, (2, x0)), (1, (2, x1)), (2, (2, x2)), (7, (0, x7))] [] h (F_X0_draw_233 n x0 x1 x2 x7 h) := by
  intro n
  induction n with
  | zero => intro x0 x1 x2 x7 h; exact x_none
  | succ n ih =>
    intro x0 x1 x2 x7 h
    rw [F_X0_draw_233]
    refine x_iload 3 dX0_draw_233 rfl ?_
    refine x_aload_n 0 dX0_draw_235 rfl rfl ?_
    refine xg_X0_17 dX0_draw_236 ?_
    refine xg_X0_174 dX0_draw_239 ?_
    refine x_ic dX0_draw_242 (by decide) (by decide) ?_
    refine x_iald dX0_draw_243 ?_
    refine x_icmp_ge 375 dX0_draw_244 (by decide) (fun _ => ?_) (fun _ => ?_)
    · refine x_aload_n 2 dX0_draw_375 rfl rfl ?_
      exact x_aret rfl (Or.inl ⟨_, rfl⟩) dX0_draw_376
    · refine x_aload_n 2 dX0_draw_247 rfl rfl ?_
      refine xg_X0_436 dX0_draw_248 ?_
      refine x_aload_n 2 dX0_draw_251 rfl rfl ?_
      refine xg_X0_426 dX0_draw_252 ?_
      refine x_icmp_eq 375 dX0_draw_255 (by decide) (fun _ => ?_) (fun _ => ?_)
      · refine x_aload_n 2 dX0_draw_375 rfl rfl ?_
        exact x_aret rfl (Or.inl ⟨_, rfl⟩) dX0_draw_376
      · refine x_ic dX0_draw_258 (by decide) (by decide) ?_
        refine x_istore (lv' := [(8, (0, (-1))), (0, (2, x0)), (1, (2, x1)), (2, (2, x2)), (7, (0, x7))]) dX0_draw_259 (by decide) rfl ?_
        refine x_ic dX0_draw_261 (by decide) (by decide) ?_
        refine x_istore (lv' := [(9, (0, 0)), (8, (0, (-1))), (0, (2, x0)), (1, (2, x1)), (2, (2, x2)), (7, (0, x7))]) dX0_draw_262 (by decide) rfl ?_
        exact x_sub [2, 3, 4, 5, 1, 0] rfl (WF_X0_draw_264 hdd ih FU x0 x1 x2 x7 (-1) 0 h)
noncomputable def F_X0_draw_230 (x0 : Int) (x1 : Int) (x2 : Int) (h : XH) : Option XR := F_X0_draw_233 FU x0 x1 x2 0 h
theorem WF_X0_draw_230 {d : Nat} {Z : XZ XR} (hdd : 128 ≤ d) : ∀ x0 x1 x2 h, XG xfh (xQ 3) RX0 "draw" cX0_draw 10 (some (.object "ExamSlips$Table")) d Z 230 [(0, (2, x0)), (1, (2, x1)), (2, (2, x2))] [] h (F_X0_draw_230 x0 x1 x2 h) := by
  intro x0 x1 x2 h
  unfold F_X0_draw_230
  refine x_ic dX0_draw_230 (by decide) (by decide) ?_
  refine x_istore (lv' := [(7, (0, 0)), (0, (2, x0)), (1, (2, x1)), (2, (2, x2))]) dX0_draw_231 (by decide) rfl ?_
  exact x_sub [1, 2, 3, 0] rfl (WF_X0_draw_233 hdd FU x0 x1 x2 0 h)
noncomputable def F_X0_draw_174 : Nat → Int → Int → Int → Int → Int → Int → XH → Option XR
  | 0, _, _, _, _, _, _, _ => none
  | n + 1, x0, x1, x2, x3, x5, x6, h => ob h x2 25 <| mb (F_J13_bitCount (xv h x2 0) h) fun r1 h2 => if x6 ≤ r1 then (F_X0_draw_230 x0 x1 x2 h2) else (ob h2 x2 25 <| ob h2 x2 25 <| ob h2 x2 25 <| mb (F_J13_bitCount (xv h2 x2 0) h2) fun r3 h4 => ob h4 x1 24 <| mb (F_X26_of x1 (w32 (x5 - r3)) h4) fun r5 h6 => mb (F_X0_pick (iand x3 (ixor (xv h2 x2 0) (-1))) r5 h6) fun r7 h8 => ob h8 x2 25 <| nm (hset h8 x2 0 (ior (xv h2 x2 0) r7)) fun h9 => F_X0_draw_174 n x0 x1 x2 x3 x5 x6 h9)
theorem WF_X0_draw_174 {d : Nat} {Z : XZ XR} (hdd : 128 ≤ d) : ∀ n x0 x1 x2 x3 x5 x6 h, XG xfh (xQ 3) RX0 "draw" cX0_draw 10 (some (.object "ExamSlips$Table")) d Z 174 [(0, (2, x0)), (1, (2, x1)), (2, (2, x2)), (3, (0, x3)), (5, (0, x5)), (6, (0, x6))] [] h (F_X0_draw_174 n x0 x1 x2 x3 x5 x6 h) := by
  intro n
  induction n with
  | zero => intro x0 x1 x2 x3 x5 x6 h; exact x_none
  | succ n ih =>
    intro x0 x1 x2 x3 x5 x6 h
    rw [F_X0_draw_174]
    refine x_aload_n 2 dX0_draw_174 rfl rfl ?_
    refine xg_X0_426 dX0_draw_175 ?_
    refine cl_X0_421 (by omega) (Nat.le_of_ble_eq_true rfl) dX0_draw_178 fun r1 h2 => ?_
    refine x_iload 5 dX0_draw_181 rfl ?_
    refine x_icmp_ge 230 dX0_draw_183 (by decide) (fun _ => ?_) (fun _ => ?_)
    · exact x_sub [0, 1, 2] rfl (WF_X0_draw_230 hdd x0 x1 x2 h2)
    · refine x_aload_n 2 dX0_draw_186 rfl rfl ?_
      refine x_astore (lv' := [(7, (2, x2)), (0, (2, x0)), (1, (2, x1)), (2, (2, x2)), (3, (0, x3)), (5, (0, x5)), (6, (0, x6))]) dX0_draw_187 (by decide) rfl ?_
      refine x_aload 0 dX0_draw_189 rfl ?_
      refine x_aload 0 dX0_draw_191 rfl ?_
      refine xg_X0_426 dX0_draw_193 ?_
      refine x_iload_n 4 dX0_draw_196 rfl rfl ?_
      refine x_aload_n 3 dX0_draw_197 rfl rfl ?_
      refine xg_X0_426 dX0_draw_198 ?_
      refine x_ic dX0_draw_201 (by decide) (by decide) ?_
      refine x_ixor dX0_draw_202 ?_
      refine x_iand dX0_draw_203 ?_
      refine x_aload_n 2 dX0_draw_204 rfl rfl ?_
      refine x_iload 5 dX0_draw_205 rfl ?_
      refine x_aload_n 3 dX0_draw_207 rfl rfl ?_
      refine xg_X0_426 dX0_draw_208 ?_
      refine cl_X0_421 (by omega) (Nat.le_of_ble_eq_true rfl) dX0_draw_211 fun r3 h4 => ?_
      refine x_isub dX0_draw_214 ?_
      refine cl_X0_429 (by omega) (Nat.le_of_ble_eq_true rfl) dX0_draw_215 fun r5 h6 => ?_
      refine cl_X0_433 (by omega) (Nat.le_of_ble_eq_true rfl) dX0_draw_218 fun r7 h8 => ?_
      refine x_ior dX0_draw_221 ?_
      refine x_dup_x1 dX0_draw_222 rfl rfl ?_
      refine xp_X0_426 dX0_draw_223 fun h9 => ?_
      refine x_pop dX0_draw_226 rfl ?_
      refine x_goto 174 dX0_draw_227 (by decide) ?_
      exact x_sub [1, 2, 3, 4, 5, 6] rfl (ih x0 x1 x2 x3 x5 x6 h9)
noncomputable def F_X0_draw_96 (x0 : Int) (x1 : Int) (x2 : Int) (x3 : Int) (x4 : Int) (h : XH) : Option XR := mb (F_J13_bitCount x3 h) fun r1 h2 => ob h2 x0 1 <| ob h2 (xv h2 x0 0) 2 <| ai h2 (xv h2 (xv h2 x0 0) 3) 0 0 <| nm (α := Int) (if (xv h2 (xv h2 (xv h2 x0 0) 3) 0) < r1 then (xv h2 (xv h2 (xv h2 x0 0) 3) 0) else r1) fun v3 => if v3 = r1 then (ob h2 x2 25 <| nm (hset h2 x2 0 x3) fun h13 => F_X0_draw_230 x0 x1 x2 h13) else (if x4 = 0 then (F_X0_draw_174 FU x0 x1 x2 x3 r1 v3 h2) else (ob h2 x1 24 <| mb (F_X26_of x1 100 h2) fun r4 h5 => ob h5 x0 1 <| ob h5 (xv h5 x0 0) 2 <| ai h5 (xv h5 (xv h5 x0 0) 3) 0 3 <| if xv h5 (xv h5 (xv h5 x0 0) 3) 3 ≤ r4 then (F_X0_draw_174 FU x0 x1 x2 x3 r1 v3 h5) else (mb (F_J13_bitCount x4 h5) fun r6 h7 => ob h7 x1 24 <| mb (F_X26_of x1 r6 h7) fun r8 h9 => mb (F_X0_pick x4 r8 h9) fun r10 h11 => ob h11 x2 25 <| nm (hset h11 x2 0 r10) fun h12 => F_X0_draw_174 FU x0 x1 x2 x3 r1 v3 h12)))
theorem WF_X0_draw_96 {d : Nat} {Z : XZ XR} (hdd : 128 ≤ d) : ∀ x0 x1 x2 x3 x4 h, XG xfh (xQ 3) RX0 "draw" cX0_draw 10 (some (.object "ExamSlips$Table")) d Z 96 [(0, (2, x0)), (1, (2, x1)), (2, (2, x2)), (3, (0, x3)), (4, (0, x4))] [] h (F_X0_draw_96 x0 x1 x2 x3 x4 h) := by
  intro x0 x1 x2 x3 x4 h
  unfold F_X0_draw_96
  refine x_iload_n 3 dX0_draw_96 rfl rfl ?_
  refine cl_X0_421 (by omega) (Nat.le_of_ble_eq_true rfl) dX0_draw_97 fun r1 h2 => ?_
  refine x_istore (lv' := [(5, (0, r1)), (0, (2, x0)), (1, (2, x1)), (2, (2, x2)), (3, (0, x3)), (4, (0, x4))]) dX0_draw_100 (by decide) rfl ?_
  refine x_iload 0 dX0_draw_102 rfl ?_
  refine x_aload_n 1 dX0_draw_104 rfl rfl ?_
  refine xg_X0_17 dX0_draw_105 ?_
  refine xg_X0_174 dX0_draw_108 ?_
  refine x_ic dX0_draw_111 (by decide) (by decide) ?_
  refine x_iald dX0_draw_112 ?_
  refine x_mmin q363 q364 q132 q365 (by omega) (Nat.le_of_ble_eq_true rfl) dX0_draw_113 ?_
  refine x_nmT fun v3 => ?_
  refine x_istore (lv' := [(6, (0, v3)), (5, (0, r1)), (0, (2, x0)), (1, (2, x1)), (2, (2, x2)), (3, (0, x3)), (4, (0, x4))]) dX0_draw_116 (by decide) rfl ?_
  refine x_iload 0 dX0_draw_118 rfl ?_
  refine x_iload 1 dX0_draw_120 rfl ?_
  refine x_icmp_ne 133 dX0_draw_122 (by decide) (fun _ => ?_) (fun _ => ?_)
  · refine x_iload 6 dX0_draw_133 rfl ?_
    refine x_if_eq 174 dX0_draw_135 (by decide) (fun _ => ?_) (fun _ => ?_)
    · exact x_sub [2, 3, 4, 5, 1, 0] rfl (WF_X0_draw_174 hdd FU x0 x1 x2 x3 r1 v3 h2)
    · refine x_aload_n 3 dX0_draw_138 rfl rfl ?_
      refine x_bp dX0_draw_139 (by decide) (by decide) ?_
      refine cl_X0_429 (by omega) (Nat.le_of_ble_eq_true rfl) dX0_draw_141 fun r4 h5 => ?_
      refine x_aload_n 2 dX0_draw_144 rfl rfl ?_
      refine xg_X0_17 dX0_draw_145 ?_
      refine xg_X0_174 dX0_draw_148 ?_
      refine x_ic dX0_draw_151 (by decide) (by decide) ?_
      refine x_iald dX0_draw_152 ?_
      refine x_icmp_ge 174 dX0_draw_153 (by decide) (fun _ => ?_) (fun _ => ?_)
      · exact x_sub [2, 3, 4, 5, 1, 0] rfl (WF_X0_draw_174 hdd FU x0 x1 x2 x3 r1 v3 h5)
      · refine x_aload_n 4 dX0_draw_156 rfl rfl ?_
        refine x_iload 6 dX0_draw_157 rfl ?_
        refine x_aload_n 3 dX0_draw_159 rfl rfl ?_
        refine x_iload 6 dX0_draw_160 rfl ?_
        refine cl_X0_421 (by omega) (Nat.le_of_ble_eq_true rfl) dX0_draw_162 fun r6 h7 => ?_
        refine cl_X0_429 (by omega) (Nat.le_of_ble_eq_true rfl) dX0_draw_165 fun r8 h9 => ?_
        refine cl_X0_433 (by omega) (Nat.le_of_ble_eq_true rfl) dX0_draw_168 fun r10 h11 => ?_
        refine xp_X0_426 dX0_draw_171 fun h12 => ?_
        exact x_sub [2, 3, 4, 5, 1, 0] rfl (WF_X0_draw_174 hdd FU x0 x1 x2 x3 r1 v3 h12)
  · refine x_aload_n 4 dX0_draw_125 rfl rfl ?_
    refine x_iload_n 5 dX0_draw_126 rfl rfl ?_
    refine xp_X0_426 dX0_draw_127 fun h13 => ?_
    refine x_goto 230 dX0_draw_130 (by decide) ?_
    exact x_sub [2, 3, 4] rfl (WF_X0_draw_230 hdd x0 x1 x2 h13)
noncomputable def F_X0_draw_16 : Nat → Int → Int → Int → Int → Int → Int → XH → Option XR
  | 0, _, _, _, _, _, _, _ => none
  | n + 1, x0, x1, x2, x3, x4, x5, h => ob h x0 1 <| mb (F_X0_many x0 h) fun r1 h2 => if r1 ≤ x5 then (F_X0_draw_96 x0 x1 x2 x3 x4 h2) else (ob h2 x0 1 <| ob h2 (xv h2 x0 0) 2 <| ob h2 (xv h2 (xv h2 x0 0) 0) 26 <| mb (F_J2_get (xv h2 (xv h2 x0 0) 0) x5 h2) fun r3 h4 => ob h4 r3 5 <| ob h4 r3 5 <| nm (α := Int) (if xv h4 r3 5 = 0 then ishl 1 x5 else 0) fun v5 => nm (α := Int) (ior x3 v5) fun v6 => ob h4 r3 5 <| if xv h4 r3 5 = 0 then (ob h4 r3 5 <| if xv h4 r3 4 = 0 then (F_X0_draw_86 (F_X0_draw_16 n) x4 x0 x1 x2 v6 x5 h4) else (F_X0_draw_87 (F_X0_draw_16 n) x4 (ishl 1 x5) x0 x1 x2 v6 x5 h4)) else (F_X0_draw_86 (F_X0_draw_16 n) x4 x0 x1 x2 v6 x5 h4))
theorem WF_X0_draw_16 {d : Nat} {Z : XZ XR} (hdd : 128 ≤ d) : ∀ n x0 x1 x2 x3 x4 x5 h, XG xfh (xQ 3) RX0 "draw" cX0_draw 10 (some (.object "ExamSlips$Table")) d Z 16 [(0, (2, x0)), (1, (2, x1)), (2, (2, x2)), (3, (0, x3)), (4, (0, x4)), (5, (0, x5))] [] h (F_X0_draw_16 n x0 x1 x2 x3 x4 x5 h) := by
  intro n
  induction n with
  | zero => intro x0 x1 x2 x3 x4 x5 h; exact x_none
  | succ n ih =>
    intro x0 x1 x2 x3 x4 x5 h
    rw [F_X0_draw_16]
    refine x_iload 5 dX0_draw_16 rfl ?_
    refine x_aload_n 0 dX0_draw_18 rfl rfl ?_
    refine cl_X0_13 (by omega) (Nat.le_of_ble_eq_true rfl) dX0_draw_19 fun r1 h2 => ?_
    refine x_icmp_ge 96 dX0_draw_22 (by decide) (fun _ => ?_) (fun _ => ?_)
    · exact x_sub [0, 1, 2, 3, 4] rfl (WF_X0_draw_96 hdd x0 x1 x2 x3 x4 h2)
    · refine x_aload_n 0 dX0_draw_25 rfl rfl ?_
      refine xg_X0_17 dX0_draw_26 ?_
      refine xg_X0_21 dX0_draw_29 ?_
      refine x_iload 5 dX0_draw_32 rfl ?_
      refine cl_X0_27 (by omega) (Nat.le_of_ble_eq_true rfl) dX0_draw_34 fun r3 h4 => ?_
      refine x_cast (C := RX5) 5 rfl (by decide) q374 dX0_draw_37 ?_
      refine x_astore (lv' := [(6, (2, r3)), (0, (2, x0)), (1, (2, x1)), (2, (2, x2)), (3, (0, x3)), (4, (0, x4)), (5, (0, x5))]) dX0_draw_40 (by decide) rfl ?_
      refine x_iload_n 4 dX0_draw_42 rfl rfl ?_
      refine x_aload 0 dX0_draw_43 rfl ?_
      refine xg_X0_35 dX0_draw_45 ?_
      refine x_join 59 (fun v5 => [(0, v5), (0, x3)]) (fun v5 => ?_) (fun hJ => ?_)
      · refine x_ior dX0_draw_59 ?_
        refine x_nmT fun v6 => ?_
        refine x_istore_n (lv' := [(3, (0, v6)), (6, (2, r3)), (0, (2, x0)), (1, (2, x1)), (2, (2, x2)), (4, (0, x4)), (5, (0, x5))]) dX0_draw_60 rfl (by decide) rfl ?_
        refine x_iload 5 dX0_draw_61 rfl ?_
        refine x_aload 1 dX0_draw_63 rfl ?_
        refine xg_X0_35 dX0_draw_65 ?_
        refine x_if_ne 86 dX0_draw_68 (by decide) (fun _ => ?_) (fun _ => ?_)
        · exact x_sub [2, 3, 4, 0, 6] rfl (WF_X0_draw_86 hdd ih x4 x0 x1 x2 v6 x5 h4)
        · refine x_aload 1 dX0_draw_71 rfl ?_
          refine xg_X0_43 dX0_draw_73 ?_
          refine x_if_eq 86 dX0_draw_76 (by decide) (fun _ => ?_) (fun _ => ?_)
          · exact x_sub [2, 3, 4, 0, 6] rfl (WF_X0_draw_86 hdd ih x4 x0 x1 x2 v6 x5 h4)
          · refine x_ic dX0_draw_79 (by decide) (by decide) ?_
            refine x_iload 6 dX0_draw_80 rfl ?_
            refine x_ishl dX0_draw_82 ?_
            refine x_goto 87 dX0_draw_83 (by decide) ?_
            exact x_sub [2, 3, 4, 0, 6] rfl (WF_X0_draw_87 hdd ih x4 (ishl 1 x5) x0 x1 x2 v6 x5 h4)
      · refine x_if_eqF 55 dX0_draw_48 (by decide) (fun _ => ?_) (fun _ => ?_)
        · refine x_ic dX0_draw_55 (by decide) (by decide) ?_
          refine x_iload 6 dX0_draw_56 rfl ?_
          refine x_ishl dX0_draw_58 ?_
          exact hJ _
        · refine x_ic dX0_draw_51 (by decide) (by decide) ?_
          refine x_goto 59 dX0_draw_52 (by decide) ?_
          exact hJ _
noncomputable def F_X0_draw (x0 : Int) (x1 : Int) (h : XH) : Option XR := nw h 25 3 fun r1 h2 => pz r1 <| mb (F_X27_init r1 h2) fun r3 h4 => F_X0_draw_16 FU x0 x1 r1 0 0 0 h4
theorem WF_X0_draw {d : Nat} {Z : XZ XR} (hdd : 128 ≤ d) : ∀ x0 x1 h, XG xfh (xQ 3) RX0 "draw" cX0_draw 10 (some (.object "ExamSlips$Table")) d Z 0 [(0, (2, x0)), (1, (2, x1))] [] h (F_X0_draw x0 x1 h) := by
  intro x0 x1 h
  unfold F_X0_draw
  refine xn_X0_418 dX0_draw_0 fun r1 h2 => ?_
  refine x_dup dX0_draw_3 rfl ?_
  refine cl_X0_420 (by omega) (Nat.le_of_ble_eq_true rfl) dX0_draw_4 fun r3 h4 => ?_
  refine x_astore_n (lv' := [(2, (2, r1)), (0, (2, x0)), (1, (2, x1))]) dX0_draw_7 rfl (by decide) rfl ?_
  refine x_ic dX0_draw_8 (by decide) (by decide) ?_
  refine x_istore_n (lv' := [(3, (0, 0)), (2, (2, r1)), (0, (2, x0)), (1, (2, x1))]) dX0_draw_9 rfl (by decide) rfl ?_
  refine x_ic dX0_draw_10 (by decide) (by decide) ?_
  refine x_istore (lv' := [(4, (0, 0)), (3, (0, 0)), (2, (2, r1)), (0, (2, x0)), (1, (2, x1))]) dX0_draw_11 (by decide) rfl ?_
  refine x_ic dX0_draw_13 (by decide) (by decide) ?_
  refine x_istore (lv' := [(5, (0, 0)), (4, (0, 0)), (3, (0, 0)), (2, (2, r1)), (0, (2, x0)), (1, (2, x1))]) dX0_draw_14 (by decide) rfl ?_
  exact x_sub [4, 5, 3, 2, 1, 0] rfl (WF_X0_draw_16 hdd FU x0 x1 r1 0 0 0 h4)
theorem SF_X0_draw (l : Launch) {d : Nat} (hdd : 128 ≤ d) (x0 : Int) (x1 : Int) (h : XH) (hok : okH h) (ho : okXs (xn h) [(2, x0), (2, x1)]) (fin : XR) (hf : F_X0_draw x0 x1 h = some fin) : xSpec l yX0_draw cX0_draw 10 (some (.object "ExamSlips$Table")) d 3 [(2, x0), (2, x1)] h fin := x_enter (lv := [(0, (2, x0)), (1, (2, x1))]) (by decide) rfl rfl (Nat.le_of_ble_eq_true rfl) rfl (fun Z _ => WF_X0_draw hdd x0 x1 h) hok ho fin hf
noncomputable def F_X26_init (x0 : Int) (x1 : Int) (h : XH) : Option XR := pz x0 <| ob h x0 24 <| nm (hset h x0 0 x1) fun h1 => some (0, h1)
theorem WF_X26_init {d : Nat} {Z : XZ XR} (hdd : 1 ≤ d) : ∀ x0 x1 h, XG xfh (xQ 2) RX26 "<init>" cX26_init 2 none d Z 0 [(0, (2, x0)), (1, (0, x1))] [] h (F_X26_init x0 x1 h) := by
  intro x0 x1 h
  unfold F_X26_init
  refine x_aload_n 0 dX26_init_0 rfl rfl ?_
  refine x_objinit q1568 q176 q177 (by omega) (Nat.le_of_ble_eq_true rfl) dX26_init_1 ?_
  refine x_aload_n 0 dX26_init_4 rfl rfl ?_
  refine x_iload_n 1 dX26_init_5 rfl rfl ?_
  refine x_i2l dX26_init_6 ?_
  refine xp_X26_7 dX26_init_7 fun h1 => ?_
  exact x_vret rfl dX26_init_10
theorem SF_X26_init (l : Launch) {d : Nat} (hdd : 1 ≤ d) (x0 : Int) (x1 : Int) (h : XH) (hok : okH h) (ho : okXs (xn h) [(2, x0), (0, x1)]) (fin : XR) (hf : F_X26_init x0 x1 h = some fin) : xSpec l yX26_init cX26_init 2 none d 2 [(2, x0), (0, x1)] h fin := x_enter (lv := [(0, (2, x0)), (1, (0, x1))]) (by decide) rfl rfl (Nat.le_of_ble_eq_true rfl) rfl (fun Z _ => WF_X26_init hdd x0 x1 h) hok ho fin hf
theorem cl_X27_13 {ρ : Type} {fh : ρ → XH} {QQ : XZ ρ → State → Prop} {mn : String} {cc : ByteArray} {nL : Nat} {ret : Option FieldType} {d : Nat} {Z : XZ ρ} {pc : Nat} {lv : List (Nat × AV)} {st : List AV} {h : XH} {g : Int → XH → Option ρ} {a0 : Int} (hdd : 2 ≤ d) (hcat : (st.map fun v => if v.1 = 1 then 2 else 1).sum ≤ 8) (hdg : decode cc pc = .ok (.invokestatic 13, 3)) (kk : ∀ r h1, XG fh QQ RX27 mn cc nL ret d Z (pc + 3) lv ((0, r) :: st) h1 (g r h1)) : XG fh QQ RX27 mn cc nL ret d Z pc lv ((0, a0) :: st) h (mb (F_J13_bitCount a0 h) g) :=
  x_callSi [(0, a0)] 1 (WF_J13_bitCount (Z := (Z.1, Z.2.1, ((0, h), h))) (Nat.le_refl 1) a0 h).1 (fun hok ho fin hf => SF_J13_bitCount (yL Z) (Nat.le_refl 1) a0 h hok ho fin hf) (lw_S q1613 q1417 q163 q1418) ⟨by decide +kernel, by decide +kernel, by decide +kernel⟩ rfl (by omega) (by decide) rfl hcat hdg kk
theorem xg_X27_7 {ρ : Type} {fh : ρ → XH} {QQ : XZ ρ → State → Prop} {mn : String} {cc : ByteArray} {nL : Nat} {ret : Option FieldType} {d : Nat} {Z : XZ ρ} {pc : Nat} {lv : List (Nat × AV)} {st : List AV} {h : XH} {res : Option ρ} {a : Int} (hd : decode cc pc = .ok (.getfield 7, 3)) (kk : XG fh QQ RX27 mn cc nL ret d Z (pc + 3) lv ((0, xv h a 2) :: st) h res) : XG fh QQ RX27 mn cc nL ret d Z pc lv ((2, a) :: st) h (ob h a 25 res) := x_get (C := RX27) (ref := RX27) 25 2 rfl in_X27 (by decide) rfl (by decide) (Or.inl rfl) q1585 hd kk
noncomputable def F_X27_rights (x0 : Int) (h : XH) : Option XR := ob h x0 25 <| mb (F_J13_bitCount (xv h x0 2) h) fun r1 h2 => some (r1, h2)
theorem WF_X27_rights {d : Nat} {Z : XZ XR} (hdd : 2 ≤ d) : ∀ x0 h, XG xfh (xQ 0) RX27 "rights" cX27_rights 1 (some .int) d Z 0 [(0, (2, x0))] [] h (F_X27_rights x0 h) := by
  intro x0 h
  unfold F_X27_rights
  refine x_aload_n 0 dX27_rights_0 rfl rfl ?_
  refine xg_X27_7 dX27_rights_1 ?_
  refine cl_X27_13 (by omega) (Nat.le_of_ble_eq_true rfl) dX27_rights_4 fun r1 h2 => ?_
  exact x_iret rfl dX27_rights_7
theorem SF_X27_rights (l : Launch) {d : Nat} (hdd : 2 ≤ d) (x0 : Int) (h : XH) (hok : okH h) (ho : okXs (xn h) [(2, x0)]) (fin : XR) (hf : F_X27_rights x0 h = some fin) : xSpec l yX27_rights cX27_rights 1 (some .int) d 0 [(2, x0)] h fin := x_enter (lv := [(0, (2, x0))]) (by decide) rfl rfl (Nat.le_of_ble_eq_true rfl) rfl (fun Z _ => WF_X27_rights hdd x0 h) hok ho fin hf
theorem cl_X0_445 {ρ : Type} {fh : ρ → XH} {QQ : XZ ρ → State → Prop} {mn : String} {cc : ByteArray} {nL : Nat} {ret : Option FieldType} {d : Nat} {Z : XZ ρ} {pc : Nat} {lv : List (Nat × AV)} {st : List AV} {h : XH} {g : Int → XH → Option ρ} {b a0 : Int} (hdd : 2 ≤ d) (hcat : (st.map fun v => if v.1 = 1 then 2 else 1).sum ≤ 8) (hdg : decode cc pc = .ok (.invokespecial 445, 3)) (kk : ∀ r h1, XG fh QQ RX0 mn cc nL ret d Z (pc + 3) lv st h1 (g r h1)) : XG fh QQ RX0 mn cc nL ret d Z pc lv ((0, a0) :: (2, b) :: st) h (pz b (mb (F_X26_init b a0 h) g)) :=
  x_callIv [(0, a0)] 1 (WF_X26_init (Z := (Z.1, Z.2.1, ((0, h), h))) (Nat.le_refl 1) b a0 h).1 (fun hok ho fin hf => SF_X26_init (yL Z) (Nat.le_refl 1) b a0 h hok ho fin hf) (lw_meth q1567) q168 q1565 q1566 rfl ⟨by decide +kernel, by decide +kernel, by decide +kernel⟩ rfl (by omega) (by decide) rfl hcat hdg kk
theorem cl_X0_446 {ρ : Type} {fh : ρ → XH} {QQ : XZ ρ → State → Prop} {mn : String} {cc : ByteArray} {nL : Nat} {ret : Option FieldType} {d : Nat} {Z : XZ ρ} {pc : Nat} {lv : List (Nat × AV)} {st : List AV} {h : XH} {g : Int → XH → Option ρ} {b a0 : Int} (hdd : 129 ≤ d) (hcat : (st.map fun v => if v.1 = 1 then 2 else 1).sum ≤ 8) (hdg : decode cc pc = .ok (.invokevirtual 446, 3)) (kk : ∀ r h1, XG fh QQ RX0 mn cc nL ret d Z (pc + 3) lv ((2, r) :: st) h1 (g r h1)) : XG fh QQ RX0 mn cc nL ret d Z pc lv ((2, a0) :: (2, b) :: st) h (ob h b 1 (mb (F_X0_draw b a0 h) g)) :=
  x_callVr [(2, a0)] 1 (WF_X0_draw (Z := (Z.1, Z.2.1, ((0, h), h))) (Nat.le_refl 128) b a0 h).1 (fun hok ho fin hf => SF_X0_draw (yL Z) (Nat.le_refl 128) b a0 h hok ho fin hf) RX0 1 rfl (by decide) (lw_V q1573 q1575 qs57 q124 q1576) ⟨rfl, by decide +kernel, by decide +kernel, by decide +kernel⟩ rfl (by omega) (by decide) rfl hcat hdg kk
theorem cl_X0_454 {ρ : Type} {fh : ρ → XH} {QQ : XZ ρ → State → Prop} {mn : String} {cc : ByteArray} {nL : Nat} {ret : Option FieldType} {d : Nat} {Z : XZ ρ} {pc : Nat} {lv : List (Nat × AV)} {st : List AV} {h : XH} {g : Int → XH → Option ρ} {b : Int} (hdd : 3 ≤ d) (hcat : (st.map fun v => if v.1 = 1 then 2 else 1).sum ≤ 8) (hdg : decode cc pc = .ok (.invokevirtual 454, 3)) (kk : ∀ r h1, XG fh QQ RX0 mn cc nL ret d Z (pc + 3) lv ((0, r) :: st) h1 (g r h1)) : XG fh QQ RX0 mn cc nL ret d Z pc lv ((2, b) :: st) h (ob h b 25 (mb (F_X27_rights b h) g)) :=
  x_callVi [] 0 (WF_X27_rights (Z := (Z.1, Z.2.1, ((0, h), h))) (Nat.le_refl 2) b h).1 (fun hok ho fin hf => SF_X27_rights (yL Z) (Nat.le_refl 2) b h hok ho fin hf) RX27 25 rfl (by decide) (lw_V q1609 q1610 q1611 q169 q1612) ⟨rfl, by decide +kernel, by decide +kernel, by decide +kernel⟩ rfl (by omega) (by decide) rfl hcat hdg kk
theorem xg_X0_450 {ρ : Type} {fh : ρ → XH} {QQ : XZ ρ → State → Prop} {mn : String} {cc : ByteArray} {nL : Nat} {ret : Option FieldType} {d : Nat} {Z : XZ ρ} {pc : Nat} {lv : List (Nat × AV)} {st : List AV} {h : XH} {res : Option ρ} {a : Int} (hd : decode cc pc = .ok (.getfield 450, 3)) (kk : XG fh QQ RX0 mn cc nL ret d Z (pc + 3) lv ((2, xv h a 8) :: st) h res) : XG fh QQ RX0 mn cc nL ret d Z pc lv ((2, a) :: st) h (ob h a 1 res) := x_get (C := RX0) (ref := RX0) 1 8 rfl in_X0 (by decide) rfl (by decide) (Or.inl rfl) q302 hd kk
theorem xp_X0_450 {ρ : Type} {fh : ρ → XH} {QQ : XZ ρ → State → Prop} {mn : String} {cc : ByteArray} {nL : Nat} {ret : Option FieldType} {d : Nat} {Z : XZ ρ} {pc : Nat} {lv : List (Nat × AV)} {st : List AV} {h : XH} {f : XH → Option ρ} {a x : Int} (hd : decode cc pc = .ok (.putfield 450, 3)) (kk : ∀ h1, XG fh QQ RX0 mn cc nL ret d Z (pc + 3) lv st h1 (f h1)) : XG fh QQ RX0 mn cc nL ret d Z pc lv ((2, x) :: (2, a) :: st) h (ob h a 1 (nm (hset h a 8 x) f)) := x_put (C := RX0) (ref := RX0) 1 8 rfl in_X0 tyX0_ok nmX0 (by decide) rfl (by decide) (Or.inl rfl) (by decide) (xfit_X0 8 (by decide)) 2 rfl q302 hd kk
theorem xn_X0_430 {ρ : Type} {fh : ρ → XH} {QQ : XZ ρ → State → Prop} {mn : String} {cc : ByteArray} {nL : Nat} {ret : Option FieldType} {d : Nat} {Z : XZ ρ} {pc : Nat} {lv : List (Nat × AV)} {st : List AV} {h : XH} {f : Int → XH → Option ρ} (hd : decode cc pc = .ok (.new 430, 3)) (kk : ∀ r h1, XG fh QQ RX0 mn cc nL ret d Z (pc + 3) lv ((2, r) :: st) h1 (f r h1)) : XG fh QQ RX0 mn cc nL ret d Z pc lv st h (nw h 24 1 f) := x_new (C := RX26) 24 rfl in_X26 tyX26_ok (by decide) rfl (by decide) xfit_X26 q1563 q1564 q168 hd kk
noncomputable def F_X0_exam (x0 : Int) (x1 : Int) (h : XH) : Option XR := mb (F_X0_in x1 0 1000000 h) fun r1 h2 => if r1 = 0 then (ob h2 x0 1 <| mb (F_X0_tell x0 (-1) h2) fun r14 h15 => some (r14, h15)) else (nw h2 24 1 fun r3 h4 => pz r3 <| mb (F_X26_init r3 x1 h4) fun r5 h6 => ob h6 x0 1 <| mb (F_X0_draw x0 r3 h6) fun r7 h8 => ob h8 x0 1 <| nm (hset h8 x0 8 r7) fun h9 => ob h9 x0 1 <| ob h9 (xv h9 x0 8) 25 <| mb (F_X27_rights (xv h9 x0 8) h9) fun r10 h11 => ob h11 x0 1 <| mb (F_X0_tell x0 r10 h11) fun r12 h13 => some (r12, h13))
theorem WF_X0_exam {d : Nat} {Z : XZ XR} (hdd : 129 ≤ d) : ∀ x0 x1 h, XG xfh (xQ 0) RX0 "exam" cX0_exam 2 (some .int) d Z 0 [(0, (2, x0)), (1, (0, x1))] [] h (F_X0_exam x0 x1 h) := by
  intro x0 x1 h
  unfold F_X0_exam
  refine x_iload_n 1 dX0_exam_0 rfl rfl ?_
  refine x_i2l dX0_exam_1 ?_
  refine x_l0 dX0_exam_2 ?_
  refine x_ldc2 (n := 1000000) q1557 dX0_exam_3 (by decide +kernel) ⟨by decide, by decide⟩ ?_
  refine cl_X0_109 (by omega) (Nat.le_of_ble_eq_true rfl) dX0_exam_6 fun r1 h2 => ?_
  refine x_if_ne 18 dX0_exam_9 (by decide) (fun _ => ?_) (fun _ => ?_)
  · refine x_aload_n 0 dX0_exam_18 rfl rfl ?_
    refine x_aload_n 0 dX0_exam_19 rfl rfl ?_
    refine xn_X0_430 dX0_exam_20 fun r3 h4 => ?_
    refine x_dup dX0_exam_23 rfl ?_
    refine x_iload_n 1 dX0_exam_24 rfl rfl ?_
    refine cl_X0_445 (by omega) (Nat.le_of_ble_eq_true rfl) dX0_exam_25 fun r5 h6 => ?_
    refine cl_X0_446 (by omega) (Nat.le_of_ble_eq_true rfl) dX0_exam_28 fun r7 h8 => ?_
    refine xp_X0_450 dX0_exam_31 fun h9 => ?_
    refine x_aload_n 0 dX0_exam_34 rfl rfl ?_
    refine x_aload_n 0 dX0_exam_35 rfl rfl ?_
    refine xg_X0_450 dX0_exam_36 ?_
    refine cl_X0_454 (by omega) (Nat.le_of_ble_eq_true rfl) dX0_exam_39 fun r10 h11 => ?_
    refine cl_X0_133 (by omega) (Nat.le_of_ble_eq_true rfl) dX0_exam_42 fun r12 h13 => ?_
    exact x_iret rfl dX0_exam_45
  · refine x_aload_n 0 dX0_exam_12 rfl rfl ?_
    refine x_ic dX0_exam_13 (by decide) (by decide) ?_
    refine cl_X0_133 (by omega) (Nat.le_of_ble_eq_true rfl) dX0_exam_14 fun r14 h15 => ?_
    exact x_iret rfl dX0_exam_17
theorem SF_X0_exam (l : Launch) {d : Nat} (hdd : 129 ≤ d) (x0 : Int) (x1 : Int) (h : XH) (hok : okH h) (ho : okXs (xn h) [(2, x0), (0, x1)]) (fin : XR) (hf : F_X0_exam x0 x1 h = some fin) : xSpec l yX0_exam cX0_exam 2 (some .int) d 0 [(2, x0), (0, x1)] h fin := x_enter (lv := [(0, (2, x0)), (1, (0, x1))]) (by decide) rfl rfl (Nat.le_of_ble_eq_true rfl) rfl (fun Z _ => WF_X0_exam hdd x0 x1 h) hok ho fin hf
noncomputable def F_X0_table (x0 : Int) (x1 : Int) (h : XH) : Option XR := ob h x0 1 <| if xv h x0 8 = 0 then (some ((-1), h)) else (if x1 = 0 then (ob h x0 1 <| ob h (xv h x0 8) 25 <| some (xv h (xv h x0 8) 0, h)) else if x1 = 1 then (ob h x0 1 <| ob h (xv h x0 8) 25 <| some (xv h (xv h x0 8) 1, h)) else if x1 = 2 then (ob h x0 1 <| ob h (xv h x0 8) 25 <| some (xv h (xv h x0 8) 2, h)) else (some ((-1), h)))
theorem WF_X0_table {d : Nat} {Z : XZ XR} (hdd : 1 ≤ d) : ∀ x0 x1 h, XG xfh (xQ 0) RX0 "table" cX0_table 2 (some .int) d Z 0 [(0, (2, x0)), (1, (0, x1))] [] h (F_X0_table x0 x1 h) := by
  intro x0 x1 h
  unfold F_X0_table
  refine x_aload_n 0 dX0_table_0 rfl rfl ?_
  refine xg_X0_450 dX0_table_1 ?_
  refine x_ifnonnull 9 dX0_table_4 (by decide) (fun _ => ?_) (fun _ => ?_)
  · refine x_ic dX0_table_7 (by decide) (by decide) ?_
    exact x_iret rfl dX0_table_8
  · refine x_iload_n 1 dX0_table_9 rfl rfl ?_
    refine x_tswC (c := 0) 36 dX0_table_10 ⟨by decide, by decide⟩ (by decide) (by decide) rfl (by decide) (fun _ => ?_) (fun _ => ?_)
    · refine x_aload_n 0 dX0_table_36 rfl rfl ?_
      refine xg_X0_450 dX0_table_37 ?_
      refine xg_X0_426 dX0_table_40 ?_
      exact x_iret rfl dX0_table_43
    refine x_tswC (c := 1) 44 dX0_table_10 ⟨by decide, by decide⟩ (by decide) (by decide) rfl (by decide) (fun _ => ?_) (fun _ => ?_)
    · refine x_aload_n 0 dX0_table_44 rfl rfl ?_
      refine xg_X0_450 dX0_table_45 ?_
      refine xg_X0_436 dX0_table_48 ?_
      exact x_iret rfl dX0_table_51
    refine x_tswC (c := 2) 52 dX0_table_10 ⟨by decide, by decide⟩ (by decide) (by decide) rfl (by decide) (fun _ => ?_) (fun _ => ?_)
    · refine x_aload_n 0 dX0_table_52 rfl rfl ?_
      refine xg_X0_450 dX0_table_53 ?_
      refine xg_X0_442 dX0_table_56 ?_
      exact x_iret rfl dX0_table_59
    refine x_tswO 60 dX0_table_10 (by omega) (by decide) ?_
    refine x_ic dX0_table_60 (by decide) (by decide) ?_
    exact x_iret rfl dX0_table_61
theorem SF_X0_table (l : Launch) {d : Nat} (hdd : 1 ≤ d) (x0 : Int) (x1 : Int) (h : XH) (hok : okH h) (ho : okXs (xn h) [(2, x0), (0, x1)]) (fin : XR) (hf : F_X0_table x0 x1 h = some fin) : xSpec l yX0_table cX0_table 2 (some .int) d 0 [(2, x0), (0, x1)] h fin := x_enter (lv := [(0, (2, x0)), (1, (0, x1))]) (by decide) rfl rfl (Nat.le_of_ble_eq_true rfl) rfl (fun Z _ => WF_X0_table hdd x0 x1 h) hok ho fin hf
noncomputable def F_X0_exams_41 : Nat → Int → Int → Int → Int → Int → XH → Option XR
  | 0, _, _, _, _, _, _ => none
  | n + 1, x0, x1, x3, x4, x5, h => if x1 ≤ x5 then (some (x4, h)) else (ob h x0 1 <| mb (F_X0_draw x0 x3 h) fun r1 h2 => ob h2 r1 25 <| mb (F_X27_rights r1 h2) fun r3 h4 => ob h4 x0 1 <| ob h4 (xv h4 x0 0) 2 <| ai h4 (xv h4 (xv h4 x0 0) 3) 0 2 <| nm (α := Int) (if r3 < xv h4 (xv h4 (xv h4 x0 0) 3) 2 then 0 else 1) fun v5 => nm (α := Int) (w32 (x4 + v5)) fun v6 => nm (w32 (x5 + 1)) fun v7 => F_X0_exams_41 n x0 x1 x3 v6 v7 h4)
theorem WF_X0_exams_41 {d : Nat} {Z : XZ XR} (hdd : 129 ≤ d) : ∀ n x0 x1 x3 x4 x5 h, XG xfh (xQ 0) RX0 "exams" cX0_exams 6 (some .int) d Z 41 [(0, (2, x0)), (1, (0, x1)), (3, (2, x3)), (4, (0, x4)), (5, (0, x5))] [] h (F_X0_exams_41 n x0 x1 x3 x4 x5 h) := by
  intro n
  induction n with
  | zero => intro x0 x1 x3 x4 x5 h; exact x_none
  | succ n ih =>
    intro x0 x1 x3 x4 x5 h
    rw [F_X0_exams_41]
    refine x_iload 4 dX0_exams_41 rfl ?_
    refine x_iload_n 1 dX0_exams_43 rfl rfl ?_
    refine x_icmp_ge 83 dX0_exams_44 (by decide) (fun _ => ?_) (fun _ => ?_)
    · refine x_iload 3 dX0_exams_83 rfl ?_
      exact x_iret rfl dX0_exams_85
    · refine x_iload 3 dX0_exams_47 rfl ?_
      refine x_aload_n 0 dX0_exams_49 rfl rfl ?_
      refine x_aload_n 2 dX0_exams_50 rfl rfl ?_
      refine cl_X0_446 (by omega) (Nat.le_of_ble_eq_true rfl) dX0_exams_51 fun r1 h2 => ?_
      refine cl_X0_454 (by omega) (Nat.le_of_ble_eq_true rfl) dX0_exams_54 fun r3 h4 => ?_
      refine x_aload_n 0 dX0_exams_57 rfl rfl ?_
      refine xg_X0_17 dX0_exams_58 ?_
      refine xg_X0_174 dX0_exams_61 ?_
      refine x_ic dX0_exams_64 (by decide) (by decide) ?_
      refine x_iald dX0_exams_65 ?_
      refine x_join 74 (fun v5 => [(0, v5), (0, x4)]) (fun v5 => ?_) (fun hJ => ?_)
      · refine x_iadd dX0_exams_74 ?_
        refine x_nmT fun v6 => ?_
        refine x_istore (lv' := [(4, (0, v6)), (0, (2, x0)), (1, (0, x1)), (3, (2, x3)), (5, (0, x5))]) dX0_exams_75 (by decide) rfl ?_
        refine x_iinc 4 dX0_exams_77 rfl (by decide) fun v7 => x_lv (lv' := [(5, (0, v7)), (4, (0, v6)), (0, (2, x0)), (1, (0, x1)), (3, (2, x3))]) rfl ?_
        refine x_goto 41 dX0_exams_80 (by decide) ?_
        exact x_sub [2, 3, 4, 1, 0] rfl (ih x0 x1 x3 v6 v7 h4)
      · refine x_icmp_ltF 73 dX0_exams_66 (by decide) (fun _ => ?_) (fun _ => ?_)
        · refine x_ic dX0_exams_73 (by decide) (by decide) ?_
          exact hJ _
        · refine x_ic dX0_exams_69 (by decide) (by decide) ?_
          refine x_goto 74 dX0_exams_70 (by decide) ?_
          exact hJ _
noncomputable def F_X0_exams (x0 : Int) (x1 : Int) (x2 : Int) (h : XH) : Option XR := mb (F_X0_in x1 1 500 h) fun r1 h2 => if r1 = 0 then (some ((-1), h2)) else (mb (F_X0_in x2 0 1000000 h2) fun r3 h4 => if r3 = 0 then (some ((-1), h4)) else (nw h4 24 1 fun r5 h6 => pz r5 <| mb (F_X26_init r5 x2 h6) fun r7 h8 => F_X0_exams_41 FU x0 x1 r5 0 0 h8))
theorem WF_X0_exams {d : Nat} {Z : XZ XR} (hdd : 129 ≤ d) : ∀ x0 x1 x2 h, XG xfh (xQ 0) RX0 "exams" cX0_exams 6 (some .int) d Z 0 [(0, (2, x0)), (1, (0, x1)), (2, (0, x2))] [] h (F_X0_exams x0 x1 x2 h) := by
  intro x0 x1 x2 h
  unfold F_X0_exams
  refine x_iload_n 1 dX0_exams_0 rfl rfl ?_
  refine x_i2l dX0_exams_1 ?_
  refine x_l1 dX0_exams_2 ?_
  refine x_ldc2 (n := 500) q1622 dX0_exams_3 (by decide +kernel) ⟨by decide, by decide⟩ ?_
  refine cl_X0_109 (by omega) (Nat.le_of_ble_eq_true rfl) dX0_exams_6 fun r1 h2 => ?_
  refine x_if_eq 24 dX0_exams_9 (by decide) (fun _ => ?_) (fun _ => ?_)
  · refine x_ic dX0_exams_24 (by decide) (by decide) ?_
    exact x_iret rfl dX0_exams_25
  · refine x_iload_n 2 dX0_exams_12 rfl rfl ?_
    refine x_i2l dX0_exams_13 ?_
    refine x_l0 dX0_exams_14 ?_
    refine x_ldc2 (n := 1000000) q1557 dX0_exams_15 (by decide +kernel) ⟨by decide, by decide⟩ ?_
    refine cl_X0_109 (by omega) (Nat.le_of_ble_eq_true rfl) dX0_exams_18 fun r3 h4 => ?_
    refine x_if_ne 26 dX0_exams_21 (by decide) (fun _ => ?_) (fun _ => ?_)
    · refine xn_X0_430 dX0_exams_26 fun r5 h6 => ?_
      refine x_dup dX0_exams_29 rfl ?_
      refine x_iload_n 2 dX0_exams_30 rfl rfl ?_
      refine cl_X0_445 (by omega) (Nat.le_of_ble_eq_true rfl) dX0_exams_31 fun r7 h8 => ?_
      refine x_astore_n (lv' := [(3, (2, r5)), (0, (2, x0)), (1, (0, x1)), (2, (0, x2))]) dX0_exams_34 rfl (by decide) rfl ?_
      refine x_ic dX0_exams_35 (by decide) (by decide) ?_
      refine x_istore (lv' := [(4, (0, 0)), (3, (2, r5)), (0, (2, x0)), (1, (0, x1)), (2, (0, x2))]) dX0_exams_36 (by decide) rfl ?_
      refine x_ic dX0_exams_38 (by decide) (by decide) ?_
      refine x_istore (lv' := [(5, (0, 0)), (4, (0, 0)), (3, (2, r5)), (0, (2, x0)), (1, (0, x1)), (2, (0, x2))]) dX0_exams_39 (by decide) rfl ?_
      exact x_sub [3, 4, 2, 1, 0] rfl (WF_X0_exams_41 hdd FU x0 x1 r5 0 0 h8)
    · refine x_ic dX0_exams_24 (by decide) (by decide) ?_
      exact x_iret rfl dX0_exams_25
theorem SF_X0_exams (l : Launch) {d : Nat} (hdd : 129 ≤ d) (x0 : Int) (x1 : Int) (x2 : Int) (h : XH) (hok : okH h) (ho : okXs (xn h) [(2, x0), (0, x1), (0, x2)]) (fin : XR) (hf : F_X0_exams x0 x1 x2 h = some fin) : xSpec l yX0_exams cX0_exams 6 (some .int) d 0 [(2, x0), (0, x1), (0, x2)] h fin := x_enter (lv := [(0, (2, x0)), (1, (0, x1)), (2, (0, x2))]) (by decide) rfl rfl (Nat.le_of_ble_eq_true rfl) rfl (fun Z _ => WF_X0_exams hdd x0 x1 x2 h) hok ho fin hf
theorem cl_X5_19 {ρ : Type} {fh : ρ → XH} {QQ : XZ ρ → State → Prop} {mn : String} {cc : ByteArray} {nL : Nat} {ret : Option FieldType} {d : Nat} {Z : XZ ρ} {pc : Nat} {lv : List (Nat × AV)} {st : List AV} {h : XH} {g : Int → XH → Option ρ} {b a0 a1 a2 : Int} (hdd : 2 ≤ d) (hcat : (st.map fun v => if v.1 = 1 then 2 else 1).sum ≤ 8) (hdg : decode cc pc = .ok (.invokespecial 19, 3)) (kk : ∀ r h1, XG fh QQ RX5 mn cc nL ret d Z (pc + 3) lv st h1 (g r h1)) : XG fh QQ RX5 mn cc nL ret d Z pc lv ((0, a2) :: (0, a1) :: (0, a0) :: (2, b) :: st) h (pz b (mb (F_X5_init b a0 a1 a2 h) g)) :=
  x_callIv [(0, a0), (0, a1), (0, a2)] 3 (WF_X5_init (Z := (Z.1, Z.2.1, ((0, h), h))) (Nat.le_refl 1) b a0 a1 a2 h).1 (fun hok ho fin hf => SF_X5_init (yL Z) (Nat.le_refl 1) b a0 a1 a2 h hok ho fin hf) (lw_meth q378) q133 q1641 q377 rfl ⟨by decide +kernel, by decide +kernel, by decide +kernel⟩ rfl (by omega) (by decide) rfl hcat hdg kk
theorem xg_X5_22 {ρ : Type} {fh : ρ → XH} {QQ : XZ ρ → State → Prop} {mn : String} {cc : ByteArray} {nL : Nat} {ret : Option FieldType} {d : Nat} {Z : XZ ρ} {pc : Nat} {lv : List (Nat × AV)} {st : List AV} {h : XH} {res : Option ρ} {a : Int} (hd : decode cc pc = .ok (.getfield 22, 3)) (kk : XG fh QQ RX5 mn cc nL ret d Z (pc + 3) lv ((0, xv h a 3) :: st) h res) : XG fh QQ RX5 mn cc nL ret d Z pc lv ((2, a) :: st) h (ob h a 5 res) := x_get (C := RX5) (ref := RX5) 5 3 rfl in_X5 (by decide) rfl (by decide) (Or.inl rfl) q390 hd kk
theorem xp_X5_22 {ρ : Type} {fh : ρ → XH} {QQ : XZ ρ → State → Prop} {mn : String} {cc : ByteArray} {nL : Nat} {ret : Option FieldType} {d : Nat} {Z : XZ ρ} {pc : Nat} {lv : List (Nat × AV)} {st : List AV} {h : XH} {f : XH → Option ρ} {a x : Int} (hd : decode cc pc = .ok (.putfield 22, 3)) (kk : ∀ h1, XG fh QQ RX5 mn cc nL ret d Z (pc + 3) lv st h1 (f h1)) : XG fh QQ RX5 mn cc nL ret d Z pc lv ((0, x) :: (2, a) :: st) h (ob h a 5 (nm (hset h a 3 x) f)) := x_put (C := RX5) (ref := RX5) 5 3 rfl in_X5 tyX5_ok nmX5 (by decide) rfl (by decide) (Or.inl rfl) (by decide) (xfit_X5 3 (by decide)) 0 rfl q390 hd kk
theorem xp_X5_25 {ρ : Type} {fh : ρ → XH} {QQ : XZ ρ → State → Prop} {mn : String} {cc : ByteArray} {nL : Nat} {ret : Option FieldType} {d : Nat} {Z : XZ ρ} {pc : Nat} {lv : List (Nat × AV)} {st : List AV} {h : XH} {f : XH → Option ρ} {a x : Int} (hd : decode cc pc = .ok (.putfield 25, 3)) (kk : ∀ h1, XG fh QQ RX5 mn cc nL ret d Z (pc + 3) lv st h1 (f h1)) : XG fh QQ RX5 mn cc nL ret d Z pc lv ((0, x) :: (2, a) :: st) h (ob h a 5 (cb x (nm (hset h a 4 x) f))) := x_put (C := RX5) (ref := RX5) 5 4 rfl in_X5 tyX5_ok nmX5 (by decide) rfl (by decide) (Or.inl rfl) (by decide) (xfit_X5 4 (by decide)) 0 rfl q392 hd kk
theorem xg_X5_29 {ρ : Type} {fh : ρ → XH} {QQ : XZ ρ → State → Prop} {mn : String} {cc : ByteArray} {nL : Nat} {ret : Option FieldType} {d : Nat} {Z : XZ ρ} {pc : Nat} {lv : List (Nat × AV)} {st : List AV} {h : XH} {res : Option ρ} {a : Int} (hd : decode cc pc = .ok (.getfield 29, 3)) (kk : XG fh QQ RX5 mn cc nL ret d Z (pc + 3) lv ((0, xv h a 5) :: st) h res) : XG fh QQ RX5 mn cc nL ret d Z pc lv ((2, a) :: st) h (ob h a 5 res) := x_get (C := RX5) (ref := RX5) 5 5 rfl in_X5 (by decide) rfl (by decide) (Or.inl rfl) q395 hd kk
theorem xp_X5_29 {ρ : Type} {fh : ρ → XH} {QQ : XZ ρ → State → Prop} {mn : String} {cc : ByteArray} {nL : Nat} {ret : Option FieldType} {d : Nat} {Z : XZ ρ} {pc : Nat} {lv : List (Nat × AV)} {st : List AV} {h : XH} {f : XH → Option ρ} {a x : Int} (hd : decode cc pc = .ok (.putfield 29, 3)) (kk : ∀ h1, XG fh QQ RX5 mn cc nL ret d Z (pc + 3) lv st h1 (f h1)) : XG fh QQ RX5 mn cc nL ret d Z pc lv ((0, x) :: (2, a) :: st) h (ob h a 5 (cb x (nm (hset h a 5 x) f))) := x_put (C := RX5) (ref := RX5) 5 5 rfl in_X5 tyX5_ok nmX5 (by decide) rfl (by decide) (Or.inl rfl) (by decide) (xfit_X5 5 (by decide)) 0 rfl q395 hd kk
theorem xn_X5_8 {ρ : Type} {fh : ρ → XH} {QQ : XZ ρ → State → Prop} {mn : String} {cc : ByteArray} {nL : Nat} {ret : Option FieldType} {d : Nat} {Z : XZ ρ} {pc : Nat} {lv : List (Nat × AV)} {st : List AV} {h : XH} {f : Int → XH → Option ρ} (hd : decode cc pc = .ok (.new 8, 3)) (kk : ∀ r h1, XG fh QQ RX5 mn cc nL ret d Z (pc + 3) lv ((2, r) :: st) h1 (f r h1)) : XG fh QQ RX5 mn cc nL ret d Z pc lv st h (nw h 5 6 f) := x_new (C := RX5) 5 rfl in_X5 tyX5_ok (by decide) rfl (by decide) xfit_X5 q1640 q375 q133 hd kk
noncomputable def F_X5_copy (x0 : Int) (h : XH) : Option XR := nw h 5 6 fun r1 h2 => ob h2 x0 5 <| ob h2 x0 5 <| ob h2 x0 5 <| pz r1 <| mb (F_X5_init r1 (xv h2 x0 0) (xv h2 x0 1) (xv h2 x0 2) h2) fun r3 h4 => ob h4 x0 5 <| ob h4 r1 5 <| nm (hset h4 r1 3 (xv h4 x0 3)) fun h5 => ob h5 x0 5 <| ob h5 r1 5 <| cb (xv h5 x0 4) <| nm (hset h5 r1 4 (xv h5 x0 4)) fun h6 => ob h6 x0 5 <| ob h6 r1 5 <| cb (xv h6 x0 5) <| nm (hset h6 r1 5 (xv h6 x0 5)) fun h7 => some (r1, h7)
theorem WF_X5_copy {d : Nat} {Z : XZ XR} (hdd : 2 ≤ d) : ∀ x0 h, XG xfh (xQ 3) RX5 "copy" cX5_copy 2 (some (.object "ExamSlips$Question")) d Z 0 [(0, (2, x0))] [] h (F_X5_copy x0 h) := by
  intro x0 h
  unfold F_X5_copy
  refine xn_X5_8 dX5_copy_0 fun r1 h2 => ?_
  refine x_dup dX5_copy_3 rfl ?_
  refine x_aload_n 0 dX5_copy_4 rfl rfl ?_
  refine xg_X5_7 dX5_copy_5 ?_
  refine x_aload_n 0 dX5_copy_8 rfl rfl ?_
  refine xg_X5_13 dX5_copy_9 ?_
  refine x_aload_n 0 dX5_copy_12 rfl rfl ?_
  refine xg_X5_16 dX5_copy_13 ?_
  refine cl_X5_19 (by omega) (Nat.le_of_ble_eq_true rfl) dX5_copy_16 fun r3 h4 => ?_
  refine x_astore_n (lv' := [(1, (2, r1)), (0, (2, x0))]) dX5_copy_19 rfl (by decide) rfl ?_
  refine x_aload_n 0 dX5_copy_20 rfl rfl ?_
  refine x_aload_n 1 dX5_copy_21 rfl rfl ?_
  refine xg_X5_22 dX5_copy_22 ?_
  refine xp_X5_22 dX5_copy_25 fun h5 => ?_
  refine x_aload_n 0 dX5_copy_28 rfl rfl ?_
  refine x_aload_n 1 dX5_copy_29 rfl rfl ?_
  refine xg_X5_25 dX5_copy_30 ?_
  refine xp_X5_25 dX5_copy_33 fun h6 => ?_
  refine x_aload_n 0 dX5_copy_36 rfl rfl ?_
  refine x_aload_n 1 dX5_copy_37 rfl rfl ?_
  refine xg_X5_29 dX5_copy_38 ?_
  refine xp_X5_29 dX5_copy_41 fun h7 => ?_
  refine x_aload_n 0 dX5_copy_44 rfl rfl ?_
  exact x_aret rfl (Or.inl ⟨_, rfl⟩) dX5_copy_45
theorem SF_X5_copy (l : Launch) {d : Nat} (hdd : 2 ≤ d) (x0 : Int) (h : XH) (hok : okH h) (ho : okXs (xn h) [(2, x0)]) (fin : XR) (hf : F_X5_copy x0 h = some fin) : xSpec l yX5_copy cX5_copy 2 (some (.object "ExamSlips$Question")) d 3 [(2, x0)] h fin := x_enter (lv := [(0, (2, x0))]) (by decide) rfl rfl (Nat.le_of_ble_eq_true rfl) rfl (fun Z _ => WF_X5_copy hdd x0 h) hok ho fin hf
theorem cl_X1_38 {ρ : Type} {fh : ρ → XH} {QQ : XZ ρ → State → Prop} {mn : String} {cc : ByteArray} {nL : Nat} {ret : Option FieldType} {d : Nat} {Z : XZ ρ} {pc : Nat} {lv : List (Nat × AV)} {st : List AV} {h : XH} {g : Int → XH → Option ρ} {b : Int} (hdd : 5 ≤ d) (hcat : (st.map fun v => if v.1 = 1 then 2 else 1).sum ≤ 8) (hdg : decode cc pc = .ok (.invokespecial 38, 3)) (kk : ∀ r h1, XG fh QQ RX1 mn cc nL ret d Z (pc + 3) lv st h1 (g r h1)) : XG fh QQ RX1 mn cc nL ret d Z pc lv ((2, b) :: st) h (pz b (mb (F_X1_init b h) g)) :=
  x_callIv [] 0 (WF_X1_init (Z := (Z.1, Z.2.1, ((0, h), h))) (Nat.le_refl 4) b h).1 (fun hok ho fin hf => SF_X1_init (yL Z) (Nat.le_refl 4) b h hok ho fin hf) (lw_meth q182) q125 q1632 q181 rfl ⟨by decide +kernel, by decide +kernel, by decide +kernel⟩ rfl (by omega) (by decide) rfl hcat hdg kk
theorem cl_X1_39 {ρ : Type} {fh : ρ → XH} {QQ : XZ ρ → State → Prop} {mn : String} {cc : ByteArray} {nL : Nat} {ret : Option FieldType} {d : Nat} {Z : XZ ρ} {pc : Nat} {lv : List (Nat × AV)} {st : List AV} {h : XH} {g : Int → XH → Option ρ} {b : Int} (hdd : 2 ≤ d) (hcat : (st.map fun v => if v.1 = 1 then 2 else 1).sum ≤ 8) (hdg : decode cc pc = .ok (.invokevirtual 39, 3)) (kk : ∀ r h1, XG fh QQ RX1 mn cc nL ret d Z (pc + 3) lv ((0, r) :: st) h1 (g r h1)) : XG fh QQ RX1 mn cc nL ret d Z pc lv ((2, b) :: st) h (ob h b 26 (mb (F_J2_size b h) g)) :=
  x_callVi [] 0 (WF_J2_size (Z := (Z.1, Z.2.1, ((0, h), h))) (Nat.le_refl 1) b h).1 (fun hok ho fin hf => SF_J2_size (yL Z) (Nat.le_refl 1) b h hok ho fin hf) RJ2 26 rfl (by decide) (lw_V q1633 q371 q372 q128 q373) ⟨rfl, by decide +kernel, by decide +kernel, by decide +kernel⟩ rfl (by omega) (by decide) rfl hcat hdg kk
theorem cl_X1_43 {ρ : Type} {fh : ρ → XH} {QQ : XZ ρ → State → Prop} {mn : String} {cc : ByteArray} {nL : Nat} {ret : Option FieldType} {d : Nat} {Z : XZ ρ} {pc : Nat} {lv : List (Nat × AV)} {st : List AV} {h : XH} {g : Int → XH → Option ρ} {b a0 : Int} (hdd : 4 ≤ d) (hcat : (st.map fun v => if v.1 = 1 then 2 else 1).sum ≤ 8) (hdg : decode cc pc = .ok (.invokevirtual 43, 3)) (kk : ∀ r h1, XG fh QQ RX1 mn cc nL ret d Z (pc + 3) lv ((2, r) :: st) h1 (g r h1)) : XG fh QQ RX1 mn cc nL ret d Z pc lv ((0, a0) :: (2, b) :: st) h (ob h b 26 (mb (F_J2_get b a0 h) g)) :=
  x_callVr [(0, a0)] 1 (WF_J2_get (Z := (Z.1, Z.2.1, ((0, h), h))) (Nat.le_refl 3) b a0 h).1 (fun hok ho fin hf => SF_J2_get (yL Z) (Nat.le_refl 3) b a0 h hok ho fin hf) RJ2 26 rfl (by decide) (lw_V q1634 q497 q498 q128 q499) ⟨rfl, by decide +kernel, by decide +kernel, by decide +kernel⟩ rfl (by omega) (by decide) rfl hcat hdg kk
theorem cl_X1_49 {ρ : Type} {fh : ρ → XH} {QQ : XZ ρ → State → Prop} {mn : String} {cc : ByteArray} {nL : Nat} {ret : Option FieldType} {d : Nat} {Z : XZ ρ} {pc : Nat} {lv : List (Nat × AV)} {st : List AV} {h : XH} {g : Int → XH → Option ρ} {b : Int} (hdd : 3 ≤ d) (hcat : (st.map fun v => if v.1 = 1 then 2 else 1).sum ≤ 8) (hdg : decode cc pc = .ok (.invokevirtual 49, 3)) (kk : ∀ r h1, XG fh QQ RX1 mn cc nL ret d Z (pc + 3) lv ((2, r) :: st) h1 (g r h1)) : XG fh QQ RX1 mn cc nL ret d Z pc lv ((2, b) :: st) h (ob h b 5 (mb (F_X5_copy b h) g)) :=
  x_callVr [] 0 (WF_X5_copy (Z := (Z.1, Z.2.1, ((0, h), h))) (Nat.le_refl 2) b h).1 (fun hok ho fin hf => SF_X5_copy (yL Z) (Nat.le_refl 2) b h hok ho fin hf) RX5 5 rfl (by decide) (lw_V q1636 q1637 q1638 q133 q1639) ⟨rfl, by decide +kernel, by decide +kernel, by decide +kernel⟩ rfl (by omega) (by decide) rfl hcat hdg kk
theorem cl_X1_53 {ρ : Type} {fh : ρ → XH} {QQ : XZ ρ → State → Prop} {mn : String} {cc : ByteArray} {nL : Nat} {ret : Option FieldType} {d : Nat} {Z : XZ ρ} {pc : Nat} {lv : List (Nat × AV)} {st : List AV} {h : XH} {g : Int → XH → Option ρ} {b a0 : Int} (hdd : 7 ≤ d) (hcat : (st.map fun v => if v.1 = 1 then 2 else 1).sum ≤ 8) (hdg : decode cc pc = .ok (.invokevirtual 53, 3)) (kk : ∀ r h1, XG fh QQ RX1 mn cc nL ret d Z (pc + 3) lv ((0, r) :: st) h1 (g r h1)) : XG fh QQ RX1 mn cc nL ret d Z pc lv ((2, a0) :: (2, b) :: st) h (ob h b 26 (mb (F_J2_add b a0 h) g)) :=
  x_callVi [(2, a0)] 1 (WF_J2_add (Z := (Z.1, Z.2.1, ((0, h), h))) (Nat.le_refl 6) b a0 h).1 (fun hok ho fin hf => SF_J2_add (yL Z) (Nat.le_refl 6) b a0 h hok ho fin hf) RJ2 26 rfl (by decide) (lw_V q1642 q411 q412 q128 q413) ⟨rfl, by decide +kernel, by decide +kernel, by decide +kernel⟩ rfl (by omega) (by decide) rfl hcat hdg kk
theorem xg_X1_12 {ρ : Type} {fh : ρ → XH} {QQ : XZ ρ → State → Prop} {mn : String} {cc : ByteArray} {nL : Nat} {ret : Option FieldType} {d : Nat} {Z : XZ ρ} {pc : Nat} {lv : List (Nat × AV)} {st : List AV} {h : XH} {res : Option ρ} {a : Int} (hd : decode cc pc = .ok (.getfield 12, 3)) (kk : XG fh QQ RX1 mn cc nL ret d Z (pc + 3) lv ((2, xv h a 0) :: st) h res) : XG fh QQ RX1 mn cc nL ret d Z pc lv ((2, a) :: st) h (ob h a 2 res) := x_get (C := RX1) (ref := RX1) 2 0 rfl in_X1 (by decide) rfl (by decide) (Or.inl rfl) q210 hd kk
theorem xg_X1_18 {ρ : Type} {fh : ρ → XH} {QQ : XZ ρ → State → Prop} {mn : String} {cc : ByteArray} {nL : Nat} {ret : Option FieldType} {d : Nat} {Z : XZ ρ} {pc : Nat} {lv : List (Nat × AV)} {st : List AV} {h : XH} {res : Option ρ} {a : Int} (hd : decode cc pc = .ok (.getfield 18, 3)) (kk : XG fh QQ RX1 mn cc nL ret d Z (pc + 3) lv ((2, xv h a 1) :: st) h res) : XG fh QQ RX1 mn cc nL ret d Z pc lv ((2, a) :: st) h (ob h a 2 res) := x_get (C := RX1) (ref := RX1) 2 1 rfl in_X1 (by decide) rfl (by decide) (Or.inl rfl) q215 hd kk
theorem xg_X1_21 {ρ : Type} {fh : ρ → XH} {QQ : XZ ρ → State → Prop} {mn : String} {cc : ByteArray} {nL : Nat} {ret : Option FieldType} {d : Nat} {Z : XZ ρ} {pc : Nat} {lv : List (Nat × AV)} {st : List AV} {h : XH} {res : Option ρ} {a : Int} (hd : decode cc pc = .ok (.getfield 21, 3)) (kk : XG fh QQ RX1 mn cc nL ret d Z (pc + 3) lv ((2, xv h a 2) :: st) h res) : XG fh QQ RX1 mn cc nL ret d Z pc lv ((2, a) :: st) h (ob h a 2 res) := x_get (C := RX1) (ref := RX1) 2 2 rfl in_X1 (by decide) rfl (by decide) (Or.inl rfl) q217 hd kk
theorem xg_X1_24 {ρ : Type} {fh : ρ → XH} {QQ : XZ ρ → State → Prop} {mn : String} {cc : ByteArray} {nL : Nat} {ret : Option FieldType} {d : Nat} {Z : XZ ρ} {pc : Nat} {lv : List (Nat × AV)} {st : List AV} {h : XH} {res : Option ρ} {a : Int} (hd : decode cc pc = .ok (.getfield 24, 3)) (kk : XG fh QQ RX1 mn cc nL ret d Z (pc + 3) lv ((2, xv h a 3) :: st) h res) : XG fh QQ RX1 mn cc nL ret d Z pc lv ((2, a) :: st) h (ob h a 2 res) := x_get (C := RX1) (ref := RX1) 2 3 rfl in_X1 (by decide) rfl (by decide) (Or.inl rfl) q221 hd kk
theorem xg_X1_28 {ρ : Type} {fh : ρ → XH} {QQ : XZ ρ → State → Prop} {mn : String} {cc : ByteArray} {nL : Nat} {ret : Option FieldType} {d : Nat} {Z : XZ ρ} {pc : Nat} {lv : List (Nat × AV)} {st : List AV} {h : XH} {res : Option ρ} {a : Int} (hd : decode cc pc = .ok (.getfield 28, 3)) (kk : XG fh QQ RX1 mn cc nL ret d Z (pc + 3) lv ((2, xv h a 4) :: st) h res) : XG fh QQ RX1 mn cc nL ret d Z pc lv ((2, a) :: st) h (ob h a 2 res) := x_get (C := RX1) (ref := RX1) 2 4 rfl in_X1 (by decide) rfl (by decide) (Or.inl rfl) q226 hd kk
theorem xg_X1_31 {ρ : Type} {fh : ρ → XH} {QQ : XZ ρ → State → Prop} {mn : String} {cc : ByteArray} {nL : Nat} {ret : Option FieldType} {d : Nat} {Z : XZ ρ} {pc : Nat} {lv : List (Nat × AV)} {st : List AV} {h : XH} {res : Option ρ} {a : Int} (hd : decode cc pc = .ok (.getfield 31, 3)) (kk : XG fh QQ RX1 mn cc nL ret d Z (pc + 3) lv ((2, xv h a 5) :: st) h res) : XG fh QQ RX1 mn cc nL ret d Z pc lv ((2, a) :: st) h (ob h a 2 res) := x_get (C := RX1) (ref := RX1) 2 5 rfl in_X1 (by decide) rfl (by decide) (Or.inl rfl) q229 hd kk
theorem xg_X1_34 {ρ : Type} {fh : ρ → XH} {QQ : XZ ρ → State → Prop} {mn : String} {cc : ByteArray} {nL : Nat} {ret : Option FieldType} {d : Nat} {Z : XZ ρ} {pc : Nat} {lv : List (Nat × AV)} {st : List AV} {h : XH} {res : Option ρ} {a : Int} (hd : decode cc pc = .ok (.getfield 34, 3)) (kk : XG fh QQ RX1 mn cc nL ret d Z (pc + 3) lv ((0, xv h a 7) :: st) h res) : XG fh QQ RX1 mn cc nL ret d Z pc lv ((2, a) :: st) h (ob h a 2 res) := x_get (C := RX1) (ref := RX1) 2 7 rfl in_X1 (by decide) rfl (by decide) (Or.inl rfl) q233 hd kk
theorem xg_X1_67 {ρ : Type} {fh : ρ → XH} {QQ : XZ ρ → State → Prop} {mn : String} {cc : ByteArray} {nL : Nat} {ret : Option FieldType} {d : Nat} {Z : XZ ρ} {pc : Nat} {lv : List (Nat × AV)} {st : List AV} {h : XH} {res : Option ρ} {a : Int} (hd : decode cc pc = .ok (.getfield 67, 3)) (kk : XG fh QQ RX1 mn cc nL ret d Z (pc + 3) lv ((0, xv h a 6) :: st) h res) : XG fh QQ RX1 mn cc nL ret d Z pc lv ((2, a) :: st) h (ob h a 2 res) := x_get (C := RX1) (ref := RX1) 2 6 rfl in_X1 (by decide) rfl (by decide) (Or.inl rfl) q231 hd kk
theorem xp_X1_67 {ρ : Type} {fh : ρ → XH} {QQ : XZ ρ → State → Prop} {mn : String} {cc : ByteArray} {nL : Nat} {ret : Option FieldType} {d : Nat} {Z : XZ ρ} {pc : Nat} {lv : List (Nat × AV)} {st : List AV} {h : XH} {f : XH → Option ρ} {a x : Int} (hd : decode cc pc = .ok (.putfield 67, 3)) (kk : ∀ h1, XG fh QQ RX1 mn cc nL ret d Z (pc + 3) lv st h1 (f h1)) : XG fh QQ RX1 mn cc nL ret d Z pc lv ((0, x) :: (2, a) :: st) h (ob h a 2 (nm (hset h a 6 x) f)) := x_put (C := RX1) (ref := RX1) 2 6 rfl in_X1 tyX1_ok nmX1 (by decide) rfl (by decide) (Or.inl rfl) (by decide) (xfit_X1 6 (by decide)) 0 rfl q231 hd kk
theorem xn_X1_13 {ρ : Type} {fh : ρ → XH} {QQ : XZ ρ → State → Prop} {mn : String} {cc : ByteArray} {nL : Nat} {ret : Option FieldType} {d : Nat} {Z : XZ ρ} {pc : Nat} {lv : List (Nat × AV)} {st : List AV} {h : XH} {f : Int → XH → Option ρ} (hd : decode cc pc = .ok (.new 13, 3)) (kk : ∀ r h1, XG fh QQ RX1 mn cc nL ret d Z (pc + 3) lv ((2, r) :: st) h1 (f r h1)) : XG fh QQ RX1 mn cc nL ret d Z pc lv st h (nw h 2 8 f) := x_new (C := RX1) 2 rfl in_X1 tyX1_ok (by decide) rfl (by decide) xfit_X1 q1631 q179 q125 hd kk
noncomputable def F_X1_copy_125 (x0 : Int) (x1 : Int) (h : XH) : Option XR := ob h x0 2 <| ob h x1 2 <| cpg h 0 (xv h x0 3) 0 (xv h x1 3) 0 7 <| nm (hcpy h (xv h x0 3) 0 (xv h x1 3) 0 7) fun h1 => ob h1 x0 2 <| ob h1 x1 2 <| cpg h1 0 (xv h1 x0 4) 0 (xv h1 x1 4) 0 3 <| nm (hcpy h1 (xv h1 x0 4) 0 (xv h1 x1 4) 0 3) fun h2 => ob h2 x0 2 <| ob h2 x1 2 <| ob h2 x0 2 <| cpg h2 0 (xv h2 x0 5) 0 (xv h2 x1 5) 0 (xv h2 x0 6) <| nm (hcpy h2 (xv h2 x0 5) 0 (xv h2 x1 5) 0 (xv h2 x0 6)) fun h3 => ob h3 x0 2 <| ob h3 x1 2 <| nm (hset h3 x1 6 (xv h3 x0 6)) fun h4 => ob h4 x0 2 <| ob h4 x1 2 <| nm (hset h4 x1 7 (xv h4 x0 7)) fun h5 => some (x1, h5)
theorem WF_X1_copy_125 {d : Nat} {Z : XZ XR} (hdd : 7 ≤ d) : ∀ x0 x1 h, XG xfh (xQ 3) RX1 "copy" cX1_copy 3 (some (.object "ExamSlips$Exam")) d Z 125 [(0, (2, x0)), (1, (2, x1))] [] h (F_X1_copy_125 x0 x1 h) := by
  intro x0 x1 h
  unfold F_X1_copy_125
  refine x_aload_n 0 dX1_copy_125 rfl rfl ?_
  refine xg_X1_24 dX1_copy_126 ?_
  refine x_ic dX1_copy_129 (by decide) (by decide) ?_
  refine x_aload_n 1 dX1_copy_130 rfl rfl ?_
  refine xg_X1_24 dX1_copy_131 ?_
  refine x_ic dX1_copy_134 (by decide) (by decide) ?_
  refine x_bp dX1_copy_135 (by decide) (by decide) ?_
  refine x_copyi 0 (Or.inl rfl) q1645 q480 q479 q136 (by omega) (Nat.le_of_ble_eq_true rfl) dX1_copy_137 fun h1 => ?_
  refine x_aload_n 0 dX1_copy_140 rfl rfl ?_
  refine xg_X1_28 dX1_copy_141 ?_
  refine x_ic dX1_copy_144 (by decide) (by decide) ?_
  refine x_aload_n 1 dX1_copy_145 rfl rfl ?_
  refine xg_X1_28 dX1_copy_146 ?_
  refine x_ic dX1_copy_149 (by decide) (by decide) ?_
  refine x_ic dX1_copy_150 (by decide) (by decide) ?_
  refine x_copyi 0 (Or.inl rfl) q1645 q480 q479 q136 (by omega) (Nat.le_of_ble_eq_true rfl) dX1_copy_151 fun h2 => ?_
  refine x_aload_n 0 dX1_copy_154 rfl rfl ?_
  refine xg_X1_31 dX1_copy_155 ?_
  refine x_ic dX1_copy_158 (by decide) (by decide) ?_
  refine x_aload_n 1 dX1_copy_159 rfl rfl ?_
  refine xg_X1_31 dX1_copy_160 ?_
  refine x_ic dX1_copy_163 (by decide) (by decide) ?_
  refine x_aload_n 0 dX1_copy_164 rfl rfl ?_
  refine xg_X1_67 dX1_copy_165 ?_
  refine x_copyi 0 (Or.inl rfl) q1645 q480 q479 q136 (by omega) (Nat.le_of_ble_eq_true rfl) dX1_copy_168 fun h3 => ?_
  refine x_aload_n 1 dX1_copy_171 rfl rfl ?_
  refine x_aload_n 0 dX1_copy_172 rfl rfl ?_
  refine xg_X1_67 dX1_copy_173 ?_
  refine xp_X1_67 dX1_copy_176 fun h4 => ?_
  refine x_aload_n 1 dX1_copy_179 rfl rfl ?_
  refine x_aload_n 0 dX1_copy_180 rfl rfl ?_
  refine xg_X1_34 dX1_copy_181 ?_
  refine xp_X1_34 dX1_copy_184 fun h5 => ?_
  refine x_aload_n 1 dX1_copy_187 rfl rfl ?_
  exact x_aret rfl (Or.inl ⟨_, rfl⟩) dX1_copy_188
noncomputable def F_X1_copy_89 : Nat → Int → Int → Int → XH → Option XR
  | 0, _, _, _, _ => none
  | n + 1, x0, x1, x2, h => ob h x0 2 <| ob h (xv h x0 2) 26 <| mb (F_J2_size (xv h x0 2) h) fun r1 h2 => if r1 ≤ x2 then (F_X1_copy_125 x0 x1 h2) else (ob h2 x1 2 <| ob h2 x0 2 <| ob h2 (xv h2 x0 2) 26 <| mb (F_J2_get (xv h2 x0 2) x2 h2) fun r3 h4 => ob h4 r3 19 <| ob h4 (xv h2 x1 2) 26 <| mb (F_J2_add (xv h2 x1 2) r3 h4) fun r5 h6 => nm (w32 (x2 + 1)) fun v7 => F_X1_copy_89 n x0 x1 v7 h6)
theorem WF_X1_copy_89 {d : Nat} {Z : XZ XR} (hdd : 7 ≤ d) : ∀ n x0 x1 x2 h, XG xfh (xQ 3) RX1 "copy" cX1_copy 3 (some (.object "ExamSlips$Exam")) d Z 89 [(0, (2, x0)), (1, (2, x1)), (2, (0, x2))] [] h (F_X1_copy_89 n x0 x1 x2 h) := by
  intro n
  induction n with
  | zero => intro x0 x1 x2 h; exact x_none
  | succ n ih =>
    intro x0 x1 x2 h
    rw [F_X1_copy_89]
    refine x_iload_n 2 dX1_copy_89 rfl rfl ?_
    refine x_aload_n 0 dX1_copy_90 rfl rfl ?_
    refine xg_X1_21 dX1_copy_91 ?_
    refine cl_X1_39 (by omega) (Nat.le_of_ble_eq_true rfl) dX1_copy_94 fun r1 h2 => ?_
    refine x_icmp_ge 125 dX1_copy_97 (by decide) (fun _ => ?_) (fun _ => ?_)
    · exact x_sub [0, 1] rfl (WF_X1_copy_125 hdd x0 x1 h2)
    · refine x_aload_n 1 dX1_copy_100 rfl rfl ?_
      refine xg_X1_21 dX1_copy_101 ?_
      refine x_aload_n 0 dX1_copy_104 rfl rfl ?_
      refine xg_X1_21 dX1_copy_105 ?_
      refine x_iload_n 2 dX1_copy_108 rfl rfl ?_
      refine cl_X1_43 (by omega) (Nat.le_of_ble_eq_true rfl) dX1_copy_109 fun r3 h4 => ?_
      refine x_cast (C := RX21) 19 rfl (by decide) q1644 dX1_copy_112 ?_
      refine cl_X1_53 (by omega) (Nat.le_of_ble_eq_true rfl) dX1_copy_115 fun r5 h6 => ?_
      refine x_pop dX1_copy_118 rfl ?_
      refine x_iinc 2 dX1_copy_119 rfl (by decide) fun v7 => x_lv (lv' := [(2, (0, v7)), (0, (2, x0)), (1, (2, x1))]) rfl ?_
      refine x_goto 89 dX1_copy_122 (by decide) ?_
      exact x_sub [1, 2, 0] rfl (ih x0 x1 v7 h6)
noncomputable def F_X1_copy_87 (x0 : Int) (x1 : Int) (h : XH) : Option XR := F_X1_copy_89 FU x0 x1 0 h
theorem WF_X1_copy_87 {d : Nat} {Z : XZ XR} (hdd : 7 ≤ d) : ∀ x0 x1 h, XG xfh (xQ 3) RX1 "copy" cX1_copy 3 (some (.object "ExamSlips$Exam")) d Z 87 [(0, (2, x0)), (1, (2, x1))] [] h (F_X1_copy_87 x0 x1 h) := by
  intro x0 x1 h
  unfold F_X1_copy_87
  refine x_ic dX1_copy_87 (by decide) (by decide) ?_
  refine x_istore_n (lv' := [(2, (0, 0)), (0, (2, x0)), (1, (2, x1))]) dX1_copy_88 rfl (by decide) rfl ?_
  exact x_sub [1, 2, 0] rfl (WF_X1_copy_89 hdd FU x0 x1 0 h)
noncomputable def F_X1_copy_51 : Nat → Int → Int → Int → XH → Option XR
  | 0, _, _, _, _ => none
  | n + 1, x0, x1, x2, h => ob h x0 2 <| ob h (xv h x0 1) 26 <| mb (F_J2_size (xv h x0 1) h) fun r1 h2 => if r1 ≤ x2 then (F_X1_copy_87 x0 x1 h2) else (ob h2 x1 2 <| ob h2 x0 2 <| ob h2 (xv h2 x0 1) 26 <| mb (F_J2_get (xv h2 x0 1) x2 h2) fun r3 h4 => ob h4 r3 4 <| ob h4 (xv h2 x1 1) 26 <| mb (F_J2_add (xv h2 x1 1) r3 h4) fun r5 h6 => nm (w32 (x2 + 1)) fun v7 => F_X1_copy_51 n x0 x1 v7 h6)
theorem WF_X1_copy_51 {d : Nat} {Z : XZ XR} (hdd : 7 ≤ d) : ∀ n x0 x1 x2 h, XG xfh (xQ 3) RX1 "copy" cX1_copy 3 (some (.object "ExamSlips$Exam")) d Z 51 [(0, (2, x0)), (1, (2, x1)), (2, (0, x2))] [] h (F_X1_copy_51 n x0 x1 x2 h) := by
  intro n
  induction n with
  | zero => intro x0 x1 x2 h; exact x_none
  | succ n ih =>
    intro x0 x1 x2 h
    rw [F_X1_copy_51]
    refine x_iload_n 2 dX1_copy_51 rfl rfl ?_
    refine x_aload_n 0 dX1_copy_52 rfl rfl ?_
    refine xg_X1_18 dX1_copy_53 ?_
    refine cl_X1_39 (by omega) (Nat.le_of_ble_eq_true rfl) dX1_copy_56 fun r1 h2 => ?_
    refine x_icmp_ge 87 dX1_copy_59 (by decide) (fun _ => ?_) (fun _ => ?_)
    · exact x_sub [0, 1] rfl (WF_X1_copy_87 hdd x0 x1 h2)
    · refine x_aload_n 1 dX1_copy_62 rfl rfl ?_
      refine xg_X1_18 dX1_copy_63 ?_
      refine x_aload_n 0 dX1_copy_66 rfl rfl ?_
      refine xg_X1_18 dX1_copy_67 ?_
      refine x_iload_n 2 dX1_copy_70 rfl rfl ?_
      refine cl_X1_43 (by omega) (Nat.le_of_ble_eq_true rfl) dX1_copy_71 fun r3 h4 => ?_
      refine x_cast (C := RX3) 4 rfl (by decide) q1643 dX1_copy_74 ?_
      refine cl_X1_53 (by omega) (Nat.le_of_ble_eq_true rfl) dX1_copy_77 fun r5 h6 => ?_
      refine x_pop dX1_copy_80 rfl ?_
      refine x_iinc 2 dX1_copy_81 rfl (by decide) fun v7 => x_lv (lv' := [(2, (0, v7)), (0, (2, x0)), (1, (2, x1))]) rfl ?_
      refine x_goto 51 dX1_copy_84 (by decide) ?_
      exact x_sub [1, 2, 0] rfl (ih x0 x1 v7 h6)
noncomputable def F_X1_copy_49 (x0 : Int) (x1 : Int) (h : XH) : Option XR := F_X1_copy_51 FU x0 x1 0 h
theorem WF_X1_copy_49 {d : Nat} {Z : XZ XR} (hdd : 7 ≤ d) : ∀ x0 x1 h, XG xfh (xQ 3) RX1 "copy" cX1_copy 3 (some (.object "ExamSlips$Exam")) d Z 49 [(0, (2, x0)), (1, (2, x1))] [] h (F_X1_copy_49 x0 x1 h) := by
  intro x0 x1 h
  unfold F_X1_copy_49
  refine x_ic dX1_copy_49 (by decide) (by decide) ?_
  refine x_istore_n (lv' := [(2, (0, 0)), (0, (2, x0)), (1, (2, x1))]) dX1_copy_50 rfl (by decide) rfl ?_
  exact x_sub [1, 2, 0] rfl (WF_X1_copy_51 hdd FU x0 x1 0 h)
noncomputable def F_X1_copy_10 : Nat → Int → Int → Int → XH → Option XR
  | 0, _, _, _, _ => none
  | n + 1, x0, x1, x2, h => ob h x0 2 <| ob h (xv h x0 0) 26 <| mb (F_J2_size (xv h x0 0) h) fun r1 h2 => if r1 ≤ x2 then (F_X1_copy_49 x0 x1 h2) else (ob h2 x1 2 <| ob h2 x0 2 <| ob h2 (xv h2 x0 0) 26 <| mb (F_J2_get (xv h2 x0 0) x2 h2) fun r3 h4 => ob h4 r3 5 <| ob h4 r3 5 <| mb (F_X5_copy r3 h4) fun r5 h6 => ob h6 (xv h2 x1 0) 26 <| mb (F_J2_add (xv h2 x1 0) r5 h6) fun r7 h8 => nm (w32 (x2 + 1)) fun v9 => F_X1_copy_10 n x0 x1 v9 h8)
theorem WF_X1_copy_10 {d : Nat} {Z : XZ XR} (hdd : 7 ≤ d) : ∀ n x0 x1 x2 h, XG xfh (xQ 3) RX1 "copy" cX1_copy 3 (some (.object "ExamSlips$Exam")) d Z 10 [(0, (2, x0)), (1, (2, x1)), (2, (0, x2))] [] h (F_X1_copy_10 n x0 x1 x2 h) := by
  intro n
  induction n with
  | zero => intro x0 x1 x2 h; exact x_none
  | succ n ih =>
    intro x0 x1 x2 h
    rw [F_X1_copy_10]
    refine x_iload_n 2 dX1_copy_10 rfl rfl ?_
    refine x_aload_n 0 dX1_copy_11 rfl rfl ?_
    refine xg_X1_12 dX1_copy_12 ?_
    refine cl_X1_39 (by omega) (Nat.le_of_ble_eq_true rfl) dX1_copy_15 fun r1 h2 => ?_
    refine x_icmp_ge 49 dX1_copy_18 (by decide) (fun _ => ?_) (fun _ => ?_)
    · exact x_sub [0, 1] rfl (WF_X1_copy_49 hdd x0 x1 h2)
    · refine x_aload_n 1 dX1_copy_21 rfl rfl ?_
      refine xg_X1_12 dX1_copy_22 ?_
      refine x_aload_n 0 dX1_copy_25 rfl rfl ?_
      refine xg_X1_12 dX1_copy_26 ?_
      refine x_iload_n 2 dX1_copy_29 rfl rfl ?_
      refine cl_X1_43 (by omega) (Nat.le_of_ble_eq_true rfl) dX1_copy_30 fun r3 h4 => ?_
      refine x_cast (C := RX5) 5 rfl (by decide) q1635 dX1_copy_33 ?_
      refine cl_X1_49 (by omega) (Nat.le_of_ble_eq_true rfl) dX1_copy_36 fun r5 h6 => ?_
      refine cl_X1_53 (by omega) (Nat.le_of_ble_eq_true rfl) dX1_copy_39 fun r7 h8 => ?_
      refine x_pop dX1_copy_42 rfl ?_
      refine x_iinc 2 dX1_copy_43 rfl (by decide) fun v9 => x_lv (lv' := [(2, (0, v9)), (0, (2, x0)), (1, (2, x1))]) rfl ?_
      refine x_goto 10 dX1_copy_46 (by decide) ?_
      exact x_sub [1, 2, 0] rfl (ih x0 x1 v9 h8)
noncomputable def F_X1_copy (x0 : Int) (h : XH) : Option XR := nw h 2 8 fun r1 h2 => pz r1 <| mb (F_X1_init r1 h2) fun r3 h4 => F_X1_copy_10 FU x0 r1 0 h4
theorem WF_X1_copy {d : Nat} {Z : XZ XR} (hdd : 7 ≤ d) : ∀ x0 h, XG xfh (xQ 3) RX1 "copy" cX1_copy 3 (some (.object "ExamSlips$Exam")) d Z 0 [(0, (2, x0))] [] h (F_X1_copy x0 h) := by
  intro x0 h
  unfold F_X1_copy
  refine xn_X1_13 dX1_copy_0 fun r1 h2 => ?_
  refine x_dup dX1_copy_3 rfl ?_
  refine cl_X1_38 (by omega) (Nat.le_of_ble_eq_true rfl) dX1_copy_4 fun r3 h4 => ?_
  refine x_astore_n (lv' := [(1, (2, r1)), (0, (2, x0))]) dX1_copy_7 rfl (by decide) rfl ?_
  refine x_ic dX1_copy_8 (by decide) (by decide) ?_
  refine x_istore_n (lv' := [(2, (0, 0)), (1, (2, r1)), (0, (2, x0))]) dX1_copy_9 rfl (by decide) rfl ?_
  exact x_sub [2, 1, 0] rfl (WF_X1_copy_10 hdd FU x0 r1 0 h4)
theorem SF_X1_copy (l : Launch) {d : Nat} (hdd : 7 ≤ d) (x0 : Int) (h : XH) (hok : okH h) (ho : okXs (xn h) [(2, x0)]) (fin : XR) (hf : F_X1_copy x0 h = some fin) : xSpec l yX1_copy cX1_copy 3 (some (.object "ExamSlips$Exam")) d 3 [(2, x0)] h fin := x_enter (lv := [(0, (2, x0))]) (by decide) rfl rfl (Nat.le_of_ble_eq_true rfl) rfl (fun Z _ => WF_X1_copy hdd x0 h) hok ho fin hf
theorem cl_X0_459 {ρ : Type} {fh : ρ → XH} {QQ : XZ ρ → State → Prop} {mn : String} {cc : ByteArray} {nL : Nat} {ret : Option FieldType} {d : Nat} {Z : XZ ρ} {pc : Nat} {lv : List (Nat × AV)} {st : List AV} {h : XH} {g : Int → XH → Option ρ} {b : Int} (hdd : 8 ≤ d) (hcat : (st.map fun v => if v.1 = 1 then 2 else 1).sum ≤ 8) (hdg : decode cc pc = .ok (.invokevirtual 459, 3)) (kk : ∀ r h1, XG fh QQ RX0 mn cc nL ret d Z (pc + 3) lv ((2, r) :: st) h1 (g r h1)) : XG fh QQ RX0 mn cc nL ret d Z pc lv ((2, b) :: st) h (ob h b 2 (mb (F_X1_copy b h) g)) :=
  x_callVr [] 0 (WF_X1_copy (Z := (Z.1, Z.2.1, ((0, h), h))) (Nat.le_refl 7) b h).1 (fun hok ho fin hf => SF_X1_copy (yL Z) (Nat.le_refl 7) b h hok ho fin hf) RX1 2 rfl (by decide) (lw_V q1627 q1628 q1629 q125 q1630) ⟨rfl, by decide +kernel, by decide +kernel, by decide +kernel⟩ rfl (by omega) (by decide) rfl hcat hdg kk
theorem xg_X0_56 {ρ : Type} {fh : ρ → XH} {QQ : XZ ρ → State → Prop} {mn : String} {cc : ByteArray} {nL : Nat} {ret : Option FieldType} {d : Nat} {Z : XZ ρ} {pc : Nat} {lv : List (Nat × AV)} {st : List AV} {h : XH} {res : Option ρ} {a : Int} (hd : decode cc pc = .ok (.getfield 56, 3)) (kk : XG fh QQ RX0 mn cc nL ret d Z (pc + 3) lv ((2, xv h a 1) :: st) h res) : XG fh QQ RX0 mn cc nL ret d Z pc lv ((2, a) :: st) h (ob h a 1 res) := x_get (C := RX0) (ref := RX0) 1 1 rfl in_X0 (by decide) rfl (by decide) (Or.inl rfl) q295 hd kk
noncomputable def F_X0_image (x0 : Int) (x1 : Int) (h : XH) : Option XR := mb (F_X0_in x1 0 1 h) fun r1 h2 => if r1 = 0 then (ob h2 x0 1 <| mb (F_X0_tell x0 (-1) h2) fun r8 h9 => some (r8, h9)) else (ob h2 x0 1 <| ob h2 x0 1 <| ob h2 (xv h2 x0 0) 2 <| mb (F_X1_copy (xv h2 x0 0) h2) fun r3 h4 => ai h4 (xv h2 x0 1) 5 x1 <| qst h4 r3 2 <| nm (hset h4 (xv h2 x0 1) x1 r3) fun h5 => ob h5 x0 1 <| mb (F_X0_tell x0 0 h5) fun r6 h7 => some (r6, h7))
theorem WF_X0_image {d : Nat} {Z : XZ XR} (hdd : 8 ≤ d) : ∀ x0 x1 h, XG xfh (xQ 0) RX0 "image" cX0_image 2 (some .int) d Z 0 [(0, (2, x0)), (1, (0, x1))] [] h (F_X0_image x0 x1 h) := by
  intro x0 x1 h
  unfold F_X0_image
  refine x_iload_n 1 dX0_image_0 rfl rfl ?_
  refine x_i2l dX0_image_1 ?_
  refine x_l0 dX0_image_2 ?_
  refine x_l1 dX0_image_3 ?_
  refine cl_X0_109 (by omega) (Nat.le_of_ble_eq_true rfl) dX0_image_4 fun r1 h2 => ?_
  refine x_if_ne 16 dX0_image_7 (by decide) (fun _ => ?_) (fun _ => ?_)
  · refine x_aload_n 0 dX0_image_16 rfl rfl ?_
    refine xg_X0_56 dX0_image_17 ?_
    refine x_iload_n 1 dX0_image_20 rfl rfl ?_
    refine x_aload_n 0 dX0_image_21 rfl rfl ?_
    refine xg_X0_17 dX0_image_22 ?_
    refine cl_X0_459 (by omega) (Nat.le_of_ble_eq_true rfl) dX0_image_25 fun r3 h4 => ?_
    refine x_aast 5 2 (by decide) (by decide) rfl rfl (by decide) (Or.inl rfl) dX0_image_28 fun h5 => ?_
    refine x_aload_n 0 dX0_image_29 rfl rfl ?_
    refine x_ic dX0_image_30 (by decide) (by decide) ?_
    refine cl_X0_133 (by omega) (Nat.le_of_ble_eq_true rfl) dX0_image_31 fun r6 h7 => ?_
    exact x_iret rfl dX0_image_34
  · refine x_aload_n 0 dX0_image_10 rfl rfl ?_
    refine x_ic dX0_image_11 (by decide) (by decide) ?_
    refine cl_X0_133 (by omega) (Nat.le_of_ble_eq_true rfl) dX0_image_12 fun r8 h9 => ?_
    exact x_iret rfl dX0_image_15
theorem SF_X0_image (l : Launch) {d : Nat} (hdd : 8 ≤ d) (x0 : Int) (x1 : Int) (h : XH) (hok : okH h) (ho : okXs (xn h) [(2, x0), (0, x1)]) (fin : XR) (hf : F_X0_image x0 x1 h = some fin) : xSpec l yX0_image cX0_image 2 (some .int) d 0 [(2, x0), (0, x1)] h fin := x_enter (lv := [(0, (2, x0)), (1, (0, x1))]) (by decide) rfl rfl (Nat.le_of_ble_eq_true rfl) rfl (fun Z _ => WF_X0_image hdd x0 x1 h) hok ho fin hf
noncomputable def F_X0_back (x0 : Int) (x1 : Int) (h : XH) : Option XR := mb (F_X0_in x1 0 1 h) fun r1 h2 => if r1 = 0 then (ob h2 x0 1 <| mb (F_X0_tell x0 (-1) h2) fun r10 h11 => some (r10, h11)) else (ob h2 x0 1 <| ai h2 (xv h2 x0 1) 5 x1 <| if xv h2 (xv h2 x0 1) x1 = 0 then (ob h2 x0 1 <| mb (F_X0_tell x0 (-2) h2) fun r3 h4 => some (r3, h4)) else (ob h2 x0 1 <| ai h2 (xv h2 x0 1) 5 x1 <| ob h2 (xv h2 (xv h2 x0 1) x1) 2 <| mb (F_X1_copy (xv h2 (xv h2 x0 1) x1) h2) fun r5 h6 => ob h6 x0 1 <| nm (hset h6 x0 0 r5) fun h7 => ob h7 x0 1 <| mb (F_X0_was x0 0 h7) fun r8 h9 => some (r8, h9)))
theorem WF_X0_back {d : Nat} {Z : XZ XR} (hdd : 8 ≤ d) : ∀ x0 x1 h, XG xfh (xQ 0) RX0 "back" cX0_back 2 (some .int) d Z 0 [(0, (2, x0)), (1, (0, x1))] [] h (F_X0_back x0 x1 h) := by
  intro x0 x1 h
  unfold F_X0_back
  refine x_iload_n 1 dX0_back_0 rfl rfl ?_
  refine x_i2l dX0_back_1 ?_
  refine x_l0 dX0_back_2 ?_
  refine x_l1 dX0_back_3 ?_
  refine cl_X0_109 (by omega) (Nat.le_of_ble_eq_true rfl) dX0_back_4 fun r1 h2 => ?_
  refine x_if_ne 16 dX0_back_7 (by decide) (fun _ => ?_) (fun _ => ?_)
  · refine x_aload_n 0 dX0_back_16 rfl rfl ?_
    refine xg_X0_56 dX0_back_17 ?_
    refine x_iload_n 1 dX0_back_20 rfl rfl ?_
    refine x_aald 5 _ (by decide) (by decide) rfl dX0_back_21 ?_
    refine x_ifnonnull 32 dX0_back_22 (by decide) (fun _ => ?_) (fun _ => ?_)
    · refine x_aload_n 0 dX0_back_25 rfl rfl ?_
      refine x_bp dX0_back_26 (by decide) (by decide) ?_
      refine cl_X0_133 (by omega) (Nat.le_of_ble_eq_true rfl) dX0_back_28 fun r3 h4 => ?_
      exact x_iret rfl dX0_back_31
    · refine x_aload_n 0 dX0_back_32 rfl rfl ?_
      refine x_aload_n 0 dX0_back_33 rfl rfl ?_
      refine xg_X0_56 dX0_back_34 ?_
      refine x_iload_n 1 dX0_back_37 rfl rfl ?_
      refine x_aald 5 _ (by decide) (by decide) rfl dX0_back_38 ?_
      refine cl_X0_459 (by omega) (Nat.le_of_ble_eq_true rfl) dX0_back_39 fun r5 h6 => ?_
      refine xp_X0_17 dX0_back_42 fun h7 => ?_
      refine x_aload_n 0 dX0_back_45 rfl rfl ?_
      refine x_ic dX0_back_46 (by decide) (by decide) ?_
      refine cl_X0_142 (by omega) (Nat.le_of_ble_eq_true rfl) dX0_back_47 fun r8 h9 => ?_
      exact x_iret rfl dX0_back_50
  · refine x_aload_n 0 dX0_back_10 rfl rfl ?_
    refine x_ic dX0_back_11 (by decide) (by decide) ?_
    refine cl_X0_133 (by omega) (Nat.le_of_ble_eq_true rfl) dX0_back_12 fun r10 h11 => ?_
    exact x_iret rfl dX0_back_15
theorem SF_X0_back (l : Launch) {d : Nat} (hdd : 8 ≤ d) (x0 : Int) (x1 : Int) (h : XH) (hok : okH h) (ho : okXs (xn h) [(2, x0), (0, x1)]) (fin : XR) (hf : F_X0_back x0 x1 h = some fin) : xSpec l yX0_back cX0_back 2 (some .int) d 0 [(2, x0), (0, x1)] h fin := x_enter (lv := [(0, (2, x0)), (1, (0, x1))]) (by decide) rfl rfl (Nat.le_of_ble_eq_true rfl) rfl (fun Z _ => WF_X0_back hdd x0 x1 h) hok ho fin hf
noncomputable def F_X0_count_110 : Nat → Int → Int → Int → XH → Option XR
  | 0, _, _, _, _ => none
  | n + 1, x0, x2, x3, h => ob h x0 1 <| mb (F_X0_many x0 h) fun r1 h2 => if r1 ≤ x3 then (some (x2, h2)) else (ob h2 x0 1 <| ob h2 (xv h2 x0 0) 2 <| ob h2 (xv h2 (xv h2 x0 0) 0) 26 <| mb (F_J2_get (xv h2 (xv h2 x0 0) 0) x3 h2) fun r3 h4 => ob h4 r3 5 <| ob h4 r3 5 <| nm (α := Int) (if xv h4 r3 3 ≤ 0 then 0 else 1) fun v5 => nm (α := Int) (w32 (x2 + v5)) fun v6 => nm (w32 (x3 + 1)) fun v7 => F_X0_count_110 n x0 v6 v7 h4)
theorem WF_X0_count_110 {d : Nat} {Z : XZ XR} (hdd : 5 ≤ d) : ∀ n x0 x2 x3 h, XG xfh (xQ 0) RX0 "count" cX0_count 4 (some .int) d Z 110 [(0, (2, x0)), (2, (0, x2)), (3, (0, x3))] [] h (F_X0_count_110 n x0 x2 x3 h) := by
  intro n
  induction n with
  | zero => intro x0 x2 x3 h; exact x_none
  | succ n ih =>
    intro x0 x2 x3 h
    rw [F_X0_count_110]
    refine x_iload_n 2 dX0_count_110 rfl rfl ?_
    refine x_aload_n 0 dX0_count_111 rfl rfl ?_
    refine cl_X0_13 (by omega) (Nat.le_of_ble_eq_true rfl) dX0_count_112 fun r1 h2 => ?_
    refine x_icmp_ge 152 dX0_count_115 (by decide) (fun _ => ?_) (fun _ => ?_)
    · refine x_iload_n 1 dX0_count_152 rfl rfl ?_
      exact x_iret rfl dX0_count_153
    · refine x_iload_n 1 dX0_count_118 rfl rfl ?_
      refine x_aload_n 0 dX0_count_119 rfl rfl ?_
      refine xg_X0_17 dX0_count_120 ?_
      refine xg_X0_21 dX0_count_123 ?_
      refine x_iload_n 2 dX0_count_126 rfl rfl ?_
      refine cl_X0_27 (by omega) (Nat.le_of_ble_eq_true rfl) dX0_count_127 fun r3 h4 => ?_
      refine x_cast (C := RX5) 5 rfl (by decide) q374 dX0_count_130 ?_
      refine xg_X0_39 dX0_count_133 ?_
      refine x_join 144 (fun v5 => [(0, v5), (0, x2)]) (fun v5 => ?_) (fun hJ => ?_)
      · refine x_iadd dX0_count_144 ?_
        refine x_nmT fun v6 => ?_
        refine x_istore_n (lv' := [(2, (0, v6)), (0, (2, x0)), (3, (0, x3))]) dX0_count_145 rfl (by decide) rfl ?_
        refine x_iinc 2 dX0_count_146 rfl (by decide) fun v7 => x_lv (lv' := [(3, (0, v7)), (2, (0, v6)), (0, (2, x0))]) rfl ?_
        refine x_goto 110 dX0_count_149 (by decide) ?_
        exact x_sub [2, 1, 0] rfl (ih x0 v6 v7 h4)
      · refine x_if_leF 143 dX0_count_136 (by decide) (fun _ => ?_) (fun _ => ?_)
        · refine x_ic dX0_count_143 (by decide) (by decide) ?_
          exact hJ _
        · refine x_ic dX0_count_139 (by decide) (by decide) ?_
          refine x_goto 144 dX0_count_140 (by decide) ?_
          exact hJ _
noncomputable def F_X0_count (x0 : Int) (x1 : Int) (h : XH) : Option XR := if x1 = 0 then (ob h x0 1 <| mb (F_X0_many x0 h) fun r1 h2 => some (r1, h2)) else if x1 = 1 then (ob h x0 1 <| mb (F_X0_inBowl x0 h) fun r3 h4 => some (r3, h4)) else if x1 = 2 then (ob h x0 1 <| ob h (xv h x0 0) 2 <| ob h (xv h (xv h x0 0) 1) 26 <| mb (F_J2_size (xv h (xv h x0 0) 1) h) fun r5 h6 => some (r5, h6)) else if x1 = 3 then (ob h x0 1 <| ob h (xv h x0 0) 2 <| ob h (xv h (xv h x0 0) 2) 26 <| mb (F_J2_size (xv h (xv h x0 0) 2) h) fun r7 h8 => some (r7, h8)) else if x1 = 4 then (ob h x0 1 <| ob h (xv h x0 0) 2 <| some (xv h (xv h x0 0) 6, h)) else if x1 = 5 then (F_X0_count_110 FU x0 0 0 h) else if x1 = 6 then (ob h x0 1 <| some (xv h x0 12, h)) else if x1 = 7 then (ob h x0 1 <| ai h (xv h x0 4) 0 1 <| some (xv h (xv h x0 4) 1, h)) else if x1 = 8 then (ob h x0 1 <| ai h (xv h x0 4) 0 2 <| some (xv h (xv h x0 4) 2, h)) else if x1 = 9 then (ob h x0 1 <| ai h (xv h x0 4) 0 3 <| some (xv h (xv h x0 4) 3, h)) else if x1 = 10 then (ob h x0 1 <| ai h (xv h x0 4) 0 5 <| some (xv h (xv h x0 4) 5, h)) else if x1 = 11 then (ob h x0 1 <| ai h (xv h x0 4) 0 6 <| some (xv h (xv h x0 4) 6, h)) else if x1 = 12 then (ob h x0 1 <| ob h (xv h x0 0) 2 <| some (xv h (xv h x0 0) 7, h)) else (some ((-1), h))
theorem WF_X0_count {d : Nat} {Z : XZ XR} (hdd : 5 ≤ d) : ∀ x0 x1 h, XG xfh (xQ 0) RX0 "count" cX0_count 4 (some .int) d Z 0 [(0, (2, x0)), (1, (0, x1))] [] h (F_X0_count x0 x1 h) := by
  intro x0 x1 h
  unfold F_X0_count
  refine x_ic dX0_count_0 (by decide) (by decide) ?_
  refine x_istore_n (lv' := [(2, (0, 0)), (0, (2, x0)), (1, (0, x1))]) dX0_count_1 rfl (by decide) rfl ?_
  refine x_iload_n 2 dX0_count_2 rfl rfl ?_
  refine x_tswC (c := 0) 68 dX0_count_3 ⟨by decide, by decide⟩ (by decide) (by decide) rfl (by decide) (fun _ => ?_) (fun _ => ?_)
  · refine x_aload_n 1 dX0_count_68 rfl rfl ?_
    refine cl_X0_13 (by omega) (Nat.le_of_ble_eq_true rfl) dX0_count_69 fun r1 h2 => ?_
    exact x_iret rfl dX0_count_72
  refine x_tswC (c := 1) 73 dX0_count_3 ⟨by decide, by decide⟩ (by decide) (by decide) rfl (by decide) (fun _ => ?_) (fun _ => ?_)
  · refine x_aload_n 1 dX0_count_73 rfl rfl ?_
    refine cl_X0_255 (by omega) (Nat.le_of_ble_eq_true rfl) dX0_count_74 fun r3 h4 => ?_
    exact x_iret rfl dX0_count_77
  refine x_tswC (c := 2) 78 dX0_count_3 ⟨by decide, by decide⟩ (by decide) (by decide) rfl (by decide) (fun _ => ?_) (fun _ => ?_)
  · refine x_aload_n 1 dX0_count_78 rfl rfl ?_
    refine xg_X0_17 dX0_count_79 ?_
    refine xg_X0_113 dX0_count_82 ?_
    refine cl_X0_106 (by omega) (Nat.le_of_ble_eq_true rfl) dX0_count_85 fun r5 h6 => ?_
    exact x_iret rfl dX0_count_88
  refine x_tswC (c := 3) 89 dX0_count_3 ⟨by decide, by decide⟩ (by decide) (by decide) rfl (by decide) (fun _ => ?_) (fun _ => ?_)
  · refine x_aload_n 1 dX0_count_89 rfl rfl ?_
    refine xg_X0_17 dX0_count_90 ?_
    refine xg_X0_299 dX0_count_93 ?_
    refine cl_X0_106 (by omega) (Nat.le_of_ble_eq_true rfl) dX0_count_96 fun r7 h8 => ?_
    exact x_iret rfl dX0_count_99
  refine x_tswC (c := 4) 100 dX0_count_3 ⟨by decide, by decide⟩ (by decide) (by decide) rfl (by decide) (fun _ => ?_) (fun _ => ?_)
  · refine x_aload_n 1 dX0_count_100 rfl rfl ?_
    refine xg_X0_17 dX0_count_101 ?_
    refine xg_X0_361 dX0_count_104 ?_
    exact x_iret rfl dX0_count_107
  refine x_tswC (c := 5) 108 dX0_count_3 ⟨by decide, by decide⟩ (by decide) (by decide) rfl (by decide) (fun _ => ?_) (fun _ => ?_)
  · refine x_ic dX0_count_108 (by decide) (by decide) ?_
    refine x_istore_n (lv' := [(3, (0, 0)), (2, (0, 0)), (0, (2, x0)), (1, (0, x1))]) dX0_count_109 rfl (by decide) rfl ?_
    exact x_sub [2, 1, 0] rfl (WF_X0_count_110 hdd FU x0 0 0 h)
  refine x_tswC (c := 6) 154 dX0_count_3 ⟨by decide, by decide⟩ (by decide) (by decide) rfl (by decide) (fun _ => ?_) (fun _ => ?_)
  · refine x_aload_n 1 dX0_count_154 rfl rfl ?_
    refine xg_X0_122 dX0_count_155 ?_
    exact x_iret rfl dX0_count_158
  refine x_tswC (c := 7) 159 dX0_count_3 ⟨by decide, by decide⟩ (by decide) (by decide) rfl (by decide) (fun _ => ?_) (fun _ => ?_)
  · refine x_aload_n 1 dX0_count_159 rfl rfl ?_
    refine xg_X0_78 dX0_count_160 ?_
    refine x_ic dX0_count_163 (by decide) (by decide) ?_
    refine x_iald dX0_count_164 ?_
    exact x_iret rfl dX0_count_165
  refine x_tswC (c := 8) 166 dX0_count_3 ⟨by decide, by decide⟩ (by decide) (by decide) rfl (by decide) (fun _ => ?_) (fun _ => ?_)
  · refine x_aload_n 1 dX0_count_166 rfl rfl ?_
    refine xg_X0_78 dX0_count_167 ?_
    refine x_ic dX0_count_170 (by decide) (by decide) ?_
    refine x_iald dX0_count_171 ?_
    exact x_iret rfl dX0_count_172
  refine x_tswC (c := 9) 173 dX0_count_3 ⟨by decide, by decide⟩ (by decide) (by decide) rfl (by decide) (fun _ => ?_) (fun _ => ?_)
  · refine x_aload_n 1 dX0_count_173 rfl rfl ?_
    refine xg_X0_78 dX0_count_174 ?_
    refine x_ic dX0_count_177 (by decide) (by decide) ?_
    refine x_iald dX0_count_178 ?_
    exact x_iret rfl dX0_count_179
  refine x_tswC (c := 10) 180 dX0_count_3 ⟨by decide, by decide⟩ (by decide) (by decide) rfl (by decide) (fun _ => ?_) (fun _ => ?_)
  · refine x_aload_n 1 dX0_count_180 rfl rfl ?_
    refine xg_X0_78 dX0_count_181 ?_
    refine x_ic dX0_count_184 (by decide) (by decide) ?_
    refine x_iald dX0_count_185 ?_
    exact x_iret rfl dX0_count_186
  refine x_tswC (c := 11) 187 dX0_count_3 ⟨by decide, by decide⟩ (by decide) (by decide) rfl (by decide) (fun _ => ?_) (fun _ => ?_)
  · refine x_aload_n 1 dX0_count_187 rfl rfl ?_
    refine xg_X0_78 dX0_count_188 ?_
    refine x_bp dX0_count_191 (by decide) (by decide) ?_
    refine x_iald dX0_count_193 ?_
    exact x_iret rfl dX0_count_194
  refine x_tswC (c := 12) 195 dX0_count_3 ⟨by decide, by decide⟩ (by decide) (by decide) rfl (by decide) (fun _ => ?_) (fun _ => ?_)
  · refine x_aload_n 1 dX0_count_195 rfl rfl ?_
    refine xg_X0_17 dX0_count_196 ?_
    refine xg_X0_116 dX0_count_199 ?_
    exact x_iret rfl dX0_count_202
  refine x_tswO 203 dX0_count_3 (by omega) (by decide) ?_
  refine x_ic dX0_count_203 (by decide) (by decide) ?_
  exact x_iret rfl dX0_count_204
theorem SF_X0_count (l : Launch) {d : Nat} (hdd : 5 ≤ d) (x0 : Int) (x1 : Int) (h : XH) (hok : okH h) (ho : okXs (xn h) [(2, x0), (0, x1)]) (fin : XR) (hf : F_X0_count x0 x1 h = some fin) : xSpec l yX0_count cX0_count 4 (some .int) d 0 [(2, x0), (0, x1)] h fin := x_enter (lv := [(0, (2, x0)), (1, (0, x1))]) (by decide) rfl rfl (Nat.le_of_ble_eq_true rfl) rfl (fun Z _ => WF_X0_count hdd x0 x1 h) hok ho fin hf
