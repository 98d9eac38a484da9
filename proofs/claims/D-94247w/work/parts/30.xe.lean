/-! printed by tools/genx.py: the system's methods as pure functions over named cells, and their walks -/
set_option maxRecDepth 100000
set_option maxHeartbeats 4000000
theorem cl_X0_274 {ρ : Type} {fh : ρ → XH} {QQ : XZ ρ → State → Prop} {mn : String} {cc : ByteArray} {nL : Nat} {ret : Option FieldType} {d : Nat} {Z : XZ ρ} {pc : Nat} {lv : List (Nat × AV)} {st : List AV} {h : XH} {g : Int → XH → Option ρ} {a0 : Int} (hdd : 3 ≤ d) (hcat : (st.map fun v => if v.1 = 1 then 2 else 1).sum ≤ 8) (hdg : decode cc pc = .ok (.invokestatic 274, 3)) (kk : ∀ r h1, XG fh QQ RX0 mn cc nL ret d Z (pc + 3) lv ((0, r) :: st) h1 (g r h1)) : XG fh QQ RX0 mn cc nL ret d Z pc lv ((0, a0) :: st) h (mb (F_X0_isHours a0 h) g) :=
  x_callSi [(0, a0)] 1 (WF_X0_isHours (Z := (Z.1, Z.2.1, ((0, h), h))) (Nat.le_refl 2) a0 h).1 (fun hok ho fin hf => SF_X0_isHours (yL Z) (Nat.le_refl 2) a0 h hok ho fin hf) (lw_S q1146 q1147 q124 q1148) ⟨by decide +kernel, by decide +kernel, by decide +kernel⟩ rfl (by omega) (by decide) rfl hcat hdg kk
theorem cl_X0_277 {ρ : Type} {fh : ρ → XH} {QQ : XZ ρ → State → Prop} {mn : String} {cc : ByteArray} {nL : Nat} {ret : Option FieldType} {d : Nat} {Z : XZ ρ} {pc : Nat} {lv : List (Nat × AV)} {st : List AV} {h : XH} {g : Int → XH → Option ρ} {b : Int} (hdd : 132 ≤ d) (hcat : (st.map fun v => if v.1 = 1 then 2 else 1).sum ≤ 8) (hdg : decode cc pc = .ok (.invokevirtual 277, 3)) (kk : ∀ r h1, XG fh QQ RX0 mn cc nL ret d Z (pc + 3) lv ((2, r) :: st) h1 (g r h1)) : XG fh QQ RX0 mn cc nL ret d Z pc lv ((2, b) :: st) h (ob h b 1 (mb (F_X0_schemes b h) g)) :=
  x_callVr [] 0 (WF_X0_schemes (Z := (Z.1, Z.2.1, ((0, h), h))) (Nat.le_refl 131) b h).1 (fun hok ho fin hf => SF_X0_schemes (yL Z) (Nat.le_refl 131) b h hok ho fin hf) RX0 1 rfl (by decide) (lw_V q1150 q1152 qs38 q124 q1153) ⟨rfl, by decide +kernel, by decide +kernel, by decide +kernel⟩ rfl (by omega) (by decide) rfl hcat hdg kk
theorem cl_X0_281 {ρ : Type} {fh : ρ → XH} {QQ : XZ ρ → State → Prop} {mn : String} {cc : ByteArray} {nL : Nat} {ret : Option FieldType} {d : Nat} {Z : XZ ρ} {pc : Nat} {lv : List (Nat × AV)} {st : List AV} {h : XH} {g : Int → XH → Option ρ} {b a0 : Int} (hdd : 5 ≤ d) (hcat : (st.map fun v => if v.1 = 1 then 2 else 1).sum ≤ 8) (hdg : decode cc pc = .ok (.invokevirtual 281, 3)) (kk : ∀ r h1, XG fh QQ RX0 mn cc nL ret d Z (pc + 3) lv ((0, r) :: st) h1 (g r h1)) : XG fh QQ RX0 mn cc nL ret d Z pc lv ((0, a0) :: (2, b) :: st) h (ob h b 18 (mb (F_X20_hours b a0 h) g)) :=
  x_callVi [(0, a0)] 1 (WF_X20_hours (Z := (Z.1, Z.2.1, ((0, h), h))) (Nat.le_refl 4) b a0 h).1 (fun hok ho fin hf => SF_X20_hours (yL Z) (Nat.le_refl 4) b a0 h hok ho fin hf) RX20 18 rfl (by decide) (lw_V q1220 q1221 q1222 q158 q1223) ⟨rfl, by decide +kernel, by decide +kernel, by decide +kernel⟩ rfl (by omega) (by decide) rfl hcat hdg kk
theorem cl_X0_284 {ρ : Type} {fh : ρ → XH} {QQ : XZ ρ → State → Prop} {mn : String} {cc : ByteArray} {nL : Nat} {ret : Option FieldType} {d : Nat} {Z : XZ ρ} {pc : Nat} {lv : List (Nat × AV)} {st : List AV} {h : XH} {g : Int → XH → Option ρ} {b a0 : Int} (hdd : 4 ≤ d) (hcat : (st.map fun v => if v.1 = 1 then 2 else 1).sum ≤ 8) (hdg : decode cc pc = .ok (.invokevirtual 284, 3)) (kk : ∀ r h1, XG fh QQ RX0 mn cc nL ret d Z (pc + 3) lv ((1, r) :: st) h1 (g r h1)) : XG fh QQ RX0 mn cc nL ret d Z pc lv ((0, a0) :: (2, b) :: st) h (ob h b 18 (mb (F_X20_most b a0 h) g)) :=
  x_callVl [(0, a0)] 1 (WF_X20_most (Z := (Z.1, Z.2.1, ((0, h), h))) (Nat.le_refl 3) b a0 h).1 (fun hok ho fin hf => SF_X20_most (yL Z) (Nat.le_refl 3) b a0 h hok ho fin hf) RX20 18 rfl (by decide) (lw_V q1234 q1225 q1226 q158 q1227) ⟨rfl, by decide +kernel, by decide +kernel, by decide +kernel⟩ rfl (by omega) (by decide) rfl hcat hdg kk
theorem xg_X0_286 {ρ : Type} {fh : ρ → XH} {QQ : XZ ρ → State → Prop} {mn : String} {cc : ByteArray} {nL : Nat} {ret : Option FieldType} {d : Nat} {Z : XZ ρ} {pc : Nat} {lv : List (Nat × AV)} {st : List AV} {h : XH} {res : Option ρ} {a : Int} (hd : decode cc pc = .ok (.getfield 286, 3)) (kk : XG fh QQ RX0 mn cc nL ret d Z (pc + 3) lv ((1, xv h a 3) :: st) h res) : XG fh QQ RX0 mn cc nL ret d Z pc lv ((2, a) :: st) h (ob h a 18 res) := x_getN (C := RX20) (ref := RX20) 18 3 rfl in_X20 (by decide) rfl (by decide) (Or.inl rfl) q1207 hd kk
noncomputable def F_X0_best_19 (h : XH) : Option XR := some ((-1), h)
theorem WF_X0_best_19 {d : Nat} {Z : XZ XR} (hdd : 132 ≤ d) : ∀ h, XG xfh (xQ 1) RX0 "best" cX0_best 4 (some .long) d Z 19 [] [] h (F_X0_best_19 h) := by
  intro h
  unfold F_X0_best_19
  refine x_ldc2 (n := -1) q1104 dX0_best_19 (by decide +kernel) ⟨by decide, by decide⟩ ?_
  exact x_lret rfl dX0_best_22
noncomputable def F_X0_best (x0 : Int) (x1 : Int) (x2 : Int) (h : XH) : Option XR := mb (F_X0_isHours x1 h) fun r1 h2 => if r1 = 0 then (F_X0_best_19 h2) else (mb (F_X0_in x2 0 2 h2) fun r3 h4 => if r3 = 0 then (F_X0_best_19 h4) else (ob h4 x0 1 <| mb (F_X0_schemes x0 h4) fun r5 h6 => if x2 = 2 then (ob h6 r5 18 <| mb (F_X20_hours r5 x1 h6) fun r15 h16 => some (r15, h16)) else (nw h6 17 2 fun r7 h8 => ob h8 r5 18 <| mb (F_X20_most r5 x1 h8) fun r9 h10 => ob h10 r5 18 <| pz r7 <| mb (F_X19_init r7 r9 (xv h10 r5 3) h10) fun r11 h12 => ob h12 r7 17 <| mb (F_X19_part r7 x2 h12) fun r13 h14 => some (r13, h14))))
theorem WF_X0_best {d : Nat} {Z : XZ XR} (hdd : 132 ≤ d) : ∀ x0 x1 x2 h, XG xfh (xQ 1) RX0 "best" cX0_best 4 (some .long) d Z 0 [(0, (2, x0)), (1, (0, x1)), (2, (0, x2))] [] h (F_X0_best x0 x1 x2 h) := by
  intro x0 x1 x2 h
  unfold F_X0_best
  refine x_iload_n 1 dX0_best_0 rfl rfl ?_
  refine cl_X0_274 (by omega) (Nat.le_of_ble_eq_true rfl) dX0_best_1 fun r1 h2 => ?_
  refine x_if_eq 19 dX0_best_4 (by decide) (fun _ => ?_) (fun _ => ?_)
  · exact x_sub [] rfl (WF_X0_best_19 hdd h2)
  · refine x_iload_n 2 dX0_best_7 rfl rfl ?_
    refine x_i2l dX0_best_8 ?_
    refine x_l0 dX0_best_9 ?_
    refine x_ldc2 (n := 2) q491 dX0_best_10 (by decide +kernel) ⟨by decide, by decide⟩ ?_
    refine cl_X0_109 (by omega) (Nat.le_of_ble_eq_true rfl) dX0_best_13 fun r3 h4 => ?_
    refine x_if_ne 23 dX0_best_16 (by decide) (fun _ => ?_) (fun _ => ?_)
    · refine x_aload_n 0 dX0_best_23 rfl rfl ?_
      refine cl_X0_277 (by omega) (Nat.le_of_ble_eq_true rfl) dX0_best_24 fun r5 h6 => ?_
      refine x_astore_n (lv' := [(3, (2, r5)), (0, (2, x0)), (1, (0, x1)), (2, (0, x2))]) dX0_best_27 rfl (by decide) rfl ?_
      refine x_iload_n 3 dX0_best_28 rfl rfl ?_
      refine x_ic dX0_best_29 (by decide) (by decide) ?_
      refine x_icmp_ne 42 dX0_best_30 (by decide) (fun _ => ?_) (fun _ => ?_)
      · refine xn_X0_232 dX0_best_42 fun r7 h8 => ?_
        refine x_dup dX0_best_45 rfl ?_
        refine x_aload_n 0 dX0_best_46 rfl rfl ?_
        refine x_iload_n 2 dX0_best_47 rfl rfl ?_
        refine cl_X0_284 (by omega) (Nat.le_of_ble_eq_true rfl) dX0_best_48 fun r9 h10 => ?_
        refine x_aload_n 0 dX0_best_51 rfl rfl ?_
        refine xg_X0_286 dX0_best_52 ?_
        refine cl_X0_252 (by omega) (Nat.le_of_ble_eq_true rfl) dX0_best_55 fun r11 h12 => ?_
        refine x_iload_n 3 dX0_best_58 rfl rfl ?_
        refine cl_X0_231 (by omega) (Nat.le_of_ble_eq_true rfl) dX0_best_59 fun r13 h14 => ?_
        exact x_lret rfl dX0_best_62
      · refine x_aload_n 0 dX0_best_33 rfl rfl ?_
        refine x_iload_n 2 dX0_best_34 rfl rfl ?_
        refine cl_X0_281 (by omega) (Nat.le_of_ble_eq_true rfl) dX0_best_35 fun r15 h16 => ?_
        refine x_i2l dX0_best_38 ?_
        refine x_goto 62 dX0_best_39 (by decide) ?_
        exact x_lret rfl dX0_best_62
    · exact x_sub [] rfl (WF_X0_best_19 hdd h4)
theorem SF_X0_best (l : Launch) {d : Nat} (hdd : 132 ≤ d) (x0 : Int) (x1 : Int) (x2 : Int) (h : XH) (hok : okH h) (ho : okXs (xn h) [(2, x0), (0, x1), (0, x2)]) (fin : XR) (hf : F_X0_best x0 x1 x2 h = some fin) : xSpec l yX0_best cX0_best 4 (some .long) d 1 [(2, x0), (0, x1), (0, x2)] h fin := x_enter (lv := [(0, (2, x0)), (1, (0, x1)), (2, (0, x2))]) (by decide) rfl rfl (Nat.le_of_ble_eq_true rfl) rfl (fun Z _ => WF_X0_best hdd x0 x1 x2 h) hok ho fin hf
noncomputable def F_X20_isAhead_17 (x1 : Int) (x2 : Int) (x3 : Int) (h : XH) : Option XR := ai h x1 0 x3 <| ai h x2 0 x3 <| nm (α := Int) (if xv h x2 x3 ≤ xv h x1 x3 then 0 else 1) fun v1 => cb v1 (some (v1, h))
theorem WF_X20_isAhead_17 {d : Nat} {Z : XZ XR} (hdd : 1 ≤ d) : ∀ x1 x2 x3 h, XG xfh (xQ 0) RX20 "isAhead" cX20_isAhead 4 (some .boolean) d Z 17 [(1, (2, x1)), (2, (2, x2)), (3, (0, x3))] [] h (F_X20_isAhead_17 x1 x2 x3 h) := by
  intro x1 x2 x3 h
  unfold F_X20_isAhead_17
  refine x_aload_n 0 dX20_isAhead_17 rfl rfl ?_
  refine x_iload_n 2 dX20_isAhead_18 rfl rfl ?_
  refine x_iald dX20_isAhead_19 ?_
  refine x_aload_n 1 dX20_isAhead_20 rfl rfl ?_
  refine x_iload_n 2 dX20_isAhead_21 rfl rfl ?_
  refine x_iald dX20_isAhead_22 ?_
  refine x_join 31 (fun v1 => [(0, v1)]) (fun v1 => ?_) (fun hJ => ?_)
  · exact x_zret rfl dX20_isAhead_31
  · refine x_icmp_geF 30 dX20_isAhead_23 (by decide) (fun _ => ?_) (fun _ => ?_)
    · refine x_ic dX20_isAhead_30 (by decide) (by decide) ?_
      exact hJ _
    · refine x_ic dX20_isAhead_26 (by decide) (by decide) ?_
      refine x_goto 31 dX20_isAhead_27 (by decide) ?_
      exact hJ _
noncomputable def F_X20_isAhead_2 : Nat → Int → Int → Int → XH → Option XR
  | 0, _, _, _, _ => none
  | n + 1, x1, x2, x3, h => al h x1 0 <| if (xl h x1 : Int) ≤ x3 then (some (0, h)) else (ai h x1 0 x3 <| ai h x2 0 x3 <| if xv h x1 x3 = xv h x2 x3 then (nm (w32 (x3 + 1)) fun v1 => F_X20_isAhead_2 n x1 x2 v1 h) else (F_X20_isAhead_17 x1 x2 x3 h))
theorem WF_X20_isAhead_2 {d : Nat} {Z : XZ XR} (hdd : 1 ≤ d) : ∀ n x1 x2 x3 h, XG xfh (xQ 0) RX20 "isAhead" cX20_isAhead 4 (some .boolean) d Z 2 [(1, (2, x1)), (2, (2, x2)), (3, (0, x3))] [] h (F_X20_isAhead_2 n x1 x2 x3 h) := by
  intro n
  induction n with
  | zero => intro x1 x2 x3 h; exact x_none
  | succ n ih =>
    intro x1 x2 x3 h
    rw [F_X20_isAhead_2]
    refine x_iload_n 2 dX20_isAhead_2 rfl rfl ?_
    refine x_aload_n 0 dX20_isAhead_3 rfl rfl ?_
    refine x_alen 0 (by decide) dX20_isAhead_4 ?_
    refine x_icmp_ge 38 dX20_isAhead_5 (by decide) (fun _ => ?_) (fun _ => ?_)
    · refine x_ic dX20_isAhead_38 (by decide) (by decide) ?_
      exact x_cb (by decide) (x_zret rfl dX20_isAhead_39)
    · refine x_aload_n 0 dX20_isAhead_8 rfl rfl ?_
      refine x_iload_n 2 dX20_isAhead_9 rfl rfl ?_
      refine x_iald dX20_isAhead_10 ?_
      refine x_aload_n 1 dX20_isAhead_11 rfl rfl ?_
      refine x_iload_n 2 dX20_isAhead_12 rfl rfl ?_
      refine x_iald dX20_isAhead_13 ?_
      refine x_icmp_eq 32 dX20_isAhead_14 (by decide) (fun _ => ?_) (fun _ => ?_)
      · refine x_iinc 2 dX20_isAhead_32 rfl (by decide) fun v1 => x_lv (lv' := [(3, (0, v1)), (1, (2, x1)), (2, (2, x2))]) rfl ?_
        refine x_goto 2 dX20_isAhead_35 (by decide) ?_
        exact x_sub [1, 2, 0] rfl (ih x1 x2 v1 h)
      · exact x_sub [0, 1, 2] rfl (WF_X20_isAhead_17 hdd x1 x2 x3 h)
noncomputable def F_X20_isAhead (x0 : Int) (x1 : Int) (x2 : Int) (h : XH) : Option XR := F_X20_isAhead_2 FU x1 x2 0 h
theorem WF_X20_isAhead {d : Nat} {Z : XZ XR} (hdd : 1 ≤ d) : ∀ x0 x1 x2 h, XG xfh (xQ 0) RX20 "isAhead" cX20_isAhead 4 (some .boolean) d Z 0 [(0, (2, x0)), (1, (2, x1)), (2, (2, x2))] [] h (F_X20_isAhead x0 x1 x2 h) := by
  intro x0 x1 x2 h
  unfold F_X20_isAhead
  refine x_ic dX20_isAhead_0 (by decide) (by decide) ?_
  refine x_istore_n (lv' := [(3, (0, 0)), (0, (2, x0)), (1, (2, x1)), (2, (2, x2))]) dX20_isAhead_1 rfl (by decide) rfl ?_
  exact x_sub [2, 3, 0] rfl (WF_X20_isAhead_2 hdd FU x1 x2 0 h)
theorem SF_X20_isAhead (l : Launch) {d : Nat} (hdd : 1 ≤ d) (x0 : Int) (x1 : Int) (x2 : Int) (h : XH) (hok : okH h) (ho : okXs (xn h) [(2, x0), (2, x1), (2, x2)]) (fin : XR) (hf : F_X20_isAhead x0 x1 x2 h = some fin) : xSpec l yX20_isAhead cX20_isAhead 4 (some .boolean) d 0 [(2, x0), (2, x1), (2, x2)] h fin := x_enter (lv := [(0, (2, x0)), (1, (2, x1)), (2, (2, x2))]) (by decide) rfl rfl (Nat.le_of_ble_eq_true rfl) rfl (fun Z _ => WF_X20_isAhead hdd x0 x1 x2 h) hok ho fin hf
noncomputable def F_X20_rowOf_73 (K20 : Int → Int → Int → Int → Int → Int → XH → Option XR) (x0 : Int) (x3 : Int) (x4 : Int) (x5 : Int) (x6 : Int) (x7 : Int) (x8 : Int) (h : XH) : Option XR := ai h x3 0 x7 <| nm (hset h x3 x7 x8) fun h1 => nm (α := Int) (if x8 = 1 then 1 else 0) fun v2 => nm (α := Int) (w32 (x4 - v2)) fun v3 => nm (α := Int) (if x8 = 2 then 1 else 0) fun v4 => nm (α := Int) (w32 (x5 - v4)) fun v5 => ob h1 x0 18 <| mb (F_X20_after x0 x7 x8 x6 h1) fun r6 h7 => nm (w32 (x7 + 1)) fun v8 => K20 x0 x3 v3 v5 r6 v8 h7
theorem WF_X20_rowOf_73 {d : Nat} {Z : XZ XR} (hdd : 129 ≤ d) {K20 : Int → Int → Int → Int → Int → Int → XH → Option XR} (hK20 : ∀ x0 x3 x4 x5 x6 x7 h, XG xfh (xQ 3) RX20 "rowOf" cX20_rowOf 9 (some (.array .int)) d Z 20 [(0, (2, x0)), (3, (2, x3)), (4, (0, x4)), (5, (0, x5)), (6, (0, x6)), (7, (0, x7))] [] h (K20 x0 x3 x4 x5 x6 x7 h)) : ∀ x0 x3 x4 x5 x6 x7 x8 h, XG xfh (xQ 3) RX20 "rowOf" cX20_rowOf 9 (some (.array .int)) d Z 73 [(0, (2, x0)), (3, (2, x3)), (4, (0, x4)), (5, (0, x5)), (6, (0, x6)), (7, (0, x7)), (8, (0, x8))] [] h (F_X20_rowOf_73 K20 x0 x3 x4 x5 x6 x7 x8 h) := by
  intro x0 x3 x4 x5 x6 x7 x8 h
  unfold F_X20_rowOf_73
  refine x_aload_n 1 dX20_rowOf_73 rfl rfl ?_
  refine x_iload 5 dX20_rowOf_74 rfl ?_
  refine x_iload 6 dX20_rowOf_76 rfl ?_
  refine x_iast dX20_rowOf_78 fun h1 => ?_
  refine x_iload 2 dX20_rowOf_79 rfl ?_
  refine x_iload 6 dX20_rowOf_81 rfl ?_
  refine x_ic dX20_rowOf_83 (by decide) (by decide) ?_
  refine x_join 92 (fun v2 => [(0, v2), (0, x4)]) (fun v2 => ?_) (fun hJ => ?_)
  · refine x_isub dX20_rowOf_92 ?_
    refine x_nmT fun v3 => ?_
    refine x_istore (lv' := [(4, (0, v3)), (0, (2, x0)), (3, (2, x3)), (5, (0, x5)), (6, (0, x6)), (7, (0, x7)), (8, (0, x8))]) dX20_rowOf_93 (by decide) rfl ?_
    refine x_iload 3 dX20_rowOf_95 rfl ?_
    refine x_iload 6 dX20_rowOf_97 rfl ?_
    refine x_ic dX20_rowOf_99 (by decide) (by decide) ?_
    refine x_join 108 (fun v4 => [(0, v4), (0, x5)]) (fun v4 => ?_) (fun hJ => ?_)
    · refine x_isub dX20_rowOf_108 ?_
      refine x_nmT fun v5 => ?_
      refine x_istore (lv' := [(5, (0, v5)), (4, (0, v3)), (0, (2, x0)), (3, (2, x3)), (6, (0, x6)), (7, (0, x7)), (8, (0, x8))]) dX20_rowOf_109 (by decide) rfl ?_
      refine x_aload_n 2 dX20_rowOf_111 rfl rfl ?_
      refine x_iload 5 dX20_rowOf_112 rfl ?_
      refine x_iload 6 dX20_rowOf_114 rfl ?_
      refine x_iload 4 dX20_rowOf_116 rfl ?_
      refine cl_X20_125 (by omega) (Nat.le_of_ble_eq_true rfl) dX20_rowOf_118 fun r6 h7 => ?_
      refine x_istore (lv' := [(6, (0, r6)), (5, (0, v5)), (4, (0, v3)), (0, (2, x0)), (3, (2, x3)), (7, (0, x7)), (8, (0, x8))]) dX20_rowOf_121 (by decide) rfl ?_
      refine x_iinc 5 dX20_rowOf_123 rfl (by decide) fun v8 => x_lv (lv' := [(7, (0, v8)), (6, (0, r6)), (5, (0, v5)), (4, (0, v3)), (0, (2, x0)), (3, (2, x3)), (8, (0, x8))]) rfl ?_
      refine x_goto 20 dX20_rowOf_126 (by decide) ?_
      exact x_sub [4, 5, 3, 2, 1, 0] rfl (hK20 x0 x3 v3 v5 r6 v8 h7)
    · refine x_icmp_neF 107 dX20_rowOf_100 (by decide) (fun _ => ?_) (fun _ => ?_)
      · refine x_ic dX20_rowOf_107 (by decide) (by decide) ?_
        exact hJ _
      · refine x_ic dX20_rowOf_103 (by decide) (by decide) ?_
        refine x_goto 108 dX20_rowOf_104 (by decide) ?_
        exact hJ _
  · refine x_icmp_neF 91 dX20_rowOf_84 (by decide) (fun _ => ?_) (fun _ => ?_)
    · refine x_ic dX20_rowOf_91 (by decide) (by decide) ?_
      exact hJ _
    · refine x_ic dX20_rowOf_87 (by decide) (by decide) ?_
      refine x_goto 92 dX20_rowOf_88 (by decide) ?_
      exact hJ _
noncomputable def F_X20_rowOf_30 (K20 : Int → Int → Int → Int → Int → Int → XH → Option XR) : Nat → Int → Int → Int → Int → Int → Int → Int → XH → Option XR
  | 0, _, _, _, _, _, _, _, _ => none
  | n + 1, x0, x3, x4, x5, x6, x7, x8, h => ob h x0 18 <| mb (F_X20_with x0 x7 x8 x4 x5 x6 h) fun r1 h2 => ob h2 x0 18 <| ob h2 (xv h2 x0 4) 1 <| ob h2 x0 18 <| mb (F_X20_at x0 x7 x4 x5 x6 h2) fun r3 h4 => ai h4 (xv h2 (xv h2 x0 4) 10) 0 r3 <| if r1 = xv h4 (xv h2 (xv h2 x0 4) 10) r3 then (F_X20_rowOf_73 K20 x0 x3 x4 x5 x6 x7 x8 h4) else (nm (w32 (x8 + 1)) fun v5 => F_X20_rowOf_30 K20 n x0 x3 x4 x5 x6 x7 v5 h4)
theorem WF_X20_rowOf_30 {d : Nat} {Z : XZ XR} (hdd : 129 ≤ d) {K20 : Int → Int → Int → Int → Int → Int → XH → Option XR} (hK20 : ∀ x0 x3 x4 x5 x6 x7 h, XG xfh (xQ 3) RX20 "rowOf" cX20_rowOf 9 (some (.array .int)) d Z 20 [(0, (2, x0)), (3, (2, x3)), (4, (0, x4)), (5, (0, x5)), (6, (0, x6)), (7, (0, x7))] [] h (K20 x0 x3 x4 x5 x6 x7 h)) : ∀ n x0 x3 x4 x5 x6 x7 x8 h, XG xfh (xQ 3) RX20 "rowOf" cX20_rowOf 9 (some (.array .int)) d Z 30 [(0, (2, x0)), (3, (2, x3)), (4, (0, x4)), (5, (0, x5)), (6, (0, x6)), (7, (0, x7)), (8, (0, x8))] [] h (F_X20_rowOf_30 K20 n x0 x3 x4 x5 x6 x7 x8 h) := by
  intro n
  induction n with
  | zero => intro x0 x3 x4 x5 x6 x7 x8 h; exact x_none
  | succ n ih =>
    intro x0 x3 x4 x5 x6 x7 x8 h
    rw [F_X20_rowOf_30]
    refine x_aload_n 0 dX20_rowOf_30 rfl rfl ?_
    refine x_iload 5 dX20_rowOf_31 rfl ?_
    refine x_iload 6 dX20_rowOf_33 rfl ?_
    refine x_iload 2 dX20_rowOf_35 rfl ?_
    refine x_iload 3 dX20_rowOf_37 rfl ?_
    refine x_iload 4 dX20_rowOf_39 rfl ?_
    refine cl_X20_128 (by omega) (Nat.le_of_ble_eq_true rfl) dX20_rowOf_41 fun r1 h2 => ?_
    refine x_aload_n 0 dX20_rowOf_44 rfl rfl ?_
    refine xg_X20_3 dX20_rowOf_45 ?_
    refine xg_X20_58 dX20_rowOf_48 ?_
    refine x_aload_n 0 dX20_rowOf_51 rfl rfl ?_
    refine x_iload 5 dX20_rowOf_52 rfl ?_
    refine x_iload 2 dX20_rowOf_54 rfl ?_
    refine x_iload 3 dX20_rowOf_56 rfl ?_
    refine x_iload 4 dX20_rowOf_58 rfl ?_
    refine cl_X20_62 (by omega) (Nat.le_of_ble_eq_true rfl) dX20_rowOf_60 fun r3 h4 => ?_
    refine x_iald dX20_rowOf_63 ?_
    refine x_icmp_eq 73 dX20_rowOf_64 (by decide) (fun _ => ?_) (fun _ => ?_)
    · exact x_sub [0, 1, 2, 3, 4, 5, 6] rfl (WF_X20_rowOf_73 hdd hK20 x0 x3 x4 x5 x6 x7 x8 h4)
    · refine x_iinc 6 dX20_rowOf_67 rfl (by decide) fun v5 => x_lv (lv' := [(8, (0, v5)), (0, (2, x0)), (3, (2, x3)), (4, (0, x4)), (5, (0, x5)), (6, (0, x6)), (7, (0, x7))]) rfl ?_
      refine x_goto 30 dX20_rowOf_70 (by decide) ?_
      exact x_sub [1, 2, 3, 4, 5, 6, 0] rfl (ih x0 x3 x4 x5 x6 x7 v5 h4)
noncomputable def F_X20_rowOf_20 : Nat → Int → Int → Int → Int → Int → Int → XH → Option XR
  | 0, _, _, _, _, _, _, _ => none
  | n + 1, x0, x3, x4, x5, x6, x7, h => al h x3 0 <| if (xl h x3 : Int) ≤ x7 then (some (x3, h)) else (F_X20_rowOf_30 (F_X20_rowOf_20 n) FU x0 x3 x4 x5 x6 x7 0 h)
theorem WF_X20_rowOf_20 {d : Nat} {Z : XZ XR} (hdd : 129 ≤ d) : ∀ n x0 x3 x4 x5 x6 x7 h, XG xfh (xQ 3) RX20 "rowOf" cX20_rowOf 9 (some (.array .int)) d Z 20 [(0, (2, x0)), (3, (2, x3)), (4, (0, x4)), (5, (0, x5)), (6, (0, x6)), (7, (0, x7))] [] h (F_X20_rowOf_20 n x0 x3 x4 x5 x6 x7 h) := by
  intro n
  induction n with
  | zero => intro x0 x3 x4 x5 x6 x7 h; exact x_none
  | succ n ih =>
    intro x0 x3 x4 x5 x6 x7 h
    rw [F_X20_rowOf_20]
    refine x_iload 5 dX20_rowOf_20 rfl ?_
    refine x_aload_n 1 dX20_rowOf_22 rfl rfl ?_
    refine x_alen 0 (by decide) dX20_rowOf_23 ?_
    refine x_icmp_ge 129 dX20_rowOf_24 (by decide) (fun _ => ?_) (fun _ => ?_)
    · refine x_aload_n 1 dX20_rowOf_129 rfl rfl ?_
      exact x_aret rfl (Or.inr ⟨_, rfl⟩) dX20_rowOf_130
    · refine x_ic dX20_rowOf_27 (by decide) (by decide) ?_
      refine x_istore (lv' := [(8, (0, 0)), (0, (2, x0)), (3, (2, x3)), (4, (0, x4)), (5, (0, x5)), (6, (0, x6)), (7, (0, x7))]) dX20_rowOf_28 (by decide) rfl ?_
      exact x_sub [1, 2, 3, 4, 5, 6, 0] rfl (WF_X20_rowOf_30 hdd ih FU x0 x3 x4 x5 x6 x7 0 h)
noncomputable def F_X20_rowOf (x0 : Int) (x1 : Int) (x2 : Int) (h : XH) : Option XR := ob h x0 18 <| al h (xv h x0 0) 7 <| na h 0 (xl h (xv h x0 0) : Int) fun r1 h2 => F_X20_rowOf_20 FU x0 r1 x1 x2 0 0 h2
theorem WF_X20_rowOf {d : Nat} {Z : XZ XR} (hdd : 129 ≤ d) : ∀ x0 x1 x2 h, XG xfh (xQ 3) RX20 "rowOf" cX20_rowOf 9 (some (.array .int)) d Z 0 [(0, (2, x0)), (1, (0, x1)), (2, (0, x2))] [] h (F_X20_rowOf x0 x1 x2 h) := by
  intro x0 x1 x2 h
  unfold F_X20_rowOf
  refine x_aload_n 0 dX20_rowOf_0 rfl rfl ?_
  refine xg_X20_48 dX20_rowOf_1 ?_
  refine x_alen 7 (by decide) dX20_rowOf_4 ?_
  refine x_newarr (atype := .int) 0 (by decide) rfl rfl q252 dX20_rowOf_5 fun r1 h2 => ?_
  refine x_astore_n (lv' := [(3, (2, r1)), (0, (2, x0)), (1, (0, x1)), (2, (0, x2))]) dX20_rowOf_7 rfl (by decide) rfl ?_
  refine x_iload_n 2 dX20_rowOf_8 rfl rfl ?_
  refine x_istore (lv' := [(4, (0, x1)), (3, (2, r1)), (0, (2, x0)), (1, (0, x1)), (2, (0, x2))]) dX20_rowOf_9 (by decide) rfl ?_
  refine x_iload_n 4 dX20_rowOf_11 rfl rfl ?_
  refine x_istore (lv' := [(5, (0, x2)), (4, (0, x1)), (3, (2, r1)), (0, (2, x0)), (1, (0, x1)), (2, (0, x2))]) dX20_rowOf_12 (by decide) rfl ?_
  refine x_ic dX20_rowOf_14 (by decide) (by decide) ?_
  refine x_istore (lv' := [(6, (0, 0)), (5, (0, x2)), (4, (0, x1)), (3, (2, r1)), (0, (2, x0)), (1, (0, x1)), (2, (0, x2))]) dX20_rowOf_15 (by decide) rfl ?_
  refine x_ic dX20_rowOf_17 (by decide) (by decide) ?_
  refine x_istore (lv' := [(7, (0, 0)), (6, (0, 0)), (5, (0, x2)), (4, (0, x1)), (3, (2, r1)), (0, (2, x0)), (1, (0, x1)), (2, (0, x2))]) dX20_rowOf_18 (by decide) rfl ?_
  exact x_sub [5, 4, 3, 2, 1, 0] rfl (WF_X20_rowOf_20 hdd FU x0 r1 x1 x2 0 0 h2)
theorem SF_X20_rowOf (l : Launch) {d : Nat} (hdd : 129 ≤ d) (x0 : Int) (x1 : Int) (x2 : Int) (h : XH) (hok : okH h) (ho : okXs (xn h) [(2, x0), (0, x1), (0, x2)]) (fin : XR) (hf : F_X20_rowOf x0 x1 x2 h = some fin) : xSpec l yX20_rowOf cX20_rowOf 9 (some (.array .int)) d 3 [(2, x0), (0, x1), (0, x2)] h fin := x_enter (lv := [(0, (2, x0)), (1, (0, x1)), (2, (0, x2))]) (by decide) rfl rfl (Nat.le_of_ble_eq_true rfl) rfl (fun Z _ => WF_X20_rowOf hdd x0 x1 x2 h) hok ho fin hf
theorem cl_X20_144 {ρ : Type} {fh : ρ → XH} {QQ : XZ ρ → State → Prop} {mn : String} {cc : ByteArray} {nL : Nat} {ret : Option FieldType} {d : Nat} {Z : XZ ρ} {pc : Nat} {lv : List (Nat × AV)} {st : List AV} {h : XH} {g : Int → XH → Option ρ} {b a0 : Int} (hdd : 5 ≤ d) (hcat : (st.map fun v => if v.1 = 1 then 2 else 1).sum ≤ 8) (hdg : decode cc pc = .ok (.invokevirtual 144, 3)) (kk : ∀ r h1, XG fh QQ RX20 mn cc nL ret d Z (pc + 3) lv ((0, r) :: st) h1 (g r h1)) : XG fh QQ RX20 mn cc nL ret d Z pc lv ((0, a0) :: (2, b) :: st) h (ob h b 18 (mb (F_X20_hours b a0 h) g)) :=
  x_callVi [(0, a0)] 1 (WF_X20_hours (Z := (Z.1, Z.2.1, ((0, h), h))) (Nat.le_refl 4) b a0 h).1 (fun hok ho fin hf => SF_X20_hours (yL Z) (Nat.le_refl 4) b a0 h hok ho fin hf) RX20 18 rfl (by decide) (lw_V q1243 q1221 q1222 q158 q1223) ⟨rfl, by decide +kernel, by decide +kernel, by decide +kernel⟩ rfl (by omega) (by decide) rfl hcat hdg kk
theorem cl_X20_148 {ρ : Type} {fh : ρ → XH} {QQ : XZ ρ → State → Prop} {mn : String} {cc : ByteArray} {nL : Nat} {ret : Option FieldType} {d : Nat} {Z : XZ ρ} {pc : Nat} {lv : List (Nat × AV)} {st : List AV} {h : XH} {g : Int → XH → Option ρ} {b a0 a1 : Int} (hdd : 130 ≤ d) (hcat : (st.map fun v => if v.1 = 1 then 2 else 1).sum ≤ 8) (hdg : decode cc pc = .ok (.invokevirtual 148, 3)) (kk : ∀ r h1, XG fh QQ RX20 mn cc nL ret d Z (pc + 3) lv ((2, r) :: st) h1 (g r h1)) : XG fh QQ RX20 mn cc nL ret d Z pc lv ((0, a1) :: (0, a0) :: (2, b) :: st) h (ob h b 18 (mb (F_X20_rowOf b a0 a1 h) g)) :=
  x_callVr [(0, a0), (0, a1)] 2 (WF_X20_rowOf (Z := (Z.1, Z.2.1, ((0, h), h))) (Nat.le_refl 129) b a0 a1 h).1 (fun hok ho fin hf => SF_X20_rowOf (yL Z) (Nat.le_refl 129) b a0 a1 h hok ho fin hf) RX20 18 rfl (by decide) (lw_V q1244 q1246 qs47 q158 q1247) ⟨rfl, by decide +kernel, by decide +kernel, by decide +kernel⟩ rfl (by omega) (by decide) rfl hcat hdg kk
theorem cl_X20_152 {ρ : Type} {fh : ρ → XH} {QQ : XZ ρ → State → Prop} {mn : String} {cc : ByteArray} {nL : Nat} {ret : Option FieldType} {d : Nat} {Z : XZ ρ} {pc : Nat} {lv : List (Nat × AV)} {st : List AV} {h : XH} {g : Int → XH → Option ρ} {b a0 a1 : Int} (hdd : 2 ≤ d) (hcat : (st.map fun v => if v.1 = 1 then 2 else 1).sum ≤ 8) (hdg : decode cc pc = .ok (.invokevirtual 152, 3)) (kk : ∀ r h1, XG fh QQ RX20 mn cc nL ret d Z (pc + 3) lv ((0, r) :: st) h1 (g r h1)) : XG fh QQ RX20 mn cc nL ret d Z pc lv ((2, a1) :: (2, a0) :: (2, b) :: st) h (ob h b 18 (mb (F_X20_isAhead b a0 a1 h) g)) :=
  x_callVi [(2, a0), (2, a1)] 2 (WF_X20_isAhead (Z := (Z.1, Z.2.1, ((0, h), h))) (Nat.le_refl 1) b a0 a1 h).1 (fun hok ho fin hf => SF_X20_isAhead (yL Z) (Nat.le_refl 1) b a0 a1 h hok ho fin hf) RX20 18 rfl (by decide) (lw_V q1248 q1250 qs48 q158 q1251) ⟨rfl, by decide +kernel, by decide +kernel, by decide +kernel⟩ rfl (by omega) (by decide) rfl hcat hdg kk
noncomputable def F_X20_first_109 (K19 : Int → Int → Int → Int → Int → XH → Option XR) (K32 : Int → Int → Int → Int → Int → Int → XH → Option XR) (x0 : Int) (x2 : Int) (x4 : Int) (x5 : Int) (x6 : Int) (x7 : Int) (h : XH) : Option XR := nm (w32 (x7 + 1)) fun v1 => K32 x0 x2 x4 x5 x6 v1 h
theorem WF_X20_first_109 {d : Nat} {Z : XZ XR} (hdd : 130 ≤ d) {K19 : Int → Int → Int → Int → Int → XH → Option XR} (hK19 : ∀ x0 x2 x4 x5 x6 h, XG xfh (xQ 3) RX20 "first" cX20_first 9 (some (.array .int)) d Z 19 [(0, (2, x0)), (2, (1, x2)), (4, (0, x4)), (5, (2, x5)), (6, (0, x6))] [] h (K19 x0 x2 x4 x5 x6 h)) {K32 : Int → Int → Int → Int → Int → Int → XH → Option XR} (hK32 : ∀ x0 x2 x4 x5 x6 x7 h, XG xfh (xQ 3) RX20 "first" cX20_first 9 (some (.array .int)) d Z 32 [(0, (2, x0)), (2, (1, x2)), (4, (0, x4)), (5, (2, x5)), (6, (0, x6)), (7, (0, x7))] [] h (K32 x0 x2 x4 x5 x6 x7 h)) : ∀ x0 x2 x4 x5 x6 x7 h, XG xfh (xQ 3) RX20 "first" cX20_first 9 (some (.array .int)) d Z 109 [(0, (2, x0)), (2, (1, x2)), (4, (0, x4)), (5, (2, x5)), (6, (0, x6)), (7, (0, x7))] [] h (F_X20_first_109 K19 K32 x0 x2 x4 x5 x6 x7 h) := by
  intro x0 x2 x4 x5 x6 x7 h
  unfold F_X20_first_109
  refine x_iinc 5 dX20_first_109 rfl (by decide) fun v1 => x_lv (lv' := [(7, (0, v1)), (0, (2, x0)), (2, (1, x2)), (4, (0, x4)), (5, (2, x5)), (6, (0, x6))]) rfl ?_
  refine x_goto 32 dX20_first_112 (by decide) ?_
  exact x_sub [1, 2, 3, 4, 5, 0] rfl (hK32 x0 x2 x4 x5 x6 v1 h)
noncomputable def F_X20_first_105 (K19 : Int → Int → Int → Int → Int → XH → Option XR) (K32 : Int → Int → Int → Int → Int → Int → XH → Option XR) (x0 : Int) (x2 : Int) (x4 : Int) (x6 : Int) (x7 : Int) (x8 : Int) (h : XH) : Option XR := F_X20_first_109 K19 K32 x0 x2 x4 x8 x6 x7 h
theorem WF_X20_first_105 {d : Nat} {Z : XZ XR} (hdd : 130 ≤ d) {K19 : Int → Int → Int → Int → Int → XH → Option XR} (hK19 : ∀ x0 x2 x4 x5 x6 h, XG xfh (xQ 3) RX20 "first" cX20_first 9 (some (.array .int)) d Z 19 [(0, (2, x0)), (2, (1, x2)), (4, (0, x4)), (5, (2, x5)), (6, (0, x6))] [] h (K19 x0 x2 x4 x5 x6 h)) {K32 : Int → Int → Int → Int → Int → Int → XH → Option XR} (hK32 : ∀ x0 x2 x4 x5 x6 x7 h, XG xfh (xQ 3) RX20 "first" cX20_first 9 (some (.array .int)) d Z 32 [(0, (2, x0)), (2, (1, x2)), (4, (0, x4)), (5, (2, x5)), (6, (0, x6)), (7, (0, x7))] [] h (K32 x0 x2 x4 x5 x6 x7 h)) : ∀ x0 x2 x4 x6 x7 x8 h, XG xfh (xQ 3) RX20 "first" cX20_first 9 (some (.array .int)) d Z 105 [(0, (2, x0)), (2, (1, x2)), (4, (0, x4)), (6, (0, x6)), (7, (0, x7)), (8, (2, x8))] [] h (F_X20_first_105 K19 K32 x0 x2 x4 x6 x7 x8 h) := by
  intro x0 x2 x4 x6 x7 x8 h
  unfold F_X20_first_105
  refine x_aload 5 dX20_first_105 rfl ?_
  refine x_astore (lv' := [(5, (2, x8)), (0, (2, x0)), (2, (1, x2)), (4, (0, x4)), (6, (0, x6)), (7, (0, x7)), (8, (2, x8))]) dX20_first_107 (by decide) rfl ?_
  exact x_sub [1, 2, 3, 0, 4, 5] rfl (WF_X20_first_109 hdd hK19 hK32 x0 x2 x4 x8 x6 x7 h)
noncomputable def F_X20_first_115 (K19 : Int → Int → Int → Int → Int → XH → Option XR) (x0 : Int) (x2 : Int) (x4 : Int) (x5 : Int) (x6 : Int) (h : XH) : Option XR := nm (w32 (x6 + 1)) fun v1 => K19 x0 x2 x4 x5 v1 h
theorem WF_X20_first_115 {d : Nat} {Z : XZ XR} (hdd : 130 ≤ d) {K19 : Int → Int → Int → Int → Int → XH → Option XR} (hK19 : ∀ x0 x2 x4 x5 x6 h, XG xfh (xQ 3) RX20 "first" cX20_first 9 (some (.array .int)) d Z 19 [(0, (2, x0)), (2, (1, x2)), (4, (0, x4)), (5, (2, x5)), (6, (0, x6))] [] h (K19 x0 x2 x4 x5 x6 h)) : ∀ x0 x2 x4 x5 x6 h, XG xfh (xQ 3) RX20 "first" cX20_first 9 (some (.array .int)) d Z 115 [(0, (2, x0)), (2, (1, x2)), (4, (0, x4)), (5, (2, x5)), (6, (0, x6))] [] h (F_X20_first_115 K19 x0 x2 x4 x5 x6 h) := by
  intro x0 x2 x4 x5 x6 h
  unfold F_X20_first_115
  refine x_iinc 4 dX20_first_115 rfl (by decide) fun v1 => x_lv (lv' := [(6, (0, v1)), (0, (2, x0)), (2, (1, x2)), (4, (0, x4)), (5, (2, x5))]) rfl ?_
  refine x_goto 19 dX20_first_118 (by decide) ?_
  exact x_sub [1, 2, 3, 4, 0] rfl (hK19 x0 x2 x4 x5 v1 h)
noncomputable def F_X20_first_32 (K19 : Int → Int → Int → Int → Int → XH → Option XR) : Nat → Int → Int → Int → Int → Int → Int → XH → Option XR
  | 0, _, _, _, _, _, _, _ => none
  | n + 1, x0, x2, x4, x5, x6, x7, h => ob h x0 18 <| al h (xv h x0 0) 7 <| if (xl h (xv h x0 0) : Int) < w32 (x6 + x7) then (F_X20_first_115 K19 x0 x2 x4 x5 x6 h) else (ob h x0 18 <| ai h (xv h x0 1) 1 (w32 ((w32 (x6 * 21)) + x7)) <| if xv h (xv h x0 1) (w32 ((w32 (x6 * 21)) + x7)) = x2 then (ob h x0 18 <| mb (F_X20_hoursOf x0 x6 x7 h) fun r1 h2 => if r1 = x4 then (ob h2 x0 18 <| mb (F_X20_rowOf x0 x6 x7 h2) fun r3 h4 => if x5 = 0 then (F_X20_first_105 K19 (F_X20_first_32 K19 n) x0 x2 x4 x6 x7 r3 h4) else (ob h4 x0 18 <| mb (F_X20_isAhead x0 r3 x5 h4) fun r5 h6 => if r5 = 0 then (F_X20_first_109 K19 (F_X20_first_32 K19 n) x0 x2 x4 x5 x6 x7 h6) else (F_X20_first_105 K19 (F_X20_first_32 K19 n) x0 x2 x4 x6 x7 r3 h6))) else (F_X20_first_109 K19 (F_X20_first_32 K19 n) x0 x2 x4 x5 x6 x7 h2)) else (F_X20_first_109 K19 (F_X20_first_32 K19 n) x0 x2 x4 x5 x6 x7 h))
theorem WF_X20_first_32 {d : Nat} {Z : XZ XR} (hdd : 130 ≤ d) {K19 : Int → Int → Int → Int → Int → XH → Option XR} (hK19 : ∀ x0 x2 x4 x5 x6 h, XG xfh (xQ 3) RX20 "first" cX20_first 9 (some (.array .int)) d Z 19 [(0, (2, x0)), (2, (1, x2)), (4, (0, x4)), (5, (2, x5)), (6, (0, x6))] [] h (K19 x0 x2 x4 x5 x6 h)) : ∀ n x0 x2 x4 x5 x6 x7 h, XG xfh (xQ 3) RX20 "first" cX20_first 9 (some (.array .int)) d Z 32 [(0, (2, x0)), (2, (1, x2)), (4, (0, x4)), (5, (2, x5)), (6, (0, x6)), (7, (0, x7))] [] h (F_X20_first_32 K19 n x0 x2 x4 x5 x6 x7 h) := by
  intro n
  induction n with
  | zero => intro x0 x2 x4 x5 x6 x7 h; exact x_none
  | succ n ih =>
    intro x0 x2 x4 x5 x6 x7 h
    rw [F_X20_first_32]
    refine x_iload 4 dX20_first_32 rfl ?_
    refine x_iload 5 dX20_first_34 rfl ?_
    refine x_iadd dX20_first_36 ?_
    refine x_aload_n 0 dX20_first_37 rfl rfl ?_
    refine xg_X20_48 dX20_first_38 ?_
    refine x_alen 7 (by decide) dX20_first_41 ?_
    refine x_icmp_gt 115 dX20_first_42 (by decide) (fun _ => ?_) (fun _ => ?_)
    · exact x_sub [0, 1, 2, 3, 4] rfl (WF_X20_first_115 hdd hK19 x0 x2 x4 x5 x6 h)
    · refine x_aload_n 0 dX20_first_45 rfl rfl ?_
      refine xg_X20_15 dX20_first_46 ?_
      refine x_iload 4 dX20_first_49 rfl ?_
      refine x_bp dX20_first_51 (by decide) (by decide) ?_
      refine x_imul dX20_first_53 ?_
      refine x_iload 5 dX20_first_54 rfl ?_
      refine x_iadd dX20_first_56 ?_
      refine x_lald dX20_first_57 ?_
      refine x_lload_n 1 dX20_first_58 rfl rfl ?_
      refine x_lcmp_ne 109 dX20_first_59 dX20_first_60 (by decide) (fun _ => ?_) (fun _ => ?_)
      · exact x_sub [0, 1, 2, 3, 4, 5] rfl (WF_X20_first_109 hdd hK19 ih x0 x2 x4 x5 x6 x7 h)
      · refine x_aload_n 0 dX20_first_63 rfl rfl ?_
        refine x_iload 4 dX20_first_64 rfl ?_
        refine x_iload 5 dX20_first_66 rfl ?_
        refine cl_X20_134 (by omega) (Nat.le_of_ble_eq_true rfl) dX20_first_68 fun r1 h2 => ?_
        refine x_iload 2 dX20_first_71 rfl ?_
        refine x_icmp_eq 79 dX20_first_73 (by decide) (fun _ => ?_) (fun _ => ?_)
        · refine x_aload_n 0 dX20_first_79 rfl rfl ?_
          refine x_iload 4 dX20_first_80 rfl ?_
          refine x_iload 5 dX20_first_82 rfl ?_
          refine cl_X20_148 (by omega) (Nat.le_of_ble_eq_true rfl) dX20_first_84 fun r3 h4 => ?_
          refine x_astore (lv' := [(8, (2, r3)), (0, (2, x0)), (2, (1, x2)), (4, (0, x4)), (5, (2, x5)), (6, (0, x6)), (7, (0, x7))]) dX20_first_87 (by decide) rfl ?_
          refine x_aload 4 dX20_first_89 rfl ?_
          refine x_ifnull 105 dX20_first_91 (by decide) (fun _ => ?_) (fun _ => ?_)
          · exact x_sub [1, 2, 3, 5, 6, 0] rfl (WF_X20_first_105 hdd hK19 ih x0 x2 x4 x6 x7 r3 h4)
          · refine x_aload_n 1 dX20_first_94 rfl rfl ?_
            refine x_aload 0 dX20_first_95 rfl ?_
            refine x_aload 4 dX20_first_97 rfl ?_
            refine cl_X20_152 (by omega) (Nat.le_of_ble_eq_true rfl) dX20_first_99 fun r5 h6 => ?_
            refine x_if_eq 109 dX20_first_102 (by decide) (fun _ => ?_) (fun _ => ?_)
            · exact x_sub [1, 2, 3, 4, 5, 6] rfl (WF_X20_first_109 hdd hK19 ih x0 x2 x4 x5 x6 x7 h6)
            · exact x_sub [1, 2, 3, 5, 6, 0] rfl (WF_X20_first_105 hdd hK19 ih x0 x2 x4 x6 x7 r3 h6)
        · refine x_goto 109 dX20_first_76 (by decide) ?_
          exact x_sub [0, 1, 2, 3, 4, 5] rfl (WF_X20_first_109 hdd hK19 ih x0 x2 x4 x5 x6 x7 h2)
noncomputable def F_X20_first_19 : Nat → Int → Int → Int → Int → Int → XH → Option XR
  | 0, _, _, _, _, _, _ => none
  | n + 1, x0, x2, x4, x5, x6, h => ob h x0 18 <| al h (xv h x0 0) 7 <| if (xl h (xv h x0 0) : Int) < x6 then (some (x5, h)) else (F_X20_first_32 (F_X20_first_19 n) FU x0 x2 x4 x5 x6 0 h)
theorem WF_X20_first_19 {d : Nat} {Z : XZ XR} (hdd : 130 ≤ d) : ∀ n x0 x2 x4 x5 x6 h, XG xfh (xQ 3) RX20 "first" cX20_first 9 (some (.array .int)) d Z 19 [(0, (2, x0)), (2, (1, x2)), (4, (0, x4)), (5, (2, x5)), (6, (0, x6))] [] h (F_X20_first_19 n x0 x2 x4 x5 x6 h) := by
  intro n
  induction n with
  | zero => intro x0 x2 x4 x5 x6 h; exact x_none
  | succ n ih =>
    intro x0 x2 x4 x5 x6 h
    rw [F_X20_first_19]
    refine x_iload 4 dX20_first_19 rfl ?_
    refine x_aload_n 0 dX20_first_21 rfl rfl ?_
    refine xg_X20_48 dX20_first_22 ?_
    refine x_alen 7 (by decide) dX20_first_25 ?_
    refine x_icmp_gt 121 dX20_first_26 (by decide) (fun _ => ?_) (fun _ => ?_)
    · refine x_aload 3 dX20_first_121 rfl ?_
      exact x_aret rfl (Or.inr ⟨_, rfl⟩) dX20_first_123
    · refine x_ic dX20_first_29 (by decide) (by decide) ?_
      refine x_istore (lv' := [(7, (0, 0)), (0, (2, x0)), (2, (1, x2)), (4, (0, x4)), (5, (2, x5)), (6, (0, x6))]) dX20_first_30 (by decide) rfl ?_
      exact x_sub [1, 2, 3, 4, 5, 0] rfl (WF_X20_first_32 hdd ih FU x0 x2 x4 x5 x6 0 h)
noncomputable def F_X20_first (x0 : Int) (x1 : Int) (h : XH) : Option XR := ob h x0 18 <| mb (F_X20_most x0 x1 h) fun r1 h2 => ob h2 x0 18 <| mb (F_X20_hours x0 x1 h2) fun r3 h4 => F_X20_first_19 FU x0 r1 r3 0 0 h4
theorem WF_X20_first {d : Nat} {Z : XZ XR} (hdd : 130 ≤ d) : ∀ x0 x1 h, XG xfh (xQ 3) RX20 "first" cX20_first 9 (some (.array .int)) d Z 0 [(0, (2, x0)), (1, (0, x1))] [] h (F_X20_first x0 x1 h) := by
  intro x0 x1 h
  unfold F_X20_first
  refine x_aload_n 0 dX20_first_0 rfl rfl ?_
  refine x_iload_n 1 dX20_first_1 rfl rfl ?_
  refine cl_X20_141 (by omega) (Nat.le_of_ble_eq_true rfl) dX20_first_2 fun r1 h2 => ?_
  refine x_lstore_n (lv' := [(2, (1, r1)), (0, (2, x0)), (1, (0, x1))]) dX20_first_5 rfl (by decide) rfl ?_
  refine x_aload_n 1 dX20_first_6 rfl rfl ?_
  refine x_iload_n 2 dX20_first_7 rfl rfl ?_
  refine cl_X20_144 (by omega) (Nat.le_of_ble_eq_true rfl) dX20_first_8 fun r3 h4 => ?_
  refine x_istore (lv' := [(4, (0, r3)), (2, (1, r1)), (0, (2, x0)), (1, (0, x1))]) dX20_first_11 (by decide) rfl ?_
  refine x_null dX20_first_13 ?_
  refine x_astore (lv' := [(5, (2, 0)), (4, (0, r3)), (2, (1, r1)), (0, (2, x0)), (1, (0, x1))]) dX20_first_14 (by decide) rfl ?_
  refine x_ic dX20_first_16 (by decide) (by decide) ?_
  refine x_istore (lv' := [(6, (0, 0)), (5, (2, 0)), (4, (0, r3)), (2, (1, r1)), (0, (2, x0)), (1, (0, x1))]) dX20_first_17 (by decide) rfl ?_
  exact x_sub [4, 3, 2, 1, 0] rfl (WF_X20_first_19 hdd FU x0 r1 r3 0 0 h4)
theorem SF_X20_first (l : Launch) {d : Nat} (hdd : 130 ≤ d) (x0 : Int) (x1 : Int) (h : XH) (hok : okH h) (ho : okXs (xn h) [(2, x0), (0, x1)]) (fin : XR) (hf : F_X20_first x0 x1 h = some fin) : xSpec l yX20_first cX20_first 9 (some (.array .int)) d 3 [(2, x0), (0, x1)] h fin := x_enter (lv := [(0, (2, x0)), (1, (0, x1))]) (by decide) rfl rfl (Nat.le_of_ble_eq_true rfl) rfl (fun Z _ => WF_X20_first hdd x0 x1 h) hok ho fin hf
theorem xg_X20_156 {ρ : Type} {fh : ρ → XH} {QQ : XZ ρ → State → Prop} {mn : String} {cc : ByteArray} {nL : Nat} {ret : Option FieldType} {d : Nat} {Z : XZ ρ} {pc : Nat} {lv : List (Nat × AV)} {st : List AV} {h : XH} {res : Option ρ} {a : Int} (hd : decode cc pc = .ok (.getfield 156, 3)) (kk : XG fh QQ RX20 mn cc nL ret d Z (pc + 3) lv ((0, xv h a 0) :: st) h res) : XG fh QQ RX20 mn cc nL ret d Z pc lv ((2, a) :: st) h (ob h a 5 res) := x_getN (C := RX5) (ref := RX5) 5 0 rfl in_X5 (by decide) rfl (by decide) (Or.inl rfl) q383 hd kk
noncomputable def F_X20_levelOf_24 (x1 : Int) (x3 : Int) (h : XH) : Option XR := ai h x1 0 x3 <| some (xv h x1 x3, h)
theorem WF_X20_levelOf_24 {d : Nat} {Z : XZ XR} (hdd : 1 ≤ d) : ∀ x1 x3 h, XG xfh (xQ 0) RX20 "levelOf" cX20_levelOf 4 (some .int) d Z 24 [(1, (2, x1)), (3, (0, x3))] [] h (F_X20_levelOf_24 x1 x3 h) := by
  intro x1 x3 h
  unfold F_X20_levelOf_24
  refine x_aload_n 0 dX20_levelOf_24 rfl rfl ?_
  refine x_iload_n 1 dX20_levelOf_25 rfl rfl ?_
  refine x_iald dX20_levelOf_26 ?_
  exact x_iret rfl dX20_levelOf_27
noncomputable def F_X20_levelOf_2 : Nat → Int → Int → Int → Int → XH → Option XR
  | 0, _, _, _, _, _ => none
  | n + 1, x0, x1, x2, x3, h => ob h x0 18 <| al h (xv h x0 0) 7 <| if (xl h (xv h x0 0) : Int) ≤ x3 then (some ((-1), h)) else (ob h x0 18 <| ai h (xv h x0 0) 7 x3 <| ob h (xv h (xv h x0 0) x3) 5 <| if xv h (xv h (xv h x0 0) x3) 0 = x2 then (F_X20_levelOf_24 x1 x3 h) else (nm (w32 (x3 + 1)) fun v1 => F_X20_levelOf_2 n x0 x1 x2 v1 h))
theorem WF_X20_levelOf_2 {d : Nat} {Z : XZ XR} (hdd : 1 ≤ d) : ∀ n x0 x1 x2 x3 h, XG xfh (xQ 0) RX20 "levelOf" cX20_levelOf 4 (some .int) d Z 2 [(0, (2, x0)), (1, (2, x1)), (2, (0, x2)), (3, (0, x3))] [] h (F_X20_levelOf_2 n x0 x1 x2 x3 h) := by
  intro n
  induction n with
  | zero => intro x0 x1 x2 x3 h; exact x_none
  | succ n ih =>
    intro x0 x1 x2 x3 h
    rw [F_X20_levelOf_2]
    refine x_iload_n 3 dX20_levelOf_2 rfl rfl ?_
    refine x_aload_n 0 dX20_levelOf_3 rfl rfl ?_
    refine xg_X20_48 dX20_levelOf_4 ?_
    refine x_alen 7 (by decide) dX20_levelOf_7 ?_
    refine x_icmp_ge 34 dX20_levelOf_8 (by decide) (fun _ => ?_) (fun _ => ?_)
    · refine x_ic dX20_levelOf_34 (by decide) (by decide) ?_
      exact x_iret rfl dX20_levelOf_35
    · refine x_aload_n 0 dX20_levelOf_11 rfl rfl ?_
      refine xg_X20_48 dX20_levelOf_12 ?_
      refine x_iload_n 3 dX20_levelOf_15 rfl rfl ?_
      refine x_aald 7 _ (by decide) (by decide) rfl dX20_levelOf_16 ?_
      refine xg_X20_156 dX20_levelOf_17 ?_
      refine x_iload_n 2 dX20_levelOf_20 rfl rfl ?_
      refine x_icmp_ne 28 dX20_levelOf_21 (by decide) (fun _ => ?_) (fun _ => ?_)
      · refine x_iinc 3 dX20_levelOf_28 rfl (by decide) fun v1 => x_lv (lv' := [(3, (0, v1)), (0, (2, x0)), (1, (2, x1)), (2, (0, x2))]) rfl ?_
        refine x_goto 2 dX20_levelOf_31 (by decide) ?_
        exact x_sub [1, 2, 3, 0] rfl (ih x0 x1 x2 v1 h)
      · exact x_sub [1, 3] rfl (WF_X20_levelOf_24 hdd x1 x3 h)
noncomputable def F_X20_levelOf (x0 : Int) (x1 : Int) (x2 : Int) (h : XH) : Option XR := F_X20_levelOf_2 FU x0 x1 x2 0 h
theorem WF_X20_levelOf {d : Nat} {Z : XZ XR} (hdd : 1 ≤ d) : ∀ x0 x1 x2 h, XG xfh (xQ 0) RX20 "levelOf" cX20_levelOf 4 (some .int) d Z 0 [(0, (2, x0)), (1, (2, x1)), (2, (0, x2))] [] h (F_X20_levelOf x0 x1 x2 h) := by
  intro x0 x1 x2 h
  unfold F_X20_levelOf
  refine x_ic dX20_levelOf_0 (by decide) (by decide) ?_
  refine x_istore_n (lv' := [(3, (0, 0)), (0, (2, x0)), (1, (2, x1)), (2, (0, x2))]) dX20_levelOf_1 rfl (by decide) rfl ?_
  exact x_sub [1, 2, 3, 0] rfl (WF_X20_levelOf_2 hdd FU x0 x1 x2 0 h)
theorem SF_X20_levelOf (l : Launch) {d : Nat} (hdd : 1 ≤ d) (x0 : Int) (x1 : Int) (x2 : Int) (h : XH) (hok : okH h) (ho : okXs (xn h) [(2, x0), (2, x1), (0, x2)]) (fin : XR) (hf : F_X20_levelOf x0 x1 x2 h = some fin) : xSpec l yX20_levelOf cX20_levelOf 4 (some .int) d 0 [(2, x0), (2, x1), (0, x2)] h fin := x_enter (lv := [(0, (2, x0)), (1, (2, x1)), (2, (0, x2))]) (by decide) rfl rfl (Nat.le_of_ble_eq_true rfl) rfl (fun Z _ => WF_X20_levelOf hdd x0 x1 x2 h) hok ho fin hf
theorem cl_X0_289 {ρ : Type} {fh : ρ → XH} {QQ : XZ ρ → State → Prop} {mn : String} {cc : ByteArray} {nL : Nat} {ret : Option FieldType} {d : Nat} {Z : XZ ρ} {pc : Nat} {lv : List (Nat × AV)} {st : List AV} {h : XH} {g : Int → XH → Option ρ} {b a0 : Int} (hdd : 131 ≤ d) (hcat : (st.map fun v => if v.1 = 1 then 2 else 1).sum ≤ 8) (hdg : decode cc pc = .ok (.invokevirtual 289, 3)) (kk : ∀ r h1, XG fh QQ RX0 mn cc nL ret d Z (pc + 3) lv ((2, r) :: st) h1 (g r h1)) : XG fh QQ RX0 mn cc nL ret d Z pc lv ((0, a0) :: (2, b) :: st) h (ob h b 18 (mb (F_X20_first b a0 h) g)) :=
  x_callVr [(0, a0)] 1 (WF_X20_first (Z := (Z.1, Z.2.1, ((0, h), h))) (Nat.le_refl 130) b a0 h).1 (fun hok ho fin hf => SF_X20_first (yL Z) (Nat.le_refl 130) b a0 h hok ho fin hf) RX20 18 rfl (by decide) (lw_V q1239 q1240 q1241 q158 q1242) ⟨rfl, by decide +kernel, by decide +kernel, by decide +kernel⟩ rfl (by omega) (by decide) rfl hcat hdg kk
theorem cl_X0_293 {ρ : Type} {fh : ρ → XH} {QQ : XZ ρ → State → Prop} {mn : String} {cc : ByteArray} {nL : Nat} {ret : Option FieldType} {d : Nat} {Z : XZ ρ} {pc : Nat} {lv : List (Nat × AV)} {st : List AV} {h : XH} {g : Int → XH → Option ρ} {b a0 a1 : Int} (hdd : 2 ≤ d) (hcat : (st.map fun v => if v.1 = 1 then 2 else 1).sum ≤ 8) (hdg : decode cc pc = .ok (.invokevirtual 293, 3)) (kk : ∀ r h1, XG fh QQ RX0 mn cc nL ret d Z (pc + 3) lv ((0, r) :: st) h1 (g r h1)) : XG fh QQ RX0 mn cc nL ret d Z pc lv ((0, a1) :: (2, a0) :: (2, b) :: st) h (ob h b 18 (mb (F_X20_levelOf b a0 a1 h) g)) :=
  x_callVi [(2, a0), (0, a1)] 2 (WF_X20_levelOf (Z := (Z.1, Z.2.1, ((0, h), h))) (Nat.le_refl 1) b a0 a1 h).1 (fun hok ho fin hf => SF_X20_levelOf (yL Z) (Nat.le_refl 1) b a0 a1 h hok ho fin hf) RX20 18 rfl (by decide) (lw_V q1252 q1253 q1254 q158 q1255) ⟨rfl, by decide +kernel, by decide +kernel, by decide +kernel⟩ rfl (by omega) (by decide) rfl hcat hdg kk
noncomputable def F_X0_level (x0 : Int) (x1 : Int) (x2 : Int) (h : XH) : Option XR := mb (F_X0_isHours x1 h) fun r1 h2 => if r1 = 0 then (some ((-1), h2)) else (ob h2 x0 1 <| mb (F_X0_questionOf x0 x2 h2) fun r3 h4 => if r3 = 0 then (some ((-1), h4)) else (ob h4 x0 1 <| mb (F_X0_schemes x0 h4) fun r5 h6 => ob h6 r5 18 <| mb (F_X20_first r5 x1 h6) fun r7 h8 => ob h8 r5 18 <| mb (F_X20_levelOf r5 r7 x2 h8) fun r9 h10 => some (r9, h10)))
theorem WF_X0_level {d : Nat} {Z : XZ XR} (hdd : 132 ≤ d) : ∀ x0 x1 x2 h, XG xfh (xQ 0) RX0 "level" cX0_level 4 (some .int) d Z 0 [(0, (2, x0)), (1, (0, x1)), (2, (0, x2))] [] h (F_X0_level x0 x1 x2 h) := by
  intro x0 x1 x2 h
  unfold F_X0_level
  refine x_iload_n 1 dX0_level_0 rfl rfl ?_
  refine cl_X0_274 (by omega) (Nat.le_of_ble_eq_true rfl) dX0_level_1 fun r1 h2 => ?_
  refine x_if_eq 15 dX0_level_4 (by decide) (fun _ => ?_) (fun _ => ?_)
  · refine x_ic dX0_level_15 (by decide) (by decide) ?_
    exact x_iret rfl dX0_level_16
  · refine x_aload_n 0 dX0_level_7 rfl rfl ?_
    refine x_iload_n 2 dX0_level_8 rfl rfl ?_
    refine cl_X0_147 (by omega) (Nat.le_of_ble_eq_true rfl) dX0_level_9 fun r3 h4 => ?_
    refine x_ifnonnull 17 dX0_level_12 (by decide) (fun _ => ?_) (fun _ => ?_)
    · refine x_ic dX0_level_15 (by decide) (by decide) ?_
      exact x_iret rfl dX0_level_16
    · refine x_aload_n 0 dX0_level_17 rfl rfl ?_
      refine cl_X0_277 (by omega) (Nat.le_of_ble_eq_true rfl) dX0_level_18 fun r5 h6 => ?_
      refine x_astore_n (lv' := [(3, (2, r5)), (0, (2, x0)), (1, (0, x1)), (2, (0, x2))]) dX0_level_21 rfl (by decide) rfl ?_
      refine x_aload_n 0 dX0_level_22 rfl rfl ?_
      refine x_aload_n 0 dX0_level_23 rfl rfl ?_
      refine x_iload_n 2 dX0_level_24 rfl rfl ?_
      refine cl_X0_289 (by omega) (Nat.le_of_ble_eq_true rfl) dX0_level_25 fun r7 h8 => ?_
      refine x_iload_n 3 dX0_level_28 rfl rfl ?_
      refine cl_X0_293 (by omega) (Nat.le_of_ble_eq_true rfl) dX0_level_29 fun r9 h10 => ?_
      exact x_iret rfl dX0_level_32
theorem SF_X0_level (l : Launch) {d : Nat} (hdd : 132 ≤ d) (x0 : Int) (x1 : Int) (x2 : Int) (h : XH) (hok : okH h) (ho : okXs (xn h) [(2, x0), (0, x1), (0, x2)]) (fin : XR) (hf : F_X0_level x0 x1 x2 h = some fin) : xSpec l yX0_level cX0_level 4 (some .int) d 0 [(2, x0), (0, x1), (0, x2)] h fin := x_enter (lv := [(0, (2, x0)), (1, (0, x1)), (2, (0, x2))]) (by decide) rfl rfl (Nat.le_of_ble_eq_true rfl) rfl (fun Z _ => WF_X0_level hdd x0 x1 x2 h) hok ho fin hf
noncomputable def F_X0_enough_21 : Nat → Int → Int → Int → XH → Option XR
  | 0, _, _, _, _ => none
  | n + 1, x1, x2, x3, h => if 400 < x3 then (some ((-1), h)) else (ob h x2 18 <| mb (F_X20_most x2 x3 h) fun r1 h2 => ob h2 x2 18 <| if w64 (100 * r1) < w64 (x1 * (xv h2 x2 3)) then (nm (w32 (x3 + 1)) fun v3 => F_X0_enough_21 n x1 x2 v3 h2) else (some (x3, h2)))
theorem WF_X0_enough_21 {d : Nat} {Z : XZ XR} (hdd : 132 ≤ d) : ∀ n x1 x2 x3 h, XG xfh (xQ 0) RX0 "enough" cX0_enough 4 (some .int) d Z 21 [(1, (0, x1)), (2, (2, x2)), (3, (0, x3))] [] h (F_X0_enough_21 n x1 x2 x3 h) := by
  intro n
  induction n with
  | zero => intro x1 x2 x3 h; exact x_none
  | succ n ih =>
    intro x1 x2 x3 h
    rw [F_X0_enough_21]
    refine x_iload_n 2 dX0_enough_21 rfl rfl ?_
    refine x_sp dX0_enough_22 (by decide) (by decide) ?_
    refine x_icmp_gt 56 dX0_enough_25 (by decide) (fun _ => ?_) (fun _ => ?_)
    · refine x_ic dX0_enough_56 (by decide) (by decide) ?_
      exact x_iret rfl dX0_enough_57
    · refine x_ldc2 (n := 100) q524 dX0_enough_28 (by decide +kernel) ⟨by decide, by decide⟩ ?_
      refine x_aload_n 1 dX0_enough_31 rfl rfl ?_
      refine x_iload_n 2 dX0_enough_32 rfl rfl ?_
      refine cl_X0_284 (by omega) (Nat.le_of_ble_eq_true rfl) dX0_enough_33 fun r1 h2 => ?_
      refine x_lmul dX0_enough_36 ?_
      refine x_iload_n 0 dX0_enough_37 rfl rfl ?_
      refine x_i2l dX0_enough_38 ?_
      refine x_aload_n 1 dX0_enough_39 rfl rfl ?_
      refine xg_X0_286 dX0_enough_40 ?_
      refine x_lmul dX0_enough_43 ?_
      refine x_lcmp_lt 50 dX0_enough_44 dX0_enough_45 (by decide) (fun _ => ?_) (fun _ => ?_)
      · refine x_iinc 2 dX0_enough_50 rfl (by decide) fun v3 => x_lv (lv' := [(3, (0, v3)), (1, (0, x1)), (2, (2, x2))]) rfl ?_
        refine x_goto 21 dX0_enough_53 (by decide) ?_
        exact x_sub [1, 2, 0] rfl (ih x1 x2 v3 h2)
      · refine x_iload_n 2 dX0_enough_48 rfl rfl ?_
        exact x_iret rfl dX0_enough_49
noncomputable def F_X0_enough (x0 : Int) (x1 : Int) (h : XH) : Option XR := mb (F_X0_in x1 0 100 h) fun r1 h2 => if r1 = 0 then (some ((-1), h2)) else (ob h2 x0 1 <| mb (F_X0_schemes x0 h2) fun r3 h4 => F_X0_enough_21 FU x1 r3 0 h4)
theorem WF_X0_enough {d : Nat} {Z : XZ XR} (hdd : 132 ≤ d) : ∀ x0 x1 h, XG xfh (xQ 0) RX0 "enough" cX0_enough 4 (some .int) d Z 0 [(0, (2, x0)), (1, (0, x1))] [] h (F_X0_enough x0 x1 h) := by
  intro x0 x1 h
  unfold F_X0_enough
  refine x_iload_n 1 dX0_enough_0 rfl rfl ?_
  refine x_i2l dX0_enough_1 ?_
  refine x_l0 dX0_enough_2 ?_
  refine x_ldc2 (n := 100) q524 dX0_enough_3 (by decide +kernel) ⟨by decide, by decide⟩ ?_
  refine cl_X0_109 (by omega) (Nat.le_of_ble_eq_true rfl) dX0_enough_6 fun r1 h2 => ?_
  refine x_if_ne 14 dX0_enough_9 (by decide) (fun _ => ?_) (fun _ => ?_)
  · refine x_aload_n 0 dX0_enough_14 rfl rfl ?_
    refine cl_X0_277 (by omega) (Nat.le_of_ble_eq_true rfl) dX0_enough_15 fun r3 h4 => ?_
    refine x_astore_n (lv' := [(2, (2, r3)), (0, (2, x0)), (1, (0, x1))]) dX0_enough_18 rfl (by decide) rfl ?_
    refine x_ic dX0_enough_19 (by decide) (by decide) ?_
    refine x_istore_n (lv' := [(3, (0, 0)), (2, (2, r3)), (0, (2, x0)), (1, (0, x1))]) dX0_enough_20 rfl (by decide) rfl ?_
    exact x_sub [3, 1, 0] rfl (WF_X0_enough_21 hdd FU x1 r3 0 h4)
  · refine x_ic dX0_enough_12 (by decide) (by decide) ?_
    exact x_iret rfl dX0_enough_13
theorem SF_X0_enough (l : Launch) {d : Nat} (hdd : 132 ≤ d) (x0 : Int) (x1 : Int) (h : XH) (hok : okH h) (ho : okXs (xn h) [(2, x0), (0, x1)]) (fin : XR) (hf : F_X0_enough x0 x1 h = some fin) : xSpec l yX0_enough cX0_enough 4 (some .int) d 0 [(2, x0), (0, x1)] h fin := x_enter (lv := [(0, (2, x0)), (1, (0, x1))]) (by decide) rfl rfl (Nat.le_of_ble_eq_true rfl) rfl (fun Z _ => WF_X0_enough hdd x0 x1 h) hok ho fin hf
theorem xpF_X21_13 {ρ : Type} {fh : ρ → XH} {QQ : XZ ρ → State → Prop} {cc : ByteArray} {nL : Nat} {ret : Option FieldType} {d : Nat} {Z : XZ ρ} {pc : Nat} {lv : List (Nat × AV)} {st : List AV} {h : XH} {f : XH → Option ρ} {a x : Int} (hd : decode cc pc = .ok (.putfield 13, 3)) (kk : ∀ h1, XG fh QQ RX21 "<init>" cc nL ret d Z (pc + 3) lv st h1 (f h1)) : XG fh QQ RX21 "<init>" cc nL ret d Z pc lv ((0, x) :: (2, a) :: st) h (ob h a 19 (nm (hset h a 1 x) f)) := x_putF (C := RX21) (ref := RX21) 19 1 rfl in_X21 tyX21_ok nmX21 (by decide) rfl (by decide) (Or.inl rfl) rfl rfl rfl (xfit_X21 1 (by decide)) 0 rfl q1273 hd kk
theorem xpF_X21_7 {ρ : Type} {fh : ρ → XH} {QQ : XZ ρ → State → Prop} {cc : ByteArray} {nL : Nat} {ret : Option FieldType} {d : Nat} {Z : XZ ρ} {pc : Nat} {lv : List (Nat × AV)} {st : List AV} {h : XH} {f : XH → Option ρ} {a x : Int} (hd : decode cc pc = .ok (.putfield 7, 3)) (kk : ∀ h1, XG fh QQ RX21 "<init>" cc nL ret d Z (pc + 3) lv st h1 (f h1)) : XG fh QQ RX21 "<init>" cc nL ret d Z pc lv ((0, x) :: (2, a) :: st) h (ob h a 19 (nm (hset h a 0 x) f)) := x_putF (C := RX21) (ref := RX21) 19 0 rfl in_X21 tyX21_ok nmX21 (by decide) rfl (by decide) (Or.inl rfl) rfl rfl rfl (xfit_X21 0 (by decide)) 0 rfl q1271 hd kk
noncomputable def F_X21_init (x0 : Int) (x1 : Int) (x2 : Int) (h : XH) : Option XR := pz x0 <| ob h x0 19 <| nm (hset h x0 0 x1) fun h1 => ob h1 x0 19 <| nm (hset h1 x0 1 x2) fun h2 => some (0, h2)
theorem WF_X21_init {d : Nat} {Z : XZ XR} (hdd : 1 ≤ d) : ∀ x0 x1 x2 h, XG xfh (xQ 2) RX21 "<init>" cX21_init 3 none d Z 0 [(0, (2, x0)), (1, (0, x1)), (2, (0, x2))] [] h (F_X21_init x0 x1 x2 h) := by
  intro x0 x1 x2 h
  unfold F_X21_init
  refine x_aload_n 0 dX21_init_0 rfl rfl ?_
  refine x_objinit q1270 q176 q177 (by omega) (Nat.le_of_ble_eq_true rfl) dX21_init_1 ?_
  refine x_aload_n 0 dX21_init_4 rfl rfl ?_
  refine x_iload_n 1 dX21_init_5 rfl rfl ?_
  refine xpF_X21_7 dX21_init_6 fun h1 => ?_
  refine x_aload_n 0 dX21_init_9 rfl rfl ?_
  refine x_iload_n 2 dX21_init_10 rfl rfl ?_
  refine xpF_X21_13 dX21_init_11 fun h2 => ?_
  exact x_vret rfl dX21_init_14
theorem SF_X21_init (l : Launch) {d : Nat} (hdd : 1 ≤ d) (x0 : Int) (x1 : Int) (x2 : Int) (h : XH) (hok : okH h) (ho : okXs (xn h) [(2, x0), (0, x1), (0, x2)]) (fin : XR) (hf : F_X21_init x0 x1 x2 h = some fin) : xSpec l yX21_init cX21_init 3 none d 2 [(2, x0), (0, x1), (0, x2)] h fin := x_enter (lv := [(0, (2, x0)), (1, (0, x1)), (2, (0, x2))]) (by decide) rfl rfl (Nat.le_of_ble_eq_true rfl) rfl (fun Z _ => WF_X21_init hdd x0 x1 x2 h) hok ho fin hf
theorem cl_X0_304 {ρ : Type} {fh : ρ → XH} {QQ : XZ ρ → State → Prop} {mn : String} {cc : ByteArray} {nL : Nat} {ret : Option FieldType} {d : Nat} {Z : XZ ρ} {pc : Nat} {lv : List (Nat × AV)} {st : List AV} {h : XH} {g : Int → XH → Option ρ} {b a0 a1 : Int} (hdd : 2 ≤ d) (hcat : (st.map fun v => if v.1 = 1 then 2 else 1).sum ≤ 8) (hdg : decode cc pc = .ok (.invokespecial 304, 3)) (kk : ∀ r h1, XG fh QQ RX0 mn cc nL ret d Z (pc + 3) lv st h1 (g r h1)) : XG fh QQ RX0 mn cc nL ret d Z pc lv ((0, a1) :: (0, a0) :: (2, b) :: st) h (pz b (mb (F_X21_init b a0 a1 h) g)) :=
  x_callIv [(0, a0), (0, a1)] 2 (WF_X21_init (Z := (Z.1, Z.2.1, ((0, h), h))) (Nat.le_refl 1) b a0 a1 h).1 (fun hok ho fin hf => SF_X21_init (yL Z) (Nat.le_refl 1) b a0 a1 h hok ho fin hf) (lw_meth q1269) q159 q1267 q1268 rfl ⟨by decide +kernel, by decide +kernel, by decide +kernel⟩ rfl (by omega) (by decide) rfl hcat hdg kk
theorem xg_X0_299 {ρ : Type} {fh : ρ → XH} {QQ : XZ ρ → State → Prop} {mn : String} {cc : ByteArray} {nL : Nat} {ret : Option FieldType} {d : Nat} {Z : XZ ρ} {pc : Nat} {lv : List (Nat × AV)} {st : List AV} {h : XH} {res : Option ρ} {a : Int} (hd : decode cc pc = .ok (.getfield 299, 3)) (kk : XG fh QQ RX0 mn cc nL ret d Z (pc + 3) lv ((2, xv h a 2) :: st) h res) : XG fh QQ RX0 mn cc nL ret d Z pc lv ((2, a) :: st) h (ob h a 2 res) := x_getN (C := RX1) (ref := RX1) 2 2 rfl in_X1 (by decide) rfl (by decide) (Or.inl rfl) q219 hd kk
theorem xn_X0_302 {ρ : Type} {fh : ρ → XH} {QQ : XZ ρ → State → Prop} {mn : String} {cc : ByteArray} {nL : Nat} {ret : Option FieldType} {d : Nat} {Z : XZ ρ} {pc : Nat} {lv : List (Nat × AV)} {st : List AV} {h : XH} {f : Int → XH → Option ρ} (hd : decode cc pc = .ok (.new 302, 3)) (kk : ∀ r h1, XG fh QQ RX0 mn cc nL ret d Z (pc + 3) lv ((2, r) :: st) h1 (f r h1)) : XG fh QQ RX0 mn cc nL ret d Z pc lv st h (nw h 19 2 f) := x_new (C := RX21) 19 rfl in_X21 tyX21_ok (by decide) rfl (by decide) xfit_X21 q1265 q1266 q159 hd kk
noncomputable def F_X0_lesson (x0 : Int) (x1 : Int) (x2 : Int) (h : XH) : Option XR := mb (F_X0_in x1 0 19 h) fun r1 h2 => if r1 = 0 then (ob h2 x0 1 <| mb (F_X0_tell x0 (-1) h2) fun r21 h22 => some (r21, h22)) else (ob h2 x0 1 <| mb (F_X0_questionOf x0 x2 h2) fun r3 h4 => if r3 = 0 then (ob h4 x0 1 <| mb (F_X0_tell x0 (-2) h4) fun r5 h6 => some (r5, h6)) else (ob h4 x0 1 <| ob h4 (xv h4 x0 0) 2 <| ob h4 (xv h4 (xv h4 x0 0) 2) 26 <| mb (F_J2_size (xv h4 (xv h4 x0 0) 2) h4) fun r7 h8 => if r7 = 120 then (ob h8 x0 1 <| mb (F_X0_tell x0 (-5) h8) fun r19 h20 => some (r19, h20)) else (ob h8 x0 1 <| ob h8 (xv h8 x0 0) 2 <| nw h8 19 2 fun r9 h10 => pz r9 <| mb (F_X21_init r9 x1 x2 h10) fun r11 h12 => ob h12 (xv h8 (xv h8 x0 0) 2) 26 <| mb (F_J2_add (xv h8 (xv h8 x0 0) 2) r9 h12) fun r13 h14 => ob h14 x0 1 <| ob h14 (xv h14 x0 0) 2 <| ob h14 (xv h14 (xv h14 x0 0) 2) 26 <| mb (F_J2_size (xv h14 (xv h14 x0 0) 2) h14) fun r15 h16 => ob h16 x0 1 <| mb (F_X0_tell x0 r15 h16) fun r17 h18 => some (r17, h18))))
theorem WF_X0_lesson {d : Nat} {Z : XZ XR} (hdd : 7 ≤ d) : ∀ x0 x1 x2 h, XG xfh (xQ 0) RX0 "lesson" cX0_lesson 3 (some .int) d Z 0 [(0, (2, x0)), (1, (0, x1)), (2, (0, x2))] [] h (F_X0_lesson x0 x1 x2 h) := by
  intro x0 x1 x2 h
  unfold F_X0_lesson
  refine x_iload_n 1 dX0_lesson_0 rfl rfl ?_
  refine x_i2l dX0_lesson_1 ?_
  refine x_l0 dX0_lesson_2 ?_
  refine x_ldc2 (n := 19) q1264 dX0_lesson_3 (by decide +kernel) ⟨by decide, by decide⟩ ?_
  refine cl_X0_109 (by omega) (Nat.le_of_ble_eq_true rfl) dX0_lesson_6 fun r1 h2 => ?_
  refine x_if_ne 18 dX0_lesson_9 (by decide) (fun _ => ?_) (fun _ => ?_)
  · refine x_aload_n 0 dX0_lesson_18 rfl rfl ?_
    refine x_iload_n 2 dX0_lesson_19 rfl rfl ?_
    refine cl_X0_147 (by omega) (Nat.le_of_ble_eq_true rfl) dX0_lesson_20 fun r3 h4 => ?_
    refine x_ifnonnull 33 dX0_lesson_23 (by decide) (fun _ => ?_) (fun _ => ?_)
    · refine x_aload_n 0 dX0_lesson_26 rfl rfl ?_
      refine x_bp dX0_lesson_27 (by decide) (by decide) ?_
      refine cl_X0_133 (by omega) (Nat.le_of_ble_eq_true rfl) dX0_lesson_29 fun r5 h6 => ?_
      exact x_iret rfl dX0_lesson_32
    · refine x_aload_n 0 dX0_lesson_33 rfl rfl ?_
      refine xg_X0_17 dX0_lesson_34 ?_
      refine xg_X0_299 dX0_lesson_37 ?_
      refine cl_X0_106 (by omega) (Nat.le_of_ble_eq_true rfl) dX0_lesson_40 fun r7 h8 => ?_
      refine x_bp dX0_lesson_43 (by decide) (by decide) ?_
      refine x_icmp_ne 55 dX0_lesson_45 (by decide) (fun _ => ?_) (fun _ => ?_)
      · refine x_aload_n 0 dX0_lesson_55 rfl rfl ?_
        refine xg_X0_17 dX0_lesson_56 ?_
        refine xg_X0_299 dX0_lesson_59 ?_
        refine xn_X0_302 dX0_lesson_62 fun r9 h10 => ?_
        refine x_dup dX0_lesson_65 rfl ?_
        refine x_iload_n 1 dX0_lesson_66 rfl rfl ?_
        refine x_iload_n 2 dX0_lesson_67 rfl rfl ?_
        refine cl_X0_304 (by omega) (Nat.le_of_ble_eq_true rfl) dX0_lesson_68 fun r11 h12 => ?_
        refine cl_X0_139 (by omega) (Nat.le_of_ble_eq_true rfl) dX0_lesson_71 fun r13 h14 => ?_
        refine x_pop dX0_lesson_74 rfl ?_
        refine x_aload_n 0 dX0_lesson_75 rfl rfl ?_
        refine x_aload_n 0 dX0_lesson_76 rfl rfl ?_
        refine xg_X0_17 dX0_lesson_77 ?_
        refine xg_X0_299 dX0_lesson_80 ?_
        refine cl_X0_106 (by omega) (Nat.le_of_ble_eq_true rfl) dX0_lesson_83 fun r15 h16 => ?_
        refine cl_X0_133 (by omega) (Nat.le_of_ble_eq_true rfl) dX0_lesson_86 fun r17 h18 => ?_
        exact x_iret rfl dX0_lesson_89
      · refine x_aload_n 0 dX0_lesson_48 rfl rfl ?_
        refine x_bp dX0_lesson_49 (by decide) (by decide) ?_
        refine cl_X0_133 (by omega) (Nat.le_of_ble_eq_true rfl) dX0_lesson_51 fun r19 h20 => ?_
        exact x_iret rfl dX0_lesson_54
  · refine x_aload_n 0 dX0_lesson_12 rfl rfl ?_
    refine x_ic dX0_lesson_13 (by decide) (by decide) ?_
    refine cl_X0_133 (by omega) (Nat.le_of_ble_eq_true rfl) dX0_lesson_14 fun r21 h22 => ?_
    exact x_iret rfl dX0_lesson_17
theorem SF_X0_lesson (l : Launch) {d : Nat} (hdd : 7 ≤ d) (x0 : Int) (x1 : Int) (x2 : Int) (h : XH) (hok : okH h) (ho : okXs (xn h) [(2, x0), (0, x1), (0, x2)]) (fin : XR) (hf : F_X0_lesson x0 x1 x2 h = some fin) : xSpec l yX0_lesson cX0_lesson 3 (some .int) d 0 [(2, x0), (0, x1), (0, x2)] h fin := x_enter (lv := [(0, (2, x0)), (1, (0, x1)), (2, (0, x2))]) (by decide) rfl rfl (Nat.le_of_ble_eq_true rfl) rfl (fun Z _ => WF_X0_lesson hdd x0 x1 x2 h) hok ho fin hf
noncomputable def F_J2_clear_27 : Nat → Int → Int → Int → XH → Option XR
  | 0, _, _, _, _ => none
  | n + 1, x1, x2, x3, h => if x2 ≤ x3 then (some (0, h)) else (ai h x1 9 x3 <| ex h "java/lang/Object" 0 <| nm (hset h x1 x3 0) fun h1 => nm (w32 (x3 + 1)) fun v2 => F_J2_clear_27 n x1 x2 v2 h1)
theorem WF_J2_clear_27 {d : Nat} {Z : XZ XR} (hdd : 1 ≤ d) : ∀ n x1 x2 x3 h, XG xfh (xQ 2) RJ2 "clear" cJ2_clear 4 none d Z 27 [(1, (2, x1)), (2, (0, x2)), (3, (0, x3))] [] h (F_J2_clear_27 n x1 x2 x3 h) := by
  intro n
  induction n with
  | zero => intro x1 x2 x3 h; exact x_none
  | succ n ih =>
    intro x1 x2 x3 h
    rw [F_J2_clear_27]
    refine x_iload_n 2 dJ2_clear_27 rfl rfl ?_
    refine x_iload_n 1 dJ2_clear_28 rfl rfl ?_
    refine x_icmp_ge 42 dJ2_clear_29 (by decide) (fun _ => ?_) (fun _ => ?_)
    · exact x_vret rfl dJ2_clear_42
    · refine x_aload_n 0 dJ2_clear_32 rfl rfl ?_
      refine x_iload_n 2 dJ2_clear_33 rfl rfl ?_
      refine x_null dJ2_clear_34 ?_
      refine x_aastM (E := "java/lang/Object") 9 (by decide) (by decide) rfl dJ2_clear_35 fun h1 => ?_
      refine x_iinc 2 dJ2_clear_36 rfl (by decide) fun v2 => x_lv (lv' := [(3, (0, v2)), (1, (2, x1)), (2, (0, x2))]) rfl ?_
      refine x_goto 27 dJ2_clear_39 (by decide) ?_
      exact x_sub [1, 2, 0] rfl (ih x1 x2 v2 h1)
noncomputable def F_J2_clear (x0 : Int) (h : XH) : Option XR := ob h x0 26 <| ob h x0 26 <| nm (hset h x0 0 (w32 ((xv h x0 0) + 1))) fun h1 => ob h1 x0 26 <| nm (α := Int) (xv h1 x0 1) fun v2 => ob h1 x0 26 <| nm (α := Int) (xv h1 x0 2) fun v3 => ob h1 x0 26 <| nm (hset h1 x0 2 0) fun h4 => F_J2_clear_27 FU v2 v3 0 h4
theorem WF_J2_clear {d : Nat} {Z : XZ XR} (hdd : 1 ≤ d) : ∀ x0 h, XG xfh (xQ 2) RJ2 "clear" cJ2_clear 4 none d Z 0 [(0, (2, x0))] [] h (F_J2_clear x0 h) := by
  intro x0 h
  unfold F_J2_clear
  refine x_aload_n 0 dJ2_clear_0 rfl rfl ?_
  refine x_dup dJ2_clear_1 rfl ?_
  refine xg_J2_63 dJ2_clear_2 ?_
  refine x_ic dJ2_clear_5 (by decide) (by decide) ?_
  refine x_iadd dJ2_clear_6 ?_
  refine xp_J2_63 dJ2_clear_7 fun h1 => ?_
  refine x_aload_n 0 dJ2_clear_10 rfl rfl ?_
  refine xg_J2_9 dJ2_clear_11 ?_
  refine x_nmT fun v2 => ?_
  refine x_astore_n (lv' := [(1, (2, v2)), (0, (2, x0))]) dJ2_clear_14 rfl (by decide) rfl ?_
  refine x_aload_n 1 dJ2_clear_15 rfl rfl ?_
  refine xg_J2_48 dJ2_clear_16 ?_
  refine x_nmT fun v3 => ?_
  refine x_istore_n (lv' := [(2, (0, v3)), (1, (2, v2)), (0, (2, x0))]) dJ2_clear_19 rfl (by decide) rfl ?_
  refine x_aload_n 2 dJ2_clear_20 rfl rfl ?_
  refine x_ic dJ2_clear_21 (by decide) (by decide) ?_
  refine x_dup_x1 dJ2_clear_22 rfl rfl ?_
  refine xp_J2_48 dJ2_clear_23 fun h4 => ?_
  refine x_istore_n (lv' := [(3, (0, 0)), (2, (0, v3)), (1, (2, v2)), (0, (2, x0))]) dJ2_clear_26 rfl (by decide) rfl ?_
  exact x_sub [2, 1, 0] rfl (WF_J2_clear_27 hdd FU v2 v3 0 h4)
theorem SF_J2_clear (l : Launch) {d : Nat} (hdd : 1 ≤ d) (x0 : Int) (h : XH) (hok : okH h) (ho : okXs (xn h) [(2, x0)]) (fin : XR) (hf : F_J2_clear x0 h = some fin) : xSpec l yJ2_clear cJ2_clear 4 none d 2 [(2, x0)] h fin := x_enter (lv := [(0, (2, x0))]) (by decide) rfl rfl (Nat.le_of_ble_eq_true rfl) rfl (fun Z _ => WF_J2_clear hdd x0 h) hok ho fin hf
theorem cl_X0_307 {ρ : Type} {fh : ρ → XH} {QQ : XZ ρ → State → Prop} {mn : String} {cc : ByteArray} {nL : Nat} {ret : Option FieldType} {d : Nat} {Z : XZ ρ} {pc : Nat} {lv : List (Nat × AV)} {st : List AV} {h : XH} {g : Int → XH → Option ρ} {b : Int} (hdd : 2 ≤ d) (hcat : (st.map fun v => if v.1 = 1 then 2 else 1).sum ≤ 8) (hdg : decode cc pc = .ok (.invokevirtual 307, 3)) (kk : ∀ r h1, XG fh QQ RX0 mn cc nL ret d Z (pc + 3) lv st h1 (g r h1)) : XG fh QQ RX0 mn cc nL ret d Z pc lv ((2, b) :: st) h (ob h b 26 (mb (F_J2_clear b h) g)) :=
  x_callVv [] 0 (WF_J2_clear (Z := (Z.1, Z.2.1, ((0, h), h))) (Nat.le_refl 1) b h).1 (fun hok ho fin hf => SF_J2_clear (yL Z) (Nat.le_refl 1) b h hok ho fin hf) RJ2 26 rfl (by decide) (lw_V q1284 q1285 q1286 q128 q1287) ⟨rfl, by decide +kernel, by decide +kernel, by decide +kernel⟩ rfl (by omega) (by decide) rfl hcat hdg kk
noncomputable def F_X0_clear (x0 : Int) (h : XH) : Option XR := ob h x0 1 <| ob h (xv h x0 0) 2 <| ob h (xv h (xv h x0 0) 2) 26 <| mb (F_J2_size (xv h (xv h x0 0) 2) h) fun r1 h2 => ob h2 x0 1 <| ob h2 (xv h2 x0 0) 2 <| ob h2 (xv h2 (xv h2 x0 0) 2) 26 <| mb (F_J2_clear (xv h2 (xv h2 x0 0) 2) h2) fun r3 h4 => some (r1, h4)
theorem WF_X0_clear {d : Nat} {Z : XZ XR} (hdd : 2 ≤ d) : ∀ x0 h, XG xfh (xQ 0) RX0 "clear" cX0_clear 2 (some .int) d Z 0 [(0, (2, x0))] [] h (F_X0_clear x0 h) := by
  intro x0 h
  unfold F_X0_clear
  refine x_aload_n 0 dX0_clear_0 rfl rfl ?_
  refine xg_X0_17 dX0_clear_1 ?_
  refine xg_X0_299 dX0_clear_4 ?_
  refine cl_X0_106 (by omega) (Nat.le_of_ble_eq_true rfl) dX0_clear_7 fun r1 h2 => ?_
  refine x_istore_n (lv' := [(1, (0, r1)), (0, (2, x0))]) dX0_clear_10 rfl (by decide) rfl ?_
  refine x_aload_n 1 dX0_clear_11 rfl rfl ?_
  refine xg_X0_17 dX0_clear_12 ?_
  refine xg_X0_299 dX0_clear_15 ?_
  refine cl_X0_307 (by omega) (Nat.le_of_ble_eq_true rfl) dX0_clear_18 fun r3 h4 => ?_
  refine x_iload_n 0 dX0_clear_21 rfl rfl ?_
  exact x_iret rfl dX0_clear_22
theorem SF_X0_clear (l : Launch) {d : Nat} (hdd : 2 ≤ d) (x0 : Int) (h : XH) (hok : okH h) (ho : okXs (xn h) [(2, x0)]) (fin : XR) (hf : F_X0_clear x0 h = some fin) : xSpec l yX0_clear cX0_clear 2 (some .int) d 0 [(2, x0)] h fin := x_enter (lv := [(0, (2, x0))]) (by decide) rfl rfl (Nat.le_of_ble_eq_true rfl) rfl (fun Z _ => WF_X0_clear hdd x0 h) hok ho fin hf
theorem cl_X22_56 {ρ : Type} {fh : ρ → XH} {QQ : XZ ρ → State → Prop} {mn : String} {cc : ByteArray} {nL : Nat} {ret : Option FieldType} {d : Nat} {Z : XZ ρ} {pc : Nat} {lv : List (Nat × AV)} {st : List AV} {h : XH} {g : Int → XH → Option ρ} {b a0 : Int} (hdd : 4 ≤ d) (hcat : (st.map fun v => if v.1 = 1 then 2 else 1).sum ≤ 8) (hdg : decode cc pc = .ok (.invokevirtual 56, 3)) (kk : ∀ r h1, XG fh QQ RX22 mn cc nL ret d Z (pc + 3) lv ((2, r) :: st) h1 (g r h1)) : XG fh QQ RX22 mn cc nL ret d Z pc lv ((0, a0) :: (2, b) :: st) h (ob h b 26 (mb (F_J2_get b a0 h) g)) :=
  x_callVr [(0, a0)] 1 (WF_J2_get (Z := (Z.1, Z.2.1, ((0, h), h))) (Nat.le_refl 3) b a0 h).1 (fun hok ho fin hf => SF_J2_get (yL Z) (Nat.le_refl 3) b a0 h hok ho fin hf) RJ2 26 rfl (by decide) (lw_V q1303 q497 q498 q128 q499) ⟨rfl, by decide +kernel, by decide +kernel, by decide +kernel⟩ rfl (by omega) (by decide) rfl hcat hdg kk
theorem cl_X22_99 {ρ : Type} {fh : ρ → XH} {QQ : XZ ρ → State → Prop} {mn : String} {cc : ByteArray} {nL : Nat} {ret : Option FieldType} {d : Nat} {Z : XZ ρ} {pc : Nat} {lv : List (Nat × AV)} {st : List AV} {h : XH} {g : Int → XH → Option ρ} {b a0 a1 : Int} (hdd : 127 ≤ d) (hcat : (st.map fun v => if v.1 = 1 then 2 else 1).sum ≤ 8) (hdg : decode cc pc = .ok (.invokevirtual 99, 3)) (kk : ∀ r h1, XG fh QQ RX22 mn cc nL ret d Z (pc + 3) lv ((0, r) :: st) h1 (g r h1)) : XG fh QQ RX22 mn cc nL ret d Z pc lv ((0, a1) :: (2, a0) :: (2, b) :: st) h (ob h b 1 (mb (F_X0_keepsOf b a0 a1 h) g)) :=
  x_callPi [(2, a0), (0, a1)] 2 (WF_X0_keepsOf (Z := (Z.1, Z.2.1, ((0, h), h))) (Nat.le_refl 126) b a0 a1 h).1 (fun hok ho fin hf => SF_X0_keepsOf (yL Z) (Nat.le_refl 126) b a0 a1 h hok ho fin hf) RX0 1 rfl (by decide) q1317 q124 q979 qs30 (lw_meth q980) ⟨by decide +kernel, by decide +kernel, by decide +kernel⟩ rfl (by omega) (by decide) rfl hcat hdg kk
theorem xg_X22_103 {ρ : Type} {fh : ρ → XH} {QQ : XZ ρ → State → Prop} {mn : String} {cc : ByteArray} {nL : Nat} {ret : Option FieldType} {d : Nat} {Z : XZ ρ} {pc : Nat} {lv : List (Nat × AV)} {st : List AV} {h : XH} {res : Option ρ} {a : Int} (hd : decode cc pc = .ok (.getfield 103, 3)) (kk : XG fh QQ RX22 mn cc nL ret d Z (pc + 3) lv ((0, xv h a 3) :: st) h res) : XG fh QQ RX22 mn cc nL ret d Z pc lv ((2, a) :: st) h (ob h a 20 res) := x_get (C := RX22) (ref := RX22) 20 3 rfl in_X22 (by decide) rfl (by decide) (Or.inl rfl) q1323 hd kk
theorem xp_X22_103 {ρ : Type} {fh : ρ → XH} {QQ : XZ ρ → State → Prop} {mn : String} {cc : ByteArray} {nL : Nat} {ret : Option FieldType} {d : Nat} {Z : XZ ρ} {pc : Nat} {lv : List (Nat × AV)} {st : List AV} {h : XH} {f : XH → Option ρ} {a x : Int} (hd : decode cc pc = .ok (.putfield 103, 3)) (kk : ∀ h1, XG fh QQ RX22 mn cc nL ret d Z (pc + 3) lv st h1 (f h1)) : XG fh QQ RX22 mn cc nL ret d Z pc lv ((0, x) :: (2, a) :: st) h (ob h a 20 (nm (hset h a 3 x) f)) := x_put (C := RX22) (ref := RX22) 20 3 rfl in_X22 tyX22_ok nmX22 (by decide) rfl (by decide) (Or.inl rfl) (by decide) (xfit_X22 3 (by decide)) 0 rfl q1323 hd kk
theorem xg_X22_15 {ρ : Type} {fh : ρ → XH} {QQ : XZ ρ → State → Prop} {mn : String} {cc : ByteArray} {nL : Nat} {ret : Option FieldType} {d : Nat} {Z : XZ ρ} {pc : Nat} {lv : List (Nat × AV)} {st : List AV} {h : XH} {res : Option ρ} {a : Int} (hd : decode cc pc = .ok (.getfield 15, 3)) (kk : XG fh QQ RX22 mn cc nL ret d Z (pc + 3) lv ((2, xv h a 0) :: st) h res) : XG fh QQ RX22 mn cc nL ret d Z pc lv ((2, a) :: st) h (ob h a 20 res) := x_get (C := RX22) (ref := RX22) 20 0 rfl in_X22 (by decide) rfl (by decide) (Or.inl rfl) q1318 hd kk
theorem xg_X22_19 {ρ : Type} {fh : ρ → XH} {QQ : XZ ρ → State → Prop} {mn : String} {cc : ByteArray} {nL : Nat} {ret : Option FieldType} {d : Nat} {Z : XZ ρ} {pc : Nat} {lv : List (Nat × AV)} {st : List AV} {h : XH} {res : Option ρ} {a : Int} (hd : decode cc pc = .ok (.getfield 19, 3)) (kk : XG fh QQ RX22 mn cc nL ret d Z (pc + 3) lv ((2, xv h a 1) :: st) h res) : XG fh QQ RX22 mn cc nL ret d Z pc lv ((2, a) :: st) h (ob h a 20 res) := x_get (C := RX22) (ref := RX22) 20 1 rfl in_X22 (by decide) rfl (by decide) (Or.inl rfl) q1320 hd kk
theorem xg_X22_3 {ρ : Type} {fh : ρ → XH} {QQ : XZ ρ → State → Prop} {mn : String} {cc : ByteArray} {nL : Nat} {ret : Option FieldType} {d : Nat} {Z : XZ ρ} {pc : Nat} {lv : List (Nat × AV)} {st : List AV} {h : XH} {res : Option ρ} {a : Int} (hd : decode cc pc = .ok (.getfield 3, 3)) (kk : XG fh QQ RX22 mn cc nL ret d Z (pc + 3) lv ((2, xv h a 6) :: st) h res) : XG fh QQ RX22 mn cc nL ret d Z pc lv ((2, a) :: st) h (ob h a 20 res) := x_get (C := RX22) (ref := RX22) 20 6 rfl in_X22 (by decide) rfl (by decide) (Or.inl rfl) q1329 hd kk
theorem xg_X22_46 {ρ : Type} {fh : ρ → XH} {QQ : XZ ρ → State → Prop} {mn : String} {cc : ByteArray} {nL : Nat} {ret : Option FieldType} {d : Nat} {Z : XZ ρ} {pc : Nat} {lv : List (Nat × AV)} {st : List AV} {h : XH} {res : Option ρ} {a : Int} (hd : decode cc pc = .ok (.getfield 46, 3)) (kk : XG fh QQ RX22 mn cc nL ret d Z (pc + 3) lv ((2, xv h a 0) :: st) h res) : XG fh QQ RX22 mn cc nL ret d Z pc lv ((2, a) :: st) h (ob h a 1 res) := x_getN (C := RX0) (ref := RX0) 1 0 rfl in_X0 (by decide) rfl (by decide) (Or.inl rfl) q293 hd kk
theorem xg_X22_50 {ρ : Type} {fh : ρ → XH} {QQ : XZ ρ → State → Prop} {mn : String} {cc : ByteArray} {nL : Nat} {ret : Option FieldType} {d : Nat} {Z : XZ ρ} {pc : Nat} {lv : List (Nat × AV)} {st : List AV} {h : XH} {res : Option ρ} {a : Int} (hd : decode cc pc = .ok (.getfield 50, 3)) (kk : XG fh QQ RX22 mn cc nL ret d Z (pc + 3) lv ((2, xv h a 0) :: st) h res) : XG fh QQ RX22 mn cc nL ret d Z pc lv ((2, a) :: st) h (ob h a 2 res) := x_getN (C := RX1) (ref := RX1) 2 0 rfl in_X1 (by decide) rfl (by decide) (Or.inl rfl) q213 hd kk
noncomputable def F_X22_forget (x0 : Int) (x1 : Int) (x2 : Int) (h : XH) : Option XR := ob h x0 20 <| ai h (xv h x0 0) 0 x1 <| if xv h (xv h x0 0) x1 = 0 then (some (0, h)) else (ob h x0 20 <| ai h (xv h x0 1) 0 x1 <| ob h x0 20 <| ob h x0 20 <| ob h (xv h x0 6) 1 <| ob h (xv h (xv h x0 6) 0) 2 <| ob h (xv h (xv h (xv h x0 6) 0) 0) 26 <| mb (F_J2_get (xv h (xv h (xv h x0 6) 0) 0) x1 h) fun r1 h2 => ob h2 r1 5 <| ob h2 x0 20 <| ai h2 (xv h2 x0 0) 0 x1 <| ob h2 (xv h x0 6) 1 <| mb (F_X0_keepsOf (xv h x0 6) r1 (xv h2 (xv h2 x0 0) x1) h2) fun r3 h4 => if r3 ≤ w32 (x2 - (xv h (xv h x0 1) x1)) then (ob h4 x0 20 <| ai h4 (xv h4 x0 0) 0 x1 <| ai h4 (xv h4 x0 0) 0 x1 <| nm (hset h4 (xv h4 x0 0) x1 (w32 ((xv h4 (xv h4 x0 0) x1) - 1))) fun h5 => ob h5 x0 20 <| ai h5 (xv h5 x0 1) 0 x1 <| nm (hset h5 (xv h5 x0 1) x1 x2) fun h6 => ob h6 x0 20 <| ob h6 x0 20 <| nm (hset h6 x0 3 (w32 ((xv h6 x0 3) + 1))) fun h7 => some (0, h7)) else (some (0, h4)))
theorem WF_X22_forget {d : Nat} {Z : XZ XR} (hdd : 127 ≤ d) : ∀ x0 x1 x2 h, XG xfh (xQ 2) RX22 "forget" cX22_forget 3 none d Z 0 [(0, (2, x0)), (1, (0, x1)), (2, (0, x2))] [] h (F_X22_forget x0 x1 x2 h) := by
  intro x0 x1 x2 h
  unfold F_X22_forget
  refine x_aload_n 0 dX22_forget_0 rfl rfl ?_
  refine xg_X22_15 dX22_forget_1 ?_
  refine x_iload_n 1 dX22_forget_4 rfl rfl ?_
  refine x_iald dX22_forget_5 ?_
  refine x_if_eq 50 dX22_forget_6 (by decide) (fun _ => ?_) (fun _ => ?_)
  · exact x_vret rfl dX22_forget_50
  · refine x_iload_n 2 dX22_forget_9 rfl rfl ?_
    refine x_aload_n 0 dX22_forget_10 rfl rfl ?_
    refine xg_X22_19 dX22_forget_11 ?_
    refine x_iload_n 1 dX22_forget_14 rfl rfl ?_
    refine x_iald dX22_forget_15 ?_
    refine x_isub dX22_forget_16 ?_
    refine x_aload_n 0 dX22_forget_17 rfl rfl ?_
    refine xg_X22_3 dX22_forget_18 ?_
    refine x_aload_n 0 dX22_forget_21 rfl rfl ?_
    refine xg_X22_3 dX22_forget_22 ?_
    refine xg_X22_46 dX22_forget_25 ?_
    refine xg_X22_50 dX22_forget_28 ?_
    refine x_iload_n 1 dX22_forget_31 rfl rfl ?_
    refine cl_X22_56 (by omega) (Nat.le_of_ble_eq_true rfl) dX22_forget_32 fun r1 h2 => ?_
    refine x_cast (C := RX5) 5 rfl (by decide) q1305 dX22_forget_35 ?_
    refine x_aload_n 0 dX22_forget_38 rfl rfl ?_
    refine xg_X22_15 dX22_forget_39 ?_
    refine x_iload_n 1 dX22_forget_42 rfl rfl ?_
    refine x_iald dX22_forget_43 ?_
    refine cl_X22_99 (by omega) (Nat.le_of_ble_eq_true rfl) dX22_forget_44 fun r3 h4 => ?_
    refine x_icmp_ge 51 dX22_forget_47 (by decide) (fun _ => ?_) (fun _ => ?_)
    · refine x_aload_n 0 dX22_forget_51 rfl rfl ?_
      refine xg_X22_15 dX22_forget_52 ?_
      refine x_iload_n 1 dX22_forget_55 rfl rfl ?_
      refine x_dup2 dX22_forget_56 rfl rfl ?_
      refine x_iald dX22_forget_57 ?_
      refine x_ic dX22_forget_58 (by decide) (by decide) ?_
      refine x_isub dX22_forget_59 ?_
      refine x_iast dX22_forget_60 fun h5 => ?_
      refine x_aload_n 0 dX22_forget_61 rfl rfl ?_
      refine xg_X22_19 dX22_forget_62 ?_
      refine x_iload_n 1 dX22_forget_65 rfl rfl ?_
      refine x_iload_n 2 dX22_forget_66 rfl rfl ?_
      refine x_iast dX22_forget_67 fun h6 => ?_
      refine x_aload_n 0 dX22_forget_68 rfl rfl ?_
      refine x_dup dX22_forget_69 rfl ?_
      refine xg_X22_103 dX22_forget_70 ?_
      refine x_ic dX22_forget_73 (by decide) (by decide) ?_
      refine x_iadd dX22_forget_74 ?_
      refine xp_X22_103 dX22_forget_75 fun h7 => ?_
      exact x_vret rfl dX22_forget_78
    · exact x_vret rfl dX22_forget_50
theorem SF_X22_forget (l : Launch) {d : Nat} (hdd : 127 ≤ d) (x0 : Int) (x1 : Int) (x2 : Int) (h : XH) (hok : okH h) (ho : okXs (xn h) [(2, x0), (0, x1), (0, x2)]) (fin : XR) (hf : F_X22_forget x0 x1 x2 h = some fin) : xSpec l yX22_forget cX22_forget 3 none d 2 [(2, x0), (0, x1), (0, x2)] h fin := x_enter (lv := [(0, (2, x0)), (1, (0, x1)), (2, (0, x2))]) (by decide) rfl rfl (Nat.le_of_ble_eq_true rfl) rfl (fun Z _ => WF_X22_forget hdd x0 x1 x2 h) hok ho fin hf
theorem cl_X22_30 {ρ : Type} {fh : ρ → XH} {QQ : XZ ρ → State → Prop} {mn : String} {cc : ByteArray} {nL : Nat} {ret : Option FieldType} {d : Nat} {Z : XZ ρ} {pc : Nat} {lv : List (Nat × AV)} {st : List AV} {h : XH} {g : Int → XH → Option ρ} {b : Int} (hdd : 3 ≤ d) (hcat : (st.map fun v => if v.1 = 1 then 2 else 1).sum ≤ 8) (hdg : decode cc pc = .ok (.invokevirtual 30, 3)) (kk : ∀ r h1, XG fh QQ RX22 mn cc nL ret d Z (pc + 3) lv ((0, r) :: st) h1 (g r h1)) : XG fh QQ RX22 mn cc nL ret d Z pc lv ((2, b) :: st) h (ob h b 1 (mb (F_X0_many b h) g)) :=
  x_callPi [] 0 (WF_X0_many (Z := (Z.1, Z.2.1, ((0, h), h))) (Nat.le_refl 2) b h).1 (fun hok ho fin hf => SF_X0_many (yL Z) (Nat.le_refl 2) b h hok ho fin hf) RX0 1 rfl (by decide) q1310 q124 q368 qs2 (lw_meth q369) ⟨by decide +kernel, by decide +kernel, by decide +kernel⟩ rfl (by omega) (by decide) rfl hcat hdg kk
theorem xg_X22_38 {ρ : Type} {fh : ρ → XH} {QQ : XZ ρ → State → Prop} {mn : String} {cc : ByteArray} {nL : Nat} {ret : Option FieldType} {d : Nat} {Z : XZ ρ} {pc : Nat} {lv : List (Nat × AV)} {st : List AV} {h : XH} {res : Option ρ} {a : Int} (hd : decode cc pc = .ok (.getfield 38, 3)) (kk : XG fh QQ RX22 mn cc nL ret d Z (pc + 3) lv ((0, xv h a 0) :: st) h res) : XG fh QQ RX22 mn cc nL ret d Z pc lv ((2, a) :: st) h (ob h a 5 res) := x_getN (C := RX5) (ref := RX5) 5 0 rfl in_X5 (by decide) rfl (by decide) (Or.inl rfl) q382 hd kk
theorem xg_X22_43 {ρ : Type} {fh : ρ → XH} {QQ : XZ ρ → State → Prop} {mn : String} {cc : ByteArray} {nL : Nat} {ret : Option FieldType} {d : Nat} {Z : XZ ρ} {pc : Nat} {lv : List (Nat × AV)} {st : List AV} {h : XH} {res : Option ρ} {a : Int} (hd : decode cc pc = .ok (.getfield 43, 3)) (kk : XG fh QQ RX22 mn cc nL ret d Z (pc + 3) lv ((0, xv h a 1) :: st) h res) : XG fh QQ RX22 mn cc nL ret d Z pc lv ((2, a) :: st) h (ob h a 5 res) := x_getN (C := RX5) (ref := RX5) 5 1 rfl in_X5 (by decide) rfl (by decide) (Or.inl rfl) q385 hd kk
noncomputable def F_X22_isHelped_66 (K2 : Int → Int → Int → XH → Option XR) (x0 : Int) (x1 : Int) (x2 : Int) (h : XH) : Option XR := nm (w32 (x2 + 1)) fun v1 => K2 x0 x1 v1 h
theorem WF_X22_isHelped_66 {d : Nat} {Z : XZ XR} (hdd : 4 ≤ d) {K2 : Int → Int → Int → XH → Option XR} (hK2 : ∀ x0 x1 x2 h, XG xfh (xQ 0) RX22 "isHelped" cX22_isHelped 3 (some .boolean) d Z 2 [(0, (2, x0)), (1, (2, x1)), (2, (0, x2))] [] h (K2 x0 x1 x2 h)) : ∀ x0 x1 x2 h, XG xfh (xQ 0) RX22 "isHelped" cX22_isHelped 3 (some .boolean) d Z 66 [(0, (2, x0)), (1, (2, x1)), (2, (0, x2))] [] h (F_X22_isHelped_66 K2 x0 x1 x2 h) := by
  intro x0 x1 x2 h
  unfold F_X22_isHelped_66
  refine x_iinc 2 dX22_isHelped_66 rfl (by decide) fun v1 => x_lv (lv' := [(2, (0, v1)), (0, (2, x0)), (1, (2, x1))]) rfl ?_
  refine x_goto 2 dX22_isHelped_69 (by decide) ?_
  exact x_sub [1, 2, 0] rfl (hK2 x0 x1 v1 h)
noncomputable def F_X22_isHelped_2 : Nat → Int → Int → Int → XH → Option XR
  | 0, _, _, _, _ => none
  | n + 1, x0, x1, x2, h => ob h x0 20 <| ob h (xv h x0 6) 1 <| mb (F_X0_many (xv h x0 6) h) fun r1 h2 => if r1 ≤ x2 then (some (0, h2)) else (ob h2 x1 5 <| if x2 = xv h2 x1 0 then (F_X22_isHelped_66 (F_X22_isHelped_2 n) x0 x1 x2 h2) else (ob h2 x1 5 <| if xv h2 x1 1 ≤ 0 then (F_X22_isHelped_66 (F_X22_isHelped_2 n) x0 x1 x2 h2) else (ob h2 x0 20 <| ob h2 (xv h2 x0 6) 1 <| ob h2 (xv h2 (xv h2 x0 6) 0) 2 <| ob h2 (xv h2 (xv h2 (xv h2 x0 6) 0) 0) 26 <| mb (F_J2_get (xv h2 (xv h2 (xv h2 x0 6) 0) 0) x2 h2) fun r3 h4 => ob h4 r3 5 <| ob h4 r3 5 <| ob h4 x1 5 <| if xv h4 r3 1 = xv h4 x1 1 then (ob h4 x0 20 <| ai h4 (xv h4 x0 0) 0 x2 <| if xv h4 (xv h4 x0 0) x2 ≤ 0 then (F_X22_isHelped_66 (F_X22_isHelped_2 n) x0 x1 x2 h4) else (some (1, h4))) else (F_X22_isHelped_66 (F_X22_isHelped_2 n) x0 x1 x2 h4))))
theorem WF_X22_isHelped_2 {d : Nat} {Z : XZ XR} (hdd : 4 ≤ d) : ∀ n x0 x1 x2 h, XG xfh (xQ 0) RX22 "isHelped" cX22_isHelped 3 (some .boolean) d Z 2 [(0, (2, x0)), (1, (2, x1)), (2, (0, x2))] [] h (F_X22_isHelped_2 n x0 x1 x2 h) := by
  intro n
  induction n with
  | zero => intro x0 x1 x2 h; exact x_none
  | succ n ih =>
    intro x0 x1 x2 h
    rw [F_X22_isHelped_2]
    refine x_iload_n 2 dX22_isHelped_2 rfl rfl ?_
    refine x_aload_n 0 dX22_isHelped_3 rfl rfl ?_
    refine xg_X22_3 dX22_isHelped_4 ?_
    refine cl_X22_30 (by omega) (Nat.le_of_ble_eq_true rfl) dX22_isHelped_7 fun r1 h2 => ?_
    refine x_icmp_ge 72 dX22_isHelped_10 (by decide) (fun _ => ?_) (fun _ => ?_)
    · refine x_ic dX22_isHelped_72 (by decide) (by decide) ?_
      exact x_cb (by decide) (x_zret rfl dX22_isHelped_73)
    · refine x_iload_n 2 dX22_isHelped_13 rfl rfl ?_
      refine x_aload_n 1 dX22_isHelped_14 rfl rfl ?_
      refine xg_X22_38 dX22_isHelped_15 ?_
      refine x_icmp_eq 66 dX22_isHelped_18 (by decide) (fun _ => ?_) (fun _ => ?_)
      · exact x_sub [0, 1, 2] rfl (WF_X22_isHelped_66 hdd ih x0 x1 x2 h2)
      · refine x_aload_n 1 dX22_isHelped_21 rfl rfl ?_
        refine xg_X22_43 dX22_isHelped_22 ?_
        refine x_if_le 66 dX22_isHelped_25 (by decide) (fun _ => ?_) (fun _ => ?_)
        · exact x_sub [0, 1, 2] rfl (WF_X22_isHelped_66 hdd ih x0 x1 x2 h2)
        · refine x_aload_n 0 dX22_isHelped_28 rfl rfl ?_
          refine xg_X22_3 dX22_isHelped_29 ?_
          refine xg_X22_46 dX22_isHelped_32 ?_
          refine xg_X22_50 dX22_isHelped_35 ?_
          refine x_iload_n 2 dX22_isHelped_38 rfl rfl ?_
          refine cl_X22_56 (by omega) (Nat.le_of_ble_eq_true rfl) dX22_isHelped_39 fun r3 h4 => ?_
          refine x_cast (C := RX5) 5 rfl (by decide) q1305 dX22_isHelped_42 ?_
          refine xg_X22_43 dX22_isHelped_45 ?_
          refine x_aload_n 1 dX22_isHelped_48 rfl rfl ?_
          refine xg_X22_43 dX22_isHelped_49 ?_
          refine x_icmp_ne 66 dX22_isHelped_52 (by decide) (fun _ => ?_) (fun _ => ?_)
          · exact x_sub [0, 1, 2] rfl (WF_X22_isHelped_66 hdd ih x0 x1 x2 h4)
          · refine x_aload_n 0 dX22_isHelped_55 rfl rfl ?_
            refine xg_X22_15 dX22_isHelped_56 ?_
            refine x_iload_n 2 dX22_isHelped_59 rfl rfl ?_
            refine x_iald dX22_isHelped_60 ?_
            refine x_if_le 66 dX22_isHelped_61 (by decide) (fun _ => ?_) (fun _ => ?_)
            · exact x_sub [0, 1, 2] rfl (WF_X22_isHelped_66 hdd ih x0 x1 x2 h4)
            · refine x_ic dX22_isHelped_64 (by decide) (by decide) ?_
              exact x_cb (by decide) (x_zret rfl dX22_isHelped_65)
noncomputable def F_X22_isHelped (x0 : Int) (x1 : Int) (h : XH) : Option XR := F_X22_isHelped_2 FU x0 x1 0 h
theorem WF_X22_isHelped {d : Nat} {Z : XZ XR} (hdd : 4 ≤ d) : ∀ x0 x1 h, XG xfh (xQ 0) RX22 "isHelped" cX22_isHelped 3 (some .boolean) d Z 0 [(0, (2, x0)), (1, (2, x1))] [] h (F_X22_isHelped x0 x1 h) := by
  intro x0 x1 h
  unfold F_X22_isHelped
  refine x_ic dX22_isHelped_0 (by decide) (by decide) ?_
  refine x_istore_n (lv' := [(2, (0, 0)), (0, (2, x0)), (1, (2, x1))]) dX22_isHelped_1 rfl (by decide) rfl ?_
  exact x_sub [1, 2, 0] rfl (WF_X22_isHelped_2 hdd FU x0 x1 0 h)
theorem SF_X22_isHelped (l : Launch) {d : Nat} (hdd : 4 ≤ d) (x0 : Int) (x1 : Int) (h : XH) (hok : okH h) (ho : okXs (xn h) [(2, x0), (2, x1)]) (fin : XR) (hf : F_X22_isHelped x0 x1 h = some fin) : xSpec l yX22_isHelped cX22_isHelped 3 (some .boolean) d 0 [(2, x0), (2, x1)] h fin := x_enter (lv := [(0, (2, x0)), (1, (2, x1))]) (by decide) rfl rfl (Nat.le_of_ble_eq_true rfl) rfl (fun Z _ => WF_X22_isHelped hdd x0 x1 h) hok ho fin hf
theorem cl_X22_68 {ρ : Type} {fh : ρ → XH} {QQ : XZ ρ → State → Prop} {mn : String} {cc : ByteArray} {nL : Nat} {ret : Option FieldType} {d : Nat} {Z : XZ ρ} {pc : Nat} {lv : List (Nat × AV)} {st : List AV} {h : XH} {g : Int → XH → Option ρ} {b : Int} (hdd : 2 ≤ d) (hcat : (st.map fun v => if v.1 = 1 then 2 else 1).sum ≤ 8) (hdg : decode cc pc = .ok (.invokevirtual 68, 3)) (kk : ∀ r h1, XG fh QQ RX22 mn cc nL ret d Z (pc + 3) lv ((0, r) :: st) h1 (g r h1)) : XG fh QQ RX22 mn cc nL ret d Z pc lv ((2, b) :: st) h (ob h b 26 (mb (F_J2_size b h) g)) :=
  x_callVi [] 0 (WF_J2_size (Z := (Z.1, Z.2.1, ((0, h), h))) (Nat.le_refl 1) b h).1 (fun hok ho fin hf => SF_J2_size (yL Z) (Nat.le_refl 1) b h hok ho fin hf) RJ2 26 rfl (by decide) (lw_V q1302 q371 q372 q128 q373) ⟨rfl, by decide +kernel, by decide +kernel, by decide +kernel⟩ rfl (by omega) (by decide) rfl hcat hdg kk
theorem cl_X22_79 {ρ : Type} {fh : ρ → XH} {QQ : XZ ρ → State → Prop} {mn : String} {cc : ByteArray} {nL : Nat} {ret : Option FieldType} {d : Nat} {Z : XZ ρ} {pc : Nat} {lv : List (Nat × AV)} {st : List AV} {h : XH} {g : Int → XH → Option ρ} {b a0 : Int} (hdd : 5 ≤ d) (hcat : (st.map fun v => if v.1 = 1 then 2 else 1).sum ≤ 8) (hdg : decode cc pc = .ok (.invokevirtual 79, 3)) (kk : ∀ r h1, XG fh QQ RX22 mn cc nL ret d Z (pc + 3) lv ((0, r) :: st) h1 (g r h1)) : XG fh QQ RX22 mn cc nL ret d Z pc lv ((2, a0) :: (2, b) :: st) h (ob h b 20 (mb (F_X22_isHelped b a0 h) g)) :=
  x_callVi [(2, a0)] 1 (WF_X22_isHelped (Z := (Z.1, Z.2.1, ((0, h), h))) (Nat.le_refl 4) b a0 h).1 (fun hok ho fin hf => SF_X22_isHelped (yL Z) (Nat.le_refl 4) b a0 h hok ho fin hf) RX22 20 rfl (by decide) (lw_V q1306 q1308 qs50 q160 q1309) ⟨rfl, by decide +kernel, by decide +kernel, by decide +kernel⟩ rfl (by omega) (by decide) rfl hcat hdg kk
theorem cl_X22_83 {ρ : Type} {fh : ρ → XH} {QQ : XZ ρ → State → Prop} {mn : String} {cc : ByteArray} {nL : Nat} {ret : Option FieldType} {d : Nat} {Z : XZ ρ} {pc : Nat} {lv : List (Nat × AV)} {st : List AV} {h : XH} {g : Int → XH → Option ρ} {b a0 a1 a2 a3 : Int} (hdd : 127 ≤ d) (hcat : (st.map fun v => if v.1 = 1 then 2 else 1).sum ≤ 8) (hdg : decode cc pc = .ok (.invokevirtual 83, 3)) (kk : ∀ r h1, XG fh QQ RX22 mn cc nL ret d Z (pc + 3) lv ((0, r) :: st) h1 (g r h1)) : XG fh QQ RX22 mn cc nL ret d Z pc lv ((0, a3) :: (0, a2) :: (0, a1) :: (2, a0) :: (2, b) :: st) h (ob h b 1 (mb (F_X0_takes_2 b a0 a1 a2 a3 h) g)) :=
  x_callPi [(2, a0), (0, a1), (0, a2), (0, a3)] 4 (WF_X0_takes_2 (Z := (Z.1, Z.2.1, ((0, h), h))) (Nat.le_refl 126) b a0 a1 a2 a3 h).1 (fun hok ho fin hf => SF_X0_takes_2 (yL Z) (Nat.le_refl 126) b a0 a1 a2 a3 h hok ho fin hf) RX0 1 rfl (by decide) q1311 q124 q911 qs28 (lw_meth q912) ⟨by decide +kernel, by decide +kernel, by decide +kernel⟩ rfl (by omega) (by decide) rfl hcat hdg kk
theorem xg_X22_22 {ρ : Type} {fh : ρ → XH} {QQ : XZ ρ → State → Prop} {mn : String} {cc : ByteArray} {nL : Nat} {ret : Option FieldType} {d : Nat} {Z : XZ ρ} {pc : Nat} {lv : List (Nat × AV)} {st : List AV} {h : XH} {res : Option ρ} {a : Int} (hd : decode cc pc = .ok (.getfield 22, 3)) (kk : XG fh QQ RX22 mn cc nL ret d Z (pc + 3) lv ((0, xv h a 4) :: st) h res) : XG fh QQ RX22 mn cc nL ret d Z pc lv ((2, a) :: st) h (ob h a 20 res) := x_get (C := RX22) (ref := RX22) 20 4 rfl in_X22 (by decide) rfl (by decide) (Or.inl rfl) q1325 hd kk
theorem xp_X22_22 {ρ : Type} {fh : ρ → XH} {QQ : XZ ρ → State → Prop} {mn : String} {cc : ByteArray} {nL : Nat} {ret : Option FieldType} {d : Nat} {Z : XZ ρ} {pc : Nat} {lv : List (Nat × AV)} {st : List AV} {h : XH} {f : XH → Option ρ} {a x : Int} (hd : decode cc pc = .ok (.putfield 22, 3)) (kk : ∀ h1, XG fh QQ RX22 mn cc nL ret d Z (pc + 3) lv st h1 (f h1)) : XG fh QQ RX22 mn cc nL ret d Z pc lv ((0, x) :: (2, a) :: st) h (ob h a 20 (nm (hset h a 4 x) f)) := x_put (C := RX22) (ref := RX22) 20 4 rfl in_X22 tyX22_ok nmX22 (by decide) rfl (by decide) (Or.inl rfl) (by decide) (xfit_X22 4 (by decide)) 0 rfl q1325 hd kk
theorem xg_X22_62 {ρ : Type} {fh : ρ → XH} {QQ : XZ ρ → State → Prop} {mn : String} {cc : ByteArray} {nL : Nat} {ret : Option FieldType} {d : Nat} {Z : XZ ρ} {pc : Nat} {lv : List (Nat × AV)} {st : List AV} {h : XH} {res : Option ρ} {a : Int} (hd : decode cc pc = .ok (.getfield 62, 3)) (kk : XG fh QQ RX22 mn cc nL ret d Z (pc + 3) lv ((0, xv h a 5) :: st) h res) : XG fh QQ RX22 mn cc nL ret d Z pc lv ((2, a) :: st) h (ob h a 20 res) := x_get (C := RX22) (ref := RX22) 20 5 rfl in_X22 (by decide) rfl (by decide) (Or.inl rfl) q1327 hd kk
theorem xp_X22_62 {ρ : Type} {fh : ρ → XH} {QQ : XZ ρ → State → Prop} {mn : String} {cc : ByteArray} {nL : Nat} {ret : Option FieldType} {d : Nat} {Z : XZ ρ} {pc : Nat} {lv : List (Nat × AV)} {st : List AV} {h : XH} {f : XH → Option ρ} {a x : Int} (hd : decode cc pc = .ok (.putfield 62, 3)) (kk : ∀ h1, XG fh QQ RX22 mn cc nL ret d Z (pc + 3) lv st h1 (f h1)) : XG fh QQ RX22 mn cc nL ret d Z pc lv ((0, x) :: (2, a) :: st) h (ob h a 20 (nm (hset h a 5 x) f)) := x_put (C := RX22) (ref := RX22) 20 5 rfl in_X22 tyX22_ok nmX22 (by decide) rfl (by decide) (Or.inl rfl) (by decide) (xfit_X22 5 (by decide)) 0 rfl q1327 hd kk
theorem xg_X22_65 {ρ : Type} {fh : ρ → XH} {QQ : XZ ρ → State → Prop} {mn : String} {cc : ByteArray} {nL : Nat} {ret : Option FieldType} {d : Nat} {Z : XZ ρ} {pc : Nat} {lv : List (Nat × AV)} {st : List AV} {h : XH} {res : Option ρ} {a : Int} (hd : decode cc pc = .ok (.getfield 65, 3)) (kk : XG fh QQ RX22 mn cc nL ret d Z (pc + 3) lv ((2, xv h a 2) :: st) h res) : XG fh QQ RX22 mn cc nL ret d Z pc lv ((2, a) :: st) h (ob h a 2 res) := x_getN (C := RX1) (ref := RX1) 2 2 rfl in_X1 (by decide) rfl (by decide) (Or.inl rfl) q218 hd kk
theorem xg_X22_73 {ρ : Type} {fh : ρ → XH} {QQ : XZ ρ → State → Prop} {mn : String} {cc : ByteArray} {nL : Nat} {ret : Option FieldType} {d : Nat} {Z : XZ ρ} {pc : Nat} {lv : List (Nat × AV)} {st : List AV} {h : XH} {res : Option ρ} {a : Int} (hd : decode cc pc = .ok (.getfield 73, 3)) (kk : XG fh QQ RX22 mn cc nL ret d Z (pc + 3) lv ((0, xv h a 0) :: st) h res) : XG fh QQ RX22 mn cc nL ret d Z pc lv ((2, a) :: st) h (ob h a 19 res) := x_getN (C := RX21) (ref := RX21) 19 0 rfl in_X21 (by decide) rfl (by decide) (Or.inl rfl) q1272 hd kk
theorem xg_X22_76 {ρ : Type} {fh : ρ → XH} {QQ : XZ ρ → State → Prop} {mn : String} {cc : ByteArray} {nL : Nat} {ret : Option FieldType} {d : Nat} {Z : XZ ρ} {pc : Nat} {lv : List (Nat × AV)} {st : List AV} {h : XH} {res : Option ρ} {a : Int} (hd : decode cc pc = .ok (.getfield 76, 3)) (kk : XG fh QQ RX22 mn cc nL ret d Z (pc + 3) lv ((0, xv h a 1) :: st) h res) : XG fh QQ RX22 mn cc nL ret d Z pc lv ((2, a) :: st) h (ob h a 19 res) := x_getN (C := RX21) (ref := RX21) 19 1 rfl in_X21 (by decide) rfl (by decide) (Or.inl rfl) q1274 hd kk
theorem xg_X22_87 {ρ : Type} {fh : ρ → XH} {QQ : XZ ρ → State → Prop} {mn : String} {cc : ByteArray} {nL : Nat} {ret : Option FieldType} {d : Nat} {Z : XZ ρ} {pc : Nat} {lv : List (Nat × AV)} {st : List AV} {h : XH} {res : Option ρ} {a : Int} (hd : decode cc pc = .ok (.getfield 87, 3)) (kk : XG fh QQ RX22 mn cc nL ret d Z (pc + 3) lv ((2, xv h a 3) :: st) h res) : XG fh QQ RX22 mn cc nL ret d Z pc lv ((2, a) :: st) h (ob h a 2 res) := x_getN (C := RX1) (ref := RX1) 2 3 rfl in_X1 (by decide) rfl (by decide) (Or.inl rfl) q224 hd kk
theorem xg_X22_90 {ρ : Type} {fh : ρ → XH} {QQ : XZ ρ → State → Prop} {mn : String} {cc : ByteArray} {nL : Nat} {ret : Option FieldType} {d : Nat} {Z : XZ ρ} {pc : Nat} {lv : List (Nat × AV)} {st : List AV} {h : XH} {res : Option ρ} {a : Int} (hd : decode cc pc = .ok (.getfield 90, 3)) (kk : XG fh QQ RX22 mn cc nL ret d Z (pc + 3) lv ((0, xv h a 2) :: st) h res) : XG fh QQ RX22 mn cc nL ret d Z pc lv ((2, a) :: st) h (ob h a 20 res) := x_get (C := RX22) (ref := RX22) 20 2 rfl in_X22 (by decide) rfl (by decide) (Or.inl rfl) q1321 hd kk
theorem xp_X22_90 {ρ : Type} {fh : ρ → XH} {QQ : XZ ρ → State → Prop} {mn : String} {cc : ByteArray} {nL : Nat} {ret : Option FieldType} {d : Nat} {Z : XZ ρ} {pc : Nat} {lv : List (Nat × AV)} {st : List AV} {h : XH} {f : XH → Option ρ} {a x : Int} (hd : decode cc pc = .ok (.putfield 90, 3)) (kk : ∀ h1, XG fh QQ RX22 mn cc nL ret d Z (pc + 3) lv st h1 (f h1)) : XG fh QQ RX22 mn cc nL ret d Z pc lv ((0, x) :: (2, a) :: st) h (ob h a 20 (nm (hset h a 2 x) f)) := x_put (C := RX22) (ref := RX22) 20 2 rfl in_X22 tyX22_ok nmX22 (by decide) rfl (by decide) (Or.inl rfl) (by decide) (xfit_X22 2 (by decide)) 0 rfl q1321 hd kk
noncomputable def F_X22_study_236 (K9 : Int → Int → Int → Int → XH → Option XR) (x0 : Int) (x1 : Int) (x2 : Int) (x3 : Int) (h : XH) : Option XR := nm (w32 (x3 + 1)) fun v1 => K9 x0 x1 x2 v1 h
theorem WF_X22_study_236 {d : Nat} {Z : XZ XR} (hdd : 127 ≤ d) {K9 : Int → Int → Int → Int → XH → Option XR} (hK9 : ∀ x0 x1 x2 x3 h, XG xfh (xQ 2) RX22 "study" cX22_study 7 none d Z 9 [(0, (2, x0)), (1, (0, x1)), (2, (0, x2)), (3, (0, x3))] [] h (K9 x0 x1 x2 x3 h)) : ∀ x0 x1 x2 x3 h, XG xfh (xQ 2) RX22 "study" cX22_study 7 none d Z 236 [(0, (2, x0)), (1, (0, x1)), (2, (0, x2)), (3, (0, x3))] [] h (F_X22_study_236 K9 x0 x1 x2 x3 h) := by
  intro x0 x1 x2 x3 h
  unfold F_X22_study_236
  refine x_iinc 3 dX22_study_236 rfl (by decide) fun v1 => x_lv (lv' := [(3, (0, v1)), (0, (2, x0)), (1, (0, x1)), (2, (0, x2))]) rfl ?_
  refine x_goto 9 dX22_study_239 (by decide) ?_
  exact x_sub [1, 2, 3, 0] rfl (hK9 x0 x1 x2 v1 h)
noncomputable def F_X22_study_182 (K9 : Int → Int → Int → Int → XH → Option XR) (s0 : Int) (s1 : Int) (x0 : Int) (x1 : Int) (x2 : Int) (x3 : Int) (h : XH) : Option XR := ob h s0 20 <| nm (hset h s0 4 s1) fun h1 => F_X22_study_236 K9 x0 x1 x2 x3 h1
theorem WF_X22_study_182 {d : Nat} {Z : XZ XR} (hdd : 127 ≤ d) {K9 : Int → Int → Int → Int → XH → Option XR} (hK9 : ∀ x0 x1 x2 x3 h, XG xfh (xQ 2) RX22 "study" cX22_study 7 none d Z 9 [(0, (2, x0)), (1, (0, x1)), (2, (0, x2)), (3, (0, x3))] [] h (K9 x0 x1 x2 x3 h)) : ∀ s0 s1 x0 x1 x2 x3 h, XG xfh (xQ 2) RX22 "study" cX22_study 7 none d Z 182 [(0, (2, x0)), (1, (0, x1)), (2, (0, x2)), (3, (0, x3))] [(0, s1), (2, s0)] h (F_X22_study_182 K9 s0 s1 x0 x1 x2 x3 h) := by
  intro s0 s1 x0 x1 x2 x3 h
  unfold F_X22_study_182
  refine xp_X22_22 dX22_study_182 fun h1 => ?_
  refine x_goto 236 dX22_study_185 (by decide) ?_
  exact x_sub [0, 1, 2, 3] rfl (WF_X22_study_236 hdd hK9 x0 x1 x2 x3 h1)
noncomputable def F_X22_study_150 (K9 : Int → Int → Int → Int → XH → Option XR) (s0 : Int) (x0 : Int) (x1 : Int) (x3 : Int) (x5 : Int) (x6 : Int) (h : XH) : Option XR := if s0 = 0 then (ob h x0 20 <| ob h x0 20 <| nm (hset h x0 5 (w32 ((xv h x0 5) + x6))) fun h1 => ob h1 x0 20 <| ob h1 x5 5 <| ob h1 x0 20 <| ob h1 x5 5 <| ai h1 (xv h1 x0 0) 0 (xv h1 x5 0) <| nm (α := Int) (if (w32 ((xv h1 (xv h1 x0 0) (xv h1 x5 0)) + 1)) < (2 : Int) then (w32 ((xv h1 (xv h1 x0 0) (xv h1 x5 0)) + 1)) else (2 : Int)) fun v2 => ai h1 (xv h1 x0 0) 0 (xv h1 x5 0) <| nm (hset h1 (xv h1 x0 0) (xv h1 x5 0) v2) fun h3 => ob h3 x0 20 <| ob h3 x5 5 <| ai h3 (xv h3 x0 1) 0 (xv h3 x5 0) <| nm (hset h3 (xv h3 x0 1) (xv h3 x5 0) x1) fun h4 => F_X22_study_236 K9 x0 x1 s0 x3 h4) else (ob h x0 20 <| ob h x0 20 <| nm (hset h x0 2 (w32 ((xv h x0 2) + 1))) fun h5 => ob h5 x0 20 <| if xv h5 x0 4 = (-1) then (F_X22_study_182 K9 x0 x1 x0 x1 s0 x3 h5) else (ob h5 x0 20 <| F_X22_study_182 K9 x0 (xv h5 x0 4) x0 x1 s0 x3 h5))
theorem WF_X22_study_150 {d : Nat} {Z : XZ XR} (hdd : 127 ≤ d) {K9 : Int → Int → Int → Int → XH → Option XR} (hK9 : ∀ x0 x1 x2 x3 h, XG xfh (xQ 2) RX22 "study" cX22_study 7 none d Z 9 [(0, (2, x0)), (1, (0, x1)), (2, (0, x2)), (3, (0, x3))] [] h (K9 x0 x1 x2 x3 h)) : ∀ s0 x0 x1 x3 x5 x6 h, XG xfh (xQ 2) RX22 "study" cX22_study 7 none d Z 150 [(0, (2, x0)), (1, (0, x1)), (3, (0, x3)), (5, (2, x5)), (6, (0, x6))] [(0, s0)] h (F_X22_study_150 K9 s0 x0 x1 x3 x5 x6 h) := by
  intro s0 x0 x1 x3 x5 x6 h
  unfold F_X22_study_150
  refine x_istore_n (lv' := [(2, (0, s0)), (0, (2, x0)), (1, (0, x1)), (3, (0, x3)), (5, (2, x5)), (6, (0, x6))]) dX22_study_150 rfl (by decide) rfl ?_
  refine x_iload_n 0 dX22_study_151 rfl rfl ?_
  refine x_if_eq 188 dX22_study_152 (by decide) (fun _ => ?_) (fun _ => ?_)
  · refine x_aload_n 1 dX22_study_188 rfl rfl ?_
    refine x_dup dX22_study_189 rfl ?_
    refine xg_X22_62 dX22_study_190 ?_
    refine x_iload 5 dX22_study_193 rfl ?_
    refine x_iadd dX22_study_195 ?_
    refine xp_X22_62 dX22_study_196 fun h1 => ?_
    refine x_aload_n 1 dX22_study_199 rfl rfl ?_
    refine xg_X22_15 dX22_study_200 ?_
    refine x_aload 4 dX22_study_203 rfl ?_
    refine xg_X22_38 dX22_study_205 ?_
    refine x_ic dX22_study_208 (by decide) (by decide) ?_
    refine x_aload_n 1 dX22_study_209 rfl rfl ?_
    refine xg_X22_15 dX22_study_210 ?_
    refine x_aload 4 dX22_study_213 rfl ?_
    refine xg_X22_38 dX22_study_215 ?_
    refine x_iald dX22_study_218 ?_
    refine x_ic dX22_study_219 (by decide) (by decide) ?_
    refine x_iadd dX22_study_220 ?_
    refine x_mmin q1312 q364 q132 q365 (by omega) (Nat.le_of_ble_eq_true rfl) dX22_study_221 ?_
    refine x_nmT fun v2 => ?_
    refine x_iast dX22_study_224 fun h3 => ?_
    refine x_aload_n 1 dX22_study_225 rfl rfl ?_
    refine xg_X22_19 dX22_study_226 ?_
    refine x_aload 4 dX22_study_229 rfl ?_
    refine xg_X22_38 dX22_study_231 ?_
    refine x_iload_n 2 dX22_study_234 rfl rfl ?_
    refine x_iast dX22_study_235 fun h4 => ?_
    exact x_sub [1, 2, 0, 3] rfl (WF_X22_study_236 hdd hK9 x0 x1 s0 x3 h4)
  · refine x_aload_n 1 dX22_study_155 rfl rfl ?_
    refine x_dup dX22_study_156 rfl ?_
    refine xg_X22_90 dX22_study_157 ?_
    refine x_ic dX22_study_160 (by decide) (by decide) ?_
    refine x_iadd dX22_study_161 ?_
    refine xp_X22_90 dX22_study_162 fun h5 => ?_
    refine x_aload_n 1 dX22_study_165 rfl rfl ?_
    refine x_aload_n 1 dX22_study_166 rfl rfl ?_
    refine xg_X22_22 dX22_study_167 ?_
    refine x_ic dX22_study_170 (by decide) (by decide) ?_
    refine x_icmp_ne 178 dX22_study_171 (by decide) (fun _ => ?_) (fun _ => ?_)
    · refine x_aload_n 1 dX22_study_178 rfl rfl ?_
      refine xg_X22_22 dX22_study_179 ?_
      exact x_sub [1, 2, 0, 3] rfl (WF_X22_study_182 hdd hK9 x0 (xv h5 x0 4) x0 x1 s0 x3 h5)
    · refine x_iload_n 2 dX22_study_174 rfl rfl ?_
      refine x_goto 182 dX22_study_175 (by decide) ?_
      exact x_sub [1, 2, 0, 3] rfl (WF_X22_study_182 hdd hK9 x0 x1 x0 x1 s0 x3 h5)
noncomputable def F_X22_study_145 (K9 : Int → Int → Int → Int → XH → Option XR) (x0 : Int) (x1 : Int) (x3 : Int) (x5 : Int) (x6 : Int) (h : XH) : Option XR := F_X22_study_150 K9 1 x0 x1 x3 x5 x6 h
theorem WF_X22_study_145 {d : Nat} {Z : XZ XR} (hdd : 127 ≤ d) {K9 : Int → Int → Int → Int → XH → Option XR} (hK9 : ∀ x0 x1 x2 x3 h, XG xfh (xQ 2) RX22 "study" cX22_study 7 none d Z 9 [(0, (2, x0)), (1, (0, x1)), (2, (0, x2)), (3, (0, x3))] [] h (K9 x0 x1 x2 x3 h)) : ∀ x0 x1 x3 x5 x6 h, XG xfh (xQ 2) RX22 "study" cX22_study 7 none d Z 145 [(0, (2, x0)), (1, (0, x1)), (3, (0, x3)), (5, (2, x5)), (6, (0, x6))] [] h (F_X22_study_145 K9 x0 x1 x3 x5 x6 h) := by
  intro x0 x1 x3 x5 x6 h
  unfold F_X22_study_145
  refine x_ic dX22_study_145 (by decide) (by decide) ?_
  refine x_goto 150 dX22_study_146 (by decide) ?_
  exact x_sub [0, 1, 2, 3, 4] rfl (WF_X22_study_150 hdd hK9 1 x0 x1 x3 x5 x6 h)
noncomputable def F_X22_study_9 : Nat → Int → Int → Int → Int → XH → Option XR
  | 0, _, _, _, _, _ => none
  | n + 1, x0, x1, x2, x3, h => ob h x0 20 <| ob h (xv h x0 6) 1 <| ob h (xv h (xv h x0 6) 0) 2 <| ob h (xv h (xv h (xv h x0 6) 0) 2) 26 <| mb (F_J2_size (xv h (xv h (xv h x0 6) 0) 2) h) fun r1 h2 => if r1 ≤ x3 then (some (0, h2)) else (ob h2 x0 20 <| ob h2 (xv h2 x0 6) 1 <| ob h2 (xv h2 (xv h2 x0 6) 0) 2 <| ob h2 (xv h2 (xv h2 (xv h2 x0 6) 0) 2) 26 <| mb (F_J2_get (xv h2 (xv h2 (xv h2 x0 6) 0) 2) x3 h2) fun r3 h4 => ob h4 r3 19 <| ob h4 r3 19 <| if xv h4 r3 0 = x1 then (ob h4 x0 20 <| ob h4 (xv h4 x0 6) 1 <| ob h4 (xv h4 (xv h4 x0 6) 0) 2 <| ob h4 r3 19 <| ob h4 (xv h4 (xv h4 (xv h4 x0 6) 0) 0) 26 <| mb (F_J2_get (xv h4 (xv h4 (xv h4 x0 6) 0) 0) (xv h4 r3 1) h4) fun r5 h6 => ob h6 r5 5 <| ob h6 x0 20 <| ob h6 x0 20 <| ob h6 r5 5 <| ai h6 (xv h6 x0 0) 0 (xv h6 r5 0) <| ob h6 x0 20 <| mb (F_X22_isHelped x0 r5 h6) fun r7 h8 => nm (α := Int) (if r7 = 0 then 0 else 1) fun v9 => ob h8 (xv h6 x0 6) 1 <| mb (F_X0_takes_2 (xv h6 x0 6) r5 (w32 ((xv h6 (xv h6 x0 0) (xv h6 r5 0)) + 1)) v9 x1 h8) fun r10 h11 => if x2 = 0 then (ob h11 x0 20 <| ob h11 x0 20 <| ob h11 (xv h11 x0 6) 1 <| ob h11 (xv h11 (xv h11 x0 6) 0) 2 <| ai h11 (xv h11 (xv h11 (xv h11 x0 6) 0) 3) 0 6 <| if w32 ((xv h11 x0 5) + r10) ≤ xv h11 (xv h11 (xv h11 (xv h11 x0 6) 0) 3) 6 then (F_X22_study_150 (F_X22_study_9 n) 0 x0 x1 x3 r5 r10 h11) else (F_X22_study_145 (F_X22_study_9 n) x0 x1 x3 r5 r10 h11)) else (F_X22_study_145 (F_X22_study_9 n) x0 x1 x3 r5 r10 h11)) else (F_X22_study_236 (F_X22_study_9 n) x0 x1 x2 x3 h4))
theorem WF_X22_study_9 {d : Nat} {Z : XZ XR} (hdd : 127 ≤ d) : ∀ n x0 x1 x2 x3 h, XG xfh (xQ 2) RX22 "study" cX22_study 7 none d Z 9 [(0, (2, x0)), (1, (0, x1)), (2, (0, x2)), (3, (0, x3))] [] h (F_X22_study_9 n x0 x1 x2 x3 h) := by
  intro n
  induction n with
  | zero => intro x0 x1 x2 x3 h; exact x_none
  | succ n ih =>
    intro x0 x1 x2 x3 h
    rw [F_X22_study_9]
    refine x_iload_n 3 dX22_study_9 rfl rfl ?_
    refine x_aload_n 0 dX22_study_10 rfl rfl ?_
    refine xg_X22_3 dX22_study_11 ?_
    refine xg_X22_46 dX22_study_14 ?_
    refine xg_X22_65 dX22_study_17 ?_
    refine cl_X22_68 (by omega) (Nat.le_of_ble_eq_true rfl) dX22_study_20 fun r1 h2 => ?_
    refine x_icmp_ge 242 dX22_study_23 (by decide) (fun _ => ?_) (fun _ => ?_)
    · exact x_vret rfl dX22_study_242
    · refine x_aload_n 0 dX22_study_26 rfl rfl ?_
      refine xg_X22_3 dX22_study_27 ?_
      refine xg_X22_46 dX22_study_30 ?_
      refine xg_X22_65 dX22_study_33 ?_
      refine x_iload_n 3 dX22_study_36 rfl rfl ?_
      refine cl_X22_56 (by omega) (Nat.le_of_ble_eq_true rfl) dX22_study_37 fun r3 h4 => ?_
      refine x_cast (C := RX21) 19 rfl (by decide) q1304 dX22_study_40 ?_
      refine x_astore (lv' := [(4, (2, r3)), (0, (2, x0)), (1, (0, x1)), (2, (0, x2)), (3, (0, x3))]) dX22_study_43 (by decide) rfl ?_
      refine x_aload 0 dX22_study_45 rfl ?_
      refine xg_X22_73 dX22_study_47 ?_
      refine x_iload_n 2 dX22_study_50 rfl rfl ?_
      refine x_icmp_eq 57 dX22_study_51 (by decide) (fun _ => ?_) (fun _ => ?_)
      · refine x_aload_n 1 dX22_study_57 rfl rfl ?_
        refine xg_X22_3 dX22_study_58 ?_
        refine xg_X22_46 dX22_study_61 ?_
        refine xg_X22_50 dX22_study_64 ?_
        refine x_aload 0 dX22_study_67 rfl ?_
        refine xg_X22_76 dX22_study_69 ?_
        refine cl_X22_56 (by omega) (Nat.le_of_ble_eq_true rfl) dX22_study_72 fun r5 h6 => ?_
        refine x_cast (C := RX5) 5 rfl (by decide) q1305 dX22_study_75 ?_
        refine x_astore (lv' := [(5, (2, r5)), (4, (2, r3)), (0, (2, x0)), (1, (0, x1)), (2, (0, x2)), (3, (0, x3))]) dX22_study_78 (by decide) rfl ?_
        refine x_aload_n 2 dX22_study_80 rfl rfl ?_
        refine xg_X22_3 dX22_study_81 ?_
        refine x_aload 0 dX22_study_84 rfl ?_
        refine x_aload_n 2 dX22_study_86 rfl rfl ?_
        refine xg_X22_15 dX22_study_87 ?_
        refine x_aload 0 dX22_study_90 rfl ?_
        refine xg_X22_38 dX22_study_92 ?_
        refine x_iald dX22_study_95 ?_
        refine x_ic dX22_study_96 (by decide) (by decide) ?_
        refine x_iadd dX22_study_97 ?_
        refine x_aload_n 2 dX22_study_98 rfl rfl ?_
        refine x_aload 0 dX22_study_99 rfl ?_
        refine cl_X22_79 (by omega) (Nat.le_of_ble_eq_true rfl) dX22_study_101 fun r7 h8 => ?_
        refine x_join 112 (fun v9 => [(0, v9), (0, w32 ((xv h6 (xv h6 x0 0) (xv h6 r5 0)) + 1)), (2, r5), (2, xv h6 x0 6)]) (fun v9 => ?_) (fun hJ => ?_)
        · refine x_iload_n 3 dX22_study_112 rfl rfl ?_
          refine cl_X22_83 (by omega) (Nat.le_of_ble_eq_true rfl) dX22_study_113 fun r10 h11 => ?_
          refine x_istore (lv' := [(6, (0, r10)), (5, (2, r5)), (4, (2, r3)), (0, (2, x0)), (1, (0, x1)), (2, (0, x2)), (3, (0, x3))]) dX22_study_116 (by decide) rfl ?_
          refine x_iload_n 5 dX22_study_118 rfl rfl ?_
          refine x_if_ne 145 dX22_study_119 (by decide) (fun _ => ?_) (fun _ => ?_)
          · exact x_sub [3, 4, 6, 1, 0] rfl (WF_X22_study_145 hdd ih x0 x1 x3 r5 r10 h11)
          · refine x_aload_n 3 dX22_study_122 rfl rfl ?_
            refine xg_X22_62 dX22_study_123 ?_
            refine x_iload 0 dX22_study_126 rfl ?_
            refine x_iadd dX22_study_128 ?_
            refine x_aload_n 3 dX22_study_129 rfl rfl ?_
            refine xg_X22_3 dX22_study_130 ?_
            refine xg_X22_46 dX22_study_133 ?_
            refine xg_X22_87 dX22_study_136 ?_
            refine x_bp dX22_study_139 (by decide) (by decide) ?_
            refine x_iald dX22_study_141 ?_
            refine x_icmp_le 149 dX22_study_142 (by decide) (fun _ => ?_) (fun _ => ?_)
            · refine x_ic dX22_study_149 (by decide) (by decide) ?_
              exact x_sub [3, 4, 6, 1, 0] rfl (WF_X22_study_150 hdd ih 0 x0 x1 x3 r5 r10 h11)
            · exact x_sub [3, 4, 6, 1, 0] rfl (WF_X22_study_145 hdd ih x0 x1 x3 r5 r10 h11)
        · refine x_if_eqF 111 dX22_study_104 (by decide) (fun _ => ?_) (fun _ => ?_)
          · refine x_ic dX22_study_111 (by decide) (by decide) ?_
            exact hJ _
          · refine x_ic dX22_study_107 (by decide) (by decide) ?_
            refine x_goto 112 dX22_study_108 (by decide) ?_
            exact hJ _
      · refine x_goto 236 dX22_study_54 (by decide) ?_
        exact x_sub [1, 2, 3, 4] rfl (WF_X22_study_236 hdd ih x0 x1 x2 x3 h4)
noncomputable def F_X22_study (x0 : Int) (x1 : Int) (h : XH) : Option XR := ob h x0 20 <| nm (hset h x0 5 0) fun h1 => F_X22_study_9 FU x0 x1 0 0 h1
theorem WF_X22_study {d : Nat} {Z : XZ XR} (hdd : 127 ≤ d) : ∀ x0 x1 h, XG xfh (xQ 2) RX22 "study" cX22_study 7 none d Z 0 [(0, (2, x0)), (1, (0, x1))] [] h (F_X22_study x0 x1 h) := by
  intro x0 x1 h
  unfold F_X22_study
  refine x_aload_n 0 dX22_study_0 rfl rfl ?_
  refine x_ic dX22_study_1 (by decide) (by decide) ?_
  refine xp_X22_62 dX22_study_2 fun h1 => ?_
  refine x_ic dX22_study_5 (by decide) (by decide) ?_
  refine x_istore_n (lv' := [(2, (0, 0)), (0, (2, x0)), (1, (0, x1))]) dX22_study_6 rfl (by decide) rfl ?_
  refine x_ic dX22_study_7 (by decide) (by decide) ?_
  refine x_istore_n (lv' := [(3, (0, 0)), (2, (0, 0)), (0, (2, x0)), (1, (0, x1))]) dX22_study_8 rfl (by decide) rfl ?_
  exact x_sub [2, 3, 1, 0] rfl (WF_X22_study_9 hdd FU x0 x1 0 0 h1)
theorem SF_X22_study (l : Launch) {d : Nat} (hdd : 127 ≤ d) (x0 : Int) (x1 : Int) (h : XH) (hok : okH h) (ho : okXs (xn h) [(2, x0), (0, x1)]) (fin : XR) (hf : F_X22_study x0 x1 h = some fin) : xSpec l yX22_study cX22_study 7 none d 2 [(2, x0), (0, x1)] h fin := x_enter (lv := [(0, (2, x0)), (1, (0, x1))]) (by decide) rfl rfl (Nat.le_of_ble_eq_true rfl) rfl (fun Z _ => WF_X22_study hdd x0 x1 h) hok ho fin hf
theorem cl_X22_26 {ρ : Type} {fh : ρ → XH} {QQ : XZ ρ → State → Prop} {mn : String} {cc : ByteArray} {nL : Nat} {ret : Option FieldType} {d : Nat} {Z : XZ ρ} {pc : Nat} {lv : List (Nat × AV)} {st : List AV} {h : XH} {g : Int → XH → Option ρ} {b a0 : Int} (hdd : 128 ≤ d) (hcat : (st.map fun v => if v.1 = 1 then 2 else 1).sum ≤ 8) (hdg : decode cc pc = .ok (.invokevirtual 26, 3)) (kk : ∀ r h1, XG fh QQ RX22 mn cc nL ret d Z (pc + 3) lv st h1 (g r h1)) : XG fh QQ RX22 mn cc nL ret d Z pc lv ((0, a0) :: (2, b) :: st) h (ob h b 20 (mb (F_X22_study b a0 h) g)) :=
  x_callVv [(0, a0)] 1 (WF_X22_study (Z := (Z.1, Z.2.1, ((0, h), h))) (Nat.le_refl 127) b a0 h).1 (fun hok ho fin hf => SF_X22_study (yL Z) (Nat.le_refl 127) b a0 h hok ho fin hf) RX22 20 rfl (by decide) (lw_V q1298 q1300 qs49 q160 q1301) ⟨rfl, by decide +kernel, by decide +kernel, by decide +kernel⟩ rfl (by omega) (by decide) rfl hcat hdg kk
theorem cl_X22_34 {ρ : Type} {fh : ρ → XH} {QQ : XZ ρ → State → Prop} {mn : String} {cc : ByteArray} {nL : Nat} {ret : Option FieldType} {d : Nat} {Z : XZ ρ} {pc : Nat} {lv : List (Nat × AV)} {st : List AV} {h : XH} {g : Int → XH → Option ρ} {b a0 a1 : Int} (hdd : 128 ≤ d) (hcat : (st.map fun v => if v.1 = 1 then 2 else 1).sum ≤ 8) (hdg : decode cc pc = .ok (.invokevirtual 34, 3)) (kk : ∀ r h1, XG fh QQ RX22 mn cc nL ret d Z (pc + 3) lv st h1 (g r h1)) : XG fh QQ RX22 mn cc nL ret d Z pc lv ((0, a1) :: (0, a0) :: (2, b) :: st) h (ob h b 20 (mb (F_X22_forget b a0 a1 h) g)) :=
  x_callVv [(0, a0), (0, a1)] 2 (WF_X22_forget (Z := (Z.1, Z.2.1, ((0, h), h))) (Nat.le_refl 127) b a0 a1 h).1 (fun hok ho fin hf => SF_X22_forget (yL Z) (Nat.le_refl 127) b a0 a1 h hok ho fin hf) RX22 20 rfl (by decide) (lw_V q1313 q1315 qs51 q160 q1316) ⟨rfl, by decide +kernel, by decide +kernel, by decide +kernel⟩ rfl (by omega) (by decide) rfl hcat hdg kk
theorem xpF_X22_15 {ρ : Type} {fh : ρ → XH} {QQ : XZ ρ → State → Prop} {cc : ByteArray} {nL : Nat} {ret : Option FieldType} {d : Nat} {Z : XZ ρ} {pc : Nat} {lv : List (Nat × AV)} {st : List AV} {h : XH} {f : XH → Option ρ} {a x : Int} (hd : decode cc pc = .ok (.putfield 15, 3)) (kk : ∀ h1, XG fh QQ RX22 "<init>" cc nL ret d Z (pc + 3) lv st h1 (f h1)) : XG fh QQ RX22 "<init>" cc nL ret d Z pc lv ((2, x) :: (2, a) :: st) h (ob h a 20 (nm (hset h a 0 x) f)) := x_putF (C := RX22) (ref := RX22) 20 0 rfl in_X22 tyX22_ok nmX22 (by decide) rfl (by decide) (Or.inl rfl) rfl rfl rfl (xfit_X22 0 (by decide)) 2 rfl q1318 hd kk
theorem xpF_X22_19 {ρ : Type} {fh : ρ → XH} {QQ : XZ ρ → State → Prop} {cc : ByteArray} {nL : Nat} {ret : Option FieldType} {d : Nat} {Z : XZ ρ} {pc : Nat} {lv : List (Nat × AV)} {st : List AV} {h : XH} {f : XH → Option ρ} {a x : Int} (hd : decode cc pc = .ok (.putfield 19, 3)) (kk : ∀ h1, XG fh QQ RX22 "<init>" cc nL ret d Z (pc + 3) lv st h1 (f h1)) : XG fh QQ RX22 "<init>" cc nL ret d Z pc lv ((2, x) :: (2, a) :: st) h (ob h a 20 (nm (hset h a 1 x) f)) := x_putF (C := RX22) (ref := RX22) 20 1 rfl in_X22 tyX22_ok nmX22 (by decide) rfl (by decide) (Or.inl rfl) rfl rfl rfl (xfit_X22 1 (by decide)) 2 rfl q1320 hd kk
theorem xpF_X22_3 {ρ : Type} {fh : ρ → XH} {QQ : XZ ρ → State → Prop} {cc : ByteArray} {nL : Nat} {ret : Option FieldType} {d : Nat} {Z : XZ ρ} {pc : Nat} {lv : List (Nat × AV)} {st : List AV} {h : XH} {f : XH → Option ρ} {a x : Int} (hd : decode cc pc = .ok (.putfield 3, 3)) (kk : ∀ h1, XG fh QQ RX22 "<init>" cc nL ret d Z (pc + 3) lv st h1 (f h1)) : XG fh QQ RX22 "<init>" cc nL ret d Z pc lv ((2, x) :: (2, a) :: st) h (ob h a 20 (nm (hset h a 6 x) f)) := x_putF (C := RX22) (ref := RX22) 20 6 rfl in_X22 tyX22_ok nmX22 (by decide) rfl (by decide) (Or.inl rfl) rfl rfl rfl (xfit_X22 6 (by decide)) 2 rfl q1329 hd kk
noncomputable def F_X22_init_67 (K32 : Int → Int → Int → Int → XH → Option XR) (x0 : Int) (x1 : Int) (x2 : Int) (x3 : Int) (h : XH) : Option XR := nm (w32 (x3 + 1)) fun v1 => K32 x0 x1 x2 v1 h
theorem WF_X22_init_67 {d : Nat} {Z : XZ XR} (hdd : 128 ≤ d) {K32 : Int → Int → Int → Int → XH → Option XR} (hK32 : ∀ x0 x1 x2 x3 h, XG xfh (xQ 2) RX22 "<init>" cX22_init 5 none d Z 32 [(0, (2, x0)), (1, (2, x1)), (2, (0, x2)), (3, (0, x3))] [] h (K32 x0 x1 x2 x3 h)) : ∀ x0 x1 x2 x3 h, XG xfh (xQ 2) RX22 "<init>" cX22_init 5 none d Z 67 [(0, (2, x0)), (1, (2, x1)), (2, (0, x2)), (3, (0, x3))] [] h (F_X22_init_67 K32 x0 x1 x2 x3 h) := by
  intro x0 x1 x2 x3 h
  unfold F_X22_init_67
  refine x_iinc 3 dX22_init_67 rfl (by decide) fun v1 => x_lv (lv' := [(3, (0, v1)), (0, (2, x0)), (1, (2, x1)), (2, (0, x2))]) rfl ?_
  refine x_goto 32 dX22_init_70 (by decide) ?_
  exact x_sub [1, 2, 3, 0] rfl (hK32 x0 x1 x2 v1 h)
noncomputable def F_X22_init_45 (K32 : Int → Int → Int → Int → XH → Option XR) : Nat → Int → Int → Int → Int → Int → XH → Option XR
  | 0, _, _, _, _, _, _ => none
  | n + 1, x0, x1, x2, x3, x4, h => ob h x1 1 <| mb (F_X0_many x1 h) fun r1 h2 => if r1 ≤ x4 then (F_X22_init_67 K32 x0 x1 x2 x3 h2) else (ob h2 x0 20 <| mb (F_X22_forget x0 x4 x3 h2) fun r3 h4 => nm (w32 (x4 + 1)) fun v5 => F_X22_init_45 K32 n x0 x1 x2 x3 v5 h4)
theorem WF_X22_init_45 {d : Nat} {Z : XZ XR} (hdd : 128 ≤ d) {K32 : Int → Int → Int → Int → XH → Option XR} (hK32 : ∀ x0 x1 x2 x3 h, XG xfh (xQ 2) RX22 "<init>" cX22_init 5 none d Z 32 [(0, (2, x0)), (1, (2, x1)), (2, (0, x2)), (3, (0, x3))] [] h (K32 x0 x1 x2 x3 h)) : ∀ n x0 x1 x2 x3 x4 h, XG xfh (xQ 2) RX22 "<init>" cX22_init 5 none d Z 45 [(0, (2, x0)), (1, (2, x1)), (2, (0, x2)), (3, (0, x3)), (4, (0, x4))] [] h (F_X22_init_45 K32 n x0 x1 x2 x3 x4 h) := by
  intro n
  induction n with
  | zero => intro x0 x1 x2 x3 x4 h; exact x_none
  | succ n ih =>
    intro x0 x1 x2 x3 x4 h
    rw [F_X22_init_45]
    refine x_iload 4 dX22_init_45 rfl ?_
    refine x_aload_n 1 dX22_init_47 rfl rfl ?_
    refine cl_X22_30 (by omega) (Nat.le_of_ble_eq_true rfl) dX22_init_48 fun r1 h2 => ?_
    refine x_icmp_ge 67 dX22_init_51 (by decide) (fun _ => ?_) (fun _ => ?_)
    · exact x_sub [0, 1, 2, 3] rfl (WF_X22_init_67 hdd hK32 x0 x1 x2 x3 h2)
    · refine x_aload_n 0 dX22_init_54 rfl rfl ?_
      refine x_iload 4 dX22_init_55 rfl ?_
      refine x_iload_n 3 dX22_init_57 rfl rfl ?_
      refine cl_X22_34 (by omega) (Nat.le_of_ble_eq_true rfl) dX22_init_58 fun r3 h4 => ?_
      refine x_iinc 4 dX22_init_61 rfl (by decide) fun v5 => x_lv (lv' := [(4, (0, v5)), (0, (2, x0)), (1, (2, x1)), (2, (0, x2)), (3, (0, x3))]) rfl ?_
      refine x_goto 45 dX22_init_64 (by decide) ?_
      exact x_sub [1, 2, 3, 4, 0] rfl (ih x0 x1 x2 x3 v5 h4)
noncomputable def F_X22_init_32 : Nat → Int → Int → Int → Int → XH → Option XR
  | 0, _, _, _, _, _ => none
  | n + 1, x0, x1, x2, x3, h => if x2 < x3 then (some (0, h)) else (ob h x0 20 <| mb (F_X22_study x0 x3 h) fun r1 h2 => F_X22_init_45 (F_X22_init_32 n) FU x0 x1 x2 x3 0 h2)
theorem WF_X22_init_32 {d : Nat} {Z : XZ XR} (hdd : 128 ≤ d) : ∀ n x0 x1 x2 x3 h, XG xfh (xQ 2) RX22 "<init>" cX22_init 5 none d Z 32 [(0, (2, x0)), (1, (2, x1)), (2, (0, x2)), (3, (0, x3))] [] h (F_X22_init_32 n x0 x1 x2 x3 h) := by
  intro n
  induction n with
  | zero => intro x0 x1 x2 x3 h; exact x_none
  | succ n ih =>
    intro x0 x1 x2 x3 h
    rw [F_X22_init_32]
    refine x_iload_n 3 dX22_init_32 rfl rfl ?_
    refine x_iload_n 2 dX22_init_33 rfl rfl ?_
    refine x_icmp_gt 73 dX22_init_34 (by decide) (fun _ => ?_) (fun _ => ?_)
    · exact x_vret rfl dX22_init_73
    · refine x_aload_n 0 dX22_init_37 rfl rfl ?_
      refine x_iload_n 3 dX22_init_38 rfl rfl ?_
      refine cl_X22_26 (by omega) (Nat.le_of_ble_eq_true rfl) dX22_init_39 fun r1 h2 => ?_
      refine x_ic dX22_init_42 (by decide) (by decide) ?_
      refine x_istore (lv' := [(4, (0, 0)), (0, (2, x0)), (1, (2, x1)), (2, (0, x2)), (3, (0, x3))]) dX22_init_43 (by decide) rfl ?_
      exact x_sub [1, 2, 3, 4, 0] rfl (WF_X22_init_45 hdd ih FU x0 x1 x2 x3 0 h2)
noncomputable def F_X22_init (x0 : Int) (x1 : Int) (x2 : Int) (h : XH) : Option XR := ob h x0 20 <| nm (hset h x0 6 x1) fun h1 => pz x0 <| na h1 0 20 fun r2 h3 => ob h3 x0 20 <| nm (hset h3 x0 0 r2) fun h4 => na h4 0 20 fun r5 h6 => ob h6 x0 20 <| nm (hset h6 x0 1 r5) fun h7 => ob h7 x0 20 <| nm (hset h7 x0 4 (-1)) fun h8 => F_X22_init_32 FU x0 x1 x2 0 h8
theorem WF_X22_init {d : Nat} {Z : XZ XR} (hdd : 128 ≤ d) : ∀ x0 x1 x2 h, XG xfh (xQ 2) RX22 "<init>" cX22_init 5 none d Z 0 [(0, (2, x0)), (1, (2, x1)), (2, (0, x2))] [] h (F_X22_init x0 x1 x2 h) := by
  intro x0 x1 x2 h
  unfold F_X22_init
  refine x_aload_n 0 dX22_init_0 rfl rfl ?_
  refine x_aload_n 1 dX22_init_1 rfl rfl ?_
  refine xpF_X22_3 dX22_init_2 fun h1 => ?_
  refine x_aload_n 0 dX22_init_5 rfl rfl ?_
  refine x_objinit q1297 q176 q177 (by omega) (Nat.le_of_ble_eq_true rfl) dX22_init_6 ?_
  refine x_aload_n 0 dX22_init_9 rfl rfl ?_
  refine x_bp dX22_init_10 (by decide) (by decide) ?_
  refine x_newarr (atype := .int) 0 (by decide) rfl rfl q252 dX22_init_12 fun r2 h3 => ?_
  refine xpF_X22_15 dX22_init_14 fun h4 => ?_
  refine x_aload_n 0 dX22_init_17 rfl rfl ?_
  refine x_bp dX22_init_18 (by decide) (by decide) ?_
  refine x_newarr (atype := .int) 0 (by decide) rfl rfl q252 dX22_init_20 fun r5 h6 => ?_
  refine xpF_X22_19 dX22_init_22 fun h7 => ?_
  refine x_aload_n 0 dX22_init_25 rfl rfl ?_
  refine x_ic dX22_init_26 (by decide) (by decide) ?_
  refine xp_X22_22 dX22_init_27 fun h8 => ?_
  refine x_ic dX22_init_30 (by decide) (by decide) ?_
  refine x_istore_n (lv' := [(3, (0, 0)), (0, (2, x0)), (1, (2, x1)), (2, (0, x2))]) dX22_init_31 rfl (by decide) rfl ?_
  exact x_sub [1, 2, 3, 0] rfl (WF_X22_init_32 hdd FU x0 x1 x2 0 h8)
theorem SF_X22_init (l : Launch) {d : Nat} (hdd : 128 ≤ d) (x0 : Int) (x1 : Int) (x2 : Int) (h : XH) (hok : okH h) (ho : okXs (xn h) [(2, x0), (2, x1), (0, x2)]) (fin : XR) (hf : F_X22_init x0 x1 x2 h = some fin) : xSpec l yX22_init cX22_init 5 none d 2 [(2, x0), (2, x1), (0, x2)] h fin := x_enter (lv := [(0, (2, x0)), (1, (2, x1)), (2, (0, x2))]) (by decide) rfl rfl (Nat.le_of_ble_eq_true rfl) rfl (fun Z _ => WF_X22_init hdd x0 x1 x2 h) hok ho fin hf
theorem cl_X0_311 {ρ : Type} {fh : ρ → XH} {QQ : XZ ρ → State → Prop} {mn : String} {cc : ByteArray} {nL : Nat} {ret : Option FieldType} {d : Nat} {Z : XZ ρ} {pc : Nat} {lv : List (Nat × AV)} {st : List AV} {h : XH} {g : Int → XH → Option ρ} {b a0 a1 : Int} (hdd : 129 ≤ d) (hcat : (st.map fun v => if v.1 = 1 then 2 else 1).sum ≤ 8) (hdg : decode cc pc = .ok (.invokespecial 311, 3)) (kk : ∀ r h1, XG fh QQ RX0 mn cc nL ret d Z (pc + 3) lv st h1 (g r h1)) : XG fh QQ RX0 mn cc nL ret d Z pc lv ((0, a1) :: (2, a0) :: (2, b) :: st) h (pz b (mb (F_X22_init b a0 a1 h) g)) :=
  x_callIv [(2, a0), (0, a1)] 2 (WF_X22_init (Z := (Z.1, Z.2.1, ((0, h), h))) (Nat.le_refl 128) b a0 a1 h).1 (fun hok ho fin hf => SF_X22_init (yL Z) (Nat.le_refl 128) b a0 a1 h hok ho fin hf) (lw_meth q1296) q160 q1294 q1295 rfl ⟨by decide +kernel, by decide +kernel, by decide +kernel⟩ rfl (by omega) (by decide) rfl hcat hdg kk
theorem xg_X0_314 {ρ : Type} {fh : ρ → XH} {QQ : XZ ρ → State → Prop} {mn : String} {cc : ByteArray} {nL : Nat} {ret : Option FieldType} {d : Nat} {Z : XZ ρ} {pc : Nat} {lv : List (Nat × AV)} {st : List AV} {h : XH} {res : Option ρ} {a : Int} (hd : decode cc pc = .ok (.getfield 314, 3)) (kk : XG fh QQ RX0 mn cc nL ret d Z (pc + 3) lv ((0, xv h a 5) :: st) h res) : XG fh QQ RX0 mn cc nL ret d Z pc lv ((2, a) :: st) h (ob h a 20 res) := x_getN (C := RX22) (ref := RX22) 20 5 rfl in_X22 (by decide) rfl (by decide) (Or.inl rfl) q1328 hd kk
theorem xg_X0_317 {ρ : Type} {fh : ρ → XH} {QQ : XZ ρ → State → Prop} {mn : String} {cc : ByteArray} {nL : Nat} {ret : Option FieldType} {d : Nat} {Z : XZ ρ} {pc : Nat} {lv : List (Nat × AV)} {st : List AV} {h : XH} {res : Option ρ} {a : Int} (hd : decode cc pc = .ok (.getfield 317, 3)) (kk : XG fh QQ RX0 mn cc nL ret d Z (pc + 3) lv ((2, xv h a 0) :: st) h res) : XG fh QQ RX0 mn cc nL ret d Z pc lv ((2, a) :: st) h (ob h a 20 res) := x_getN (C := RX22) (ref := RX22) 20 0 rfl in_X22 (by decide) rfl (by decide) (Or.inl rfl) q1319 hd kk
theorem xn_X0_309 {ρ : Type} {fh : ρ → XH} {QQ : XZ ρ → State → Prop} {mn : String} {cc : ByteArray} {nL : Nat} {ret : Option FieldType} {d : Nat} {Z : XZ ρ} {pc : Nat} {lv : List (Nat × AV)} {st : List AV} {h : XH} {f : Int → XH → Option ρ} (hd : decode cc pc = .ok (.new 309, 3)) (kk : ∀ r h1, XG fh QQ RX0 mn cc nL ret d Z (pc + 3) lv ((2, r) :: st) h1 (f r h1)) : XG fh QQ RX0 mn cc nL ret d Z pc lv st h (nw h 20 7 f) := x_new (C := RX22) 20 rfl in_X22 tyX22_ok (by decide) rfl (by decide) xfit_X22 q1292 q1293 q160 hd kk
noncomputable def F_X0_behind_36 (x0 : Int) (x1 : Int) (x2 : Int) (h : XH) : Option XR := nw h 20 7 fun r1 h2 => pz r1 <| mb (F_X22_init r1 x0 x1 h2) fun r3 h4 => if x2 = (-1) then (ob h4 r1 20 <| some (xv h4 r1 5, h4)) else (ob h4 r1 20 <| ai h4 (xv h4 r1 0) 0 x2 <| some (xv h4 (xv h4 r1 0) x2, h4))
theorem WF_X0_behind_36 {d : Nat} {Z : XZ XR} (hdd : 129 ≤ d) : ∀ x0 x1 x2 h, XG xfh (xQ 0) RX0 "behind" cX0_behind 4 (some .int) d Z 36 [(0, (2, x0)), (1, (0, x1)), (2, (0, x2))] [] h (F_X0_behind_36 x0 x1 x2 h) := by
  intro x0 x1 x2 h
  unfold F_X0_behind_36
  refine xn_X0_309 dX0_behind_36 fun r1 h2 => ?_
  refine x_dup dX0_behind_39 rfl ?_
  refine x_aload_n 0 dX0_behind_40 rfl rfl ?_
  refine x_iload_n 1 dX0_behind_41 rfl rfl ?_
  refine cl_X0_311 (by omega) (Nat.le_of_ble_eq_true rfl) dX0_behind_42 fun r3 h4 => ?_
  refine x_astore_n (lv' := [(3, (2, r1)), (0, (2, x0)), (1, (0, x1)), (2, (0, x2))]) dX0_behind_45 rfl (by decide) rfl ?_
  refine x_iload_n 3 dX0_behind_46 rfl rfl ?_
  refine x_ic dX0_behind_47 (by decide) (by decide) ?_
  refine x_icmp_ne 58 dX0_behind_48 (by decide) (fun _ => ?_) (fun _ => ?_)
  · refine x_aload_n 0 dX0_behind_58 rfl rfl ?_
    refine xg_X0_317 dX0_behind_59 ?_
    refine x_iload_n 3 dX0_behind_62 rfl rfl ?_
    refine x_iald dX0_behind_63 ?_
    exact x_iret rfl dX0_behind_64
  · refine x_aload_n 0 dX0_behind_51 rfl rfl ?_
    refine xg_X0_314 dX0_behind_52 ?_
    refine x_goto 64 dX0_behind_55 (by decide) ?_
    exact x_iret rfl dX0_behind_64
noncomputable def F_X0_behind (x0 : Int) (x1 : Int) (x2 : Int) (h : XH) : Option XR := ob h x0 1 <| ob h (xv h x0 0) 2 <| ai h (xv h (xv h x0 0) 3) 0 5 <| mb (F_X0_in x1 0 (w32 ((xv h (xv h (xv h x0 0) 3) 5) - 1)) h) fun r1 h2 => if r1 = 0 then (some ((-1), h2)) else (if x2 = (-1) then (F_X0_behind_36 x0 x1 x2 h2) else (ob h2 x0 1 <| mb (F_X0_questionOf x0 x2 h2) fun r3 h4 => if r3 = 0 then (some ((-1), h4)) else (F_X0_behind_36 x0 x1 x2 h4)))
theorem WF_X0_behind {d : Nat} {Z : XZ XR} (hdd : 129 ≤ d) : ∀ x0 x1 x2 h, XG xfh (xQ 0) RX0 "behind" cX0_behind 4 (some .int) d Z 0 [(0, (2, x0)), (1, (0, x1)), (2, (0, x2))] [] h (F_X0_behind x0 x1 x2 h) := by
  intro x0 x1 x2 h
  unfold F_X0_behind
  refine x_iload_n 1 dX0_behind_0 rfl rfl ?_
  refine x_i2l dX0_behind_1 ?_
  refine x_l0 dX0_behind_2 ?_
  refine x_aload_n 0 dX0_behind_3 rfl rfl ?_
  refine xg_X0_17 dX0_behind_4 ?_
  refine xg_X0_174 dX0_behind_7 ?_
  refine x_ic dX0_behind_10 (by decide) (by decide) ?_
  refine x_iald dX0_behind_11 ?_
  refine x_ic dX0_behind_12 (by decide) (by decide) ?_
  refine x_isub dX0_behind_13 ?_
  refine x_i2l dX0_behind_14 ?_
  refine cl_X0_109 (by omega) (Nat.le_of_ble_eq_true rfl) dX0_behind_15 fun r1 h2 => ?_
  refine x_if_eq 34 dX0_behind_18 (by decide) (fun _ => ?_) (fun _ => ?_)
  · refine x_ic dX0_behind_34 (by decide) (by decide) ?_
    exact x_iret rfl dX0_behind_35
  · refine x_iload_n 2 dX0_behind_21 rfl rfl ?_
    refine x_ic dX0_behind_22 (by decide) (by decide) ?_
    refine x_icmp_eq 36 dX0_behind_23 (by decide) (fun _ => ?_) (fun _ => ?_)
    · exact x_sub [0, 1, 2] rfl (WF_X0_behind_36 hdd x0 x1 x2 h2)
    · refine x_aload_n 0 dX0_behind_26 rfl rfl ?_
      refine x_iload_n 2 dX0_behind_27 rfl rfl ?_
      refine cl_X0_147 (by omega) (Nat.le_of_ble_eq_true rfl) dX0_behind_28 fun r3 h4 => ?_
      refine x_ifnonnull 36 dX0_behind_31 (by decide) (fun _ => ?_) (fun _ => ?_)
      · refine x_ic dX0_behind_34 (by decide) (by decide) ?_
        exact x_iret rfl dX0_behind_35
      · exact x_sub [0, 1, 2] rfl (WF_X0_behind_36 hdd x0 x1 x2 h4)
theorem SF_X0_behind (l : Launch) {d : Nat} (hdd : 129 ≤ d) (x0 : Int) (x1 : Int) (x2 : Int) (h : XH) (hok : okH h) (ho : okXs (xn h) [(2, x0), (0, x1), (0, x2)]) (fin : XR) (hf : F_X0_behind x0 x1 x2 h = some fin) : xSpec l yX0_behind cX0_behind 4 (some .int) d 0 [(2, x0), (0, x1), (0, x2)] h fin := x_enter (lv := [(0, (2, x0)), (1, (0, x1)), (2, (0, x2))]) (by decide) rfl rfl (Nat.le_of_ble_eq_true rfl) rfl (fun Z _ => WF_X0_behind hdd x0 x1 x2 h) hok ho fin hf
theorem xg_X0_320 {ρ : Type} {fh : ρ → XH} {QQ : XZ ρ → State → Prop} {mn : String} {cc : ByteArray} {nL : Nat} {ret : Option FieldType} {d : Nat} {Z : XZ ρ} {pc : Nat} {lv : List (Nat × AV)} {st : List AV} {h : XH} {res : Option ρ} {a : Int} (hd : decode cc pc = .ok (.getfield 320, 3)) (kk : XG fh QQ RX0 mn cc nL ret d Z (pc + 3) lv ((0, xv h a 2) :: st) h res) : XG fh QQ RX0 mn cc nL ret d Z pc lv ((2, a) :: st) h (ob h a 20 res) := x_getN (C := RX22) (ref := RX22) 20 2 rfl in_X22 (by decide) rfl (by decide) (Or.inl rfl) q1322 hd kk
theorem xg_X0_323 {ρ : Type} {fh : ρ → XH} {QQ : XZ ρ → State → Prop} {mn : String} {cc : ByteArray} {nL : Nat} {ret : Option FieldType} {d : Nat} {Z : XZ ρ} {pc : Nat} {lv : List (Nat × AV)} {st : List AV} {h : XH} {res : Option ρ} {a : Int} (hd : decode cc pc = .ok (.getfield 323, 3)) (kk : XG fh QQ RX0 mn cc nL ret d Z (pc + 3) lv ((0, xv h a 4) :: st) h res) : XG fh QQ RX0 mn cc nL ret d Z pc lv ((2, a) :: st) h (ob h a 20 res) := x_getN (C := RX22) (ref := RX22) 20 4 rfl in_X22 (by decide) rfl (by decide) (Or.inl rfl) q1326 hd kk
theorem xg_X0_326 {ρ : Type} {fh : ρ → XH} {QQ : XZ ρ → State → Prop} {mn : String} {cc : ByteArray} {nL : Nat} {ret : Option FieldType} {d : Nat} {Z : XZ ρ} {pc : Nat} {lv : List (Nat × AV)} {st : List AV} {h : XH} {res : Option ρ} {a : Int} (hd : decode cc pc = .ok (.getfield 326, 3)) (kk : XG fh QQ RX0 mn cc nL ret d Z (pc + 3) lv ((0, xv h a 3) :: st) h res) : XG fh QQ RX0 mn cc nL ret d Z pc lv ((2, a) :: st) h (ob h a 20 res) := x_getN (C := RX22) (ref := RX22) 20 3 rfl in_X22 (by decide) rfl (by decide) (Or.inl rfl) q1324 hd kk
noncomputable def F_X0_judge (x0 : Int) (x1 : Int) (h : XH) : Option XR := nw h 20 7 fun r1 h2 => ob h2 x0 1 <| ob h2 (xv h2 x0 0) 2 <| ai h2 (xv h2 (xv h2 x0 0) 3) 0 5 <| pz r1 <| mb (F_X22_init r1 x0 (w32 ((xv h2 (xv h2 (xv h2 x0 0) 3) 5) - 1)) h2) fun r3 h4 => if x1 = 0 then (ob h4 r1 20 <| some (xv h4 r1 2, h4)) else if x1 = 1 then (ob h4 r1 20 <| some (xv h4 r1 4, h4)) else if x1 = 2 then (ob h4 r1 20 <| some (xv h4 r1 3, h4)) else (some ((-1), h4))
theorem WF_X0_judge {d : Nat} {Z : XZ XR} (hdd : 129 ≤ d) : ∀ x0 x1 h, XG xfh (xQ 0) RX0 "judge" cX0_judge 3 (some .int) d Z 0 [(0, (2, x0)), (1, (0, x1))] [] h (F_X0_judge x0 x1 h) := by
  intro x0 x1 h
  unfold F_X0_judge
  refine xn_X0_309 dX0_judge_0 fun r1 h2 => ?_
  refine x_dup dX0_judge_3 rfl ?_
  refine x_aload_n 0 dX0_judge_4 rfl rfl ?_
  refine x_aload_n 0 dX0_judge_5 rfl rfl ?_
  refine xg_X0_17 dX0_judge_6 ?_
  refine xg_X0_174 dX0_judge_9 ?_
  refine x_ic dX0_judge_12 (by decide) (by decide) ?_
  refine x_iald dX0_judge_13 ?_
  refine x_ic dX0_judge_14 (by decide) (by decide) ?_
  refine x_isub dX0_judge_15 ?_
  refine cl_X0_311 (by omega) (Nat.le_of_ble_eq_true rfl) dX0_judge_16 fun r3 h4 => ?_
  refine x_astore_n (lv' := [(2, (2, r1)), (0, (2, x0)), (1, (0, x1))]) dX0_judge_19 rfl (by decide) rfl ?_
  refine x_iload_n 2 dX0_judge_20 rfl rfl ?_
  refine x_tswC (c := 0) 48 dX0_judge_21 ⟨by decide, by decide⟩ (by decide) (by decide) rfl (by decide) (fun _ => ?_) (fun _ => ?_)
  · refine x_aload_n 0 dX0_judge_48 rfl rfl ?_
    refine xg_X0_320 dX0_judge_49 ?_
    exact x_iret rfl dX0_judge_52
  refine x_tswC (c := 1) 53 dX0_judge_21 ⟨by decide, by decide⟩ (by decide) (by decide) rfl (by decide) (fun _ => ?_) (fun _ => ?_)
  · refine x_aload_n 0 dX0_judge_53 rfl rfl ?_
    refine xg_X0_323 dX0_judge_54 ?_
    exact x_iret rfl dX0_judge_57
  refine x_tswC (c := 2) 58 dX0_judge_21 ⟨by decide, by decide⟩ (by decide) (by decide) rfl (by decide) (fun _ => ?_) (fun _ => ?_)
  · refine x_aload_n 0 dX0_judge_58 rfl rfl ?_
    refine xg_X0_326 dX0_judge_59 ?_
    exact x_iret rfl dX0_judge_62
  refine x_tswO 63 dX0_judge_21 (by omega) (by decide) ?_
  refine x_ic dX0_judge_63 (by decide) (by decide) ?_
  exact x_iret rfl dX0_judge_64
theorem SF_X0_judge (l : Launch) {d : Nat} (hdd : 129 ≤ d) (x0 : Int) (x1 : Int) (h : XH) (hok : okH h) (ho : okXs (xn h) [(2, x0), (0, x1)]) (fin : XR) (hf : F_X0_judge x0 x1 h = some fin) : xSpec l yX0_judge cX0_judge 3 (some .int) d 0 [(2, x0), (0, x1)] h fin := x_enter (lv := [(0, (2, x0)), (1, (0, x1))]) (by decide) rfl rfl (Nat.le_of_ble_eq_true rfl) rfl (fun Z _ => WF_X0_judge hdd x0 x1 h) hok ho fin hf
theorem xp_X0_39 {ρ : Type} {fh : ρ → XH} {QQ : XZ ρ → State → Prop} {mn : String} {cc : ByteArray} {nL : Nat} {ret : Option FieldType} {d : Nat} {Z : XZ ρ} {pc : Nat} {lv : List (Nat × AV)} {st : List AV} {h : XH} {f : XH → Option ρ} {a x : Int} (hd : decode cc pc = .ok (.putfield 39, 3)) (kk : ∀ h1, XG fh QQ RX0 mn cc nL ret d Z (pc + 3) lv st h1 (f h1)) : XG fh QQ RX0 mn cc nL ret d Z pc lv ((0, x) :: (2, a) :: st) h (ob h a 5 (nm (hset h a 3 x) f)) := x_putN (C := RX5) (ref := RX5) 5 3 rfl in_X5 tyX5_ok nmX5 (by decide) rfl (by decide) (Or.inl rfl) (by decide) (xfit_X5 3 (by decide)) 0 rfl q391 hd kk
noncomputable def F_X0_learn_78 (x0 : Int) (x2 : Int) (h : XH) : Option XR := ob h x0 1 <| mb (F_X0_was x0 x2 h) fun r1 h2 => some (r1, h2)
theorem WF_X0_learn_78 {d : Nat} {Z : XZ XR} (hdd : 129 ≤ d) : ∀ x0 x2 h, XG xfh (xQ 0) RX0 "learn" cX0_learn 4 (some .int) d Z 78 [(0, (2, x0)), (2, (0, x2))] [] h (F_X0_learn_78 x0 x2 h) := by
  intro x0 x2 h
  unfold F_X0_learn_78
  refine x_aload_n 0 dX0_learn_78 rfl rfl ?_
  refine x_iload_n 1 dX0_learn_79 rfl rfl ?_
  refine cl_X0_142 (by omega) (Nat.le_of_ble_eq_true rfl) dX0_learn_80 fun r1 h2 => ?_
  exact x_iret rfl dX0_learn_83
noncomputable def F_X0_learn_24 : Nat → Int → Int → Int → Int → XH → Option XR
  | 0, _, _, _, _, _ => none
  | n + 1, x0, x1, x2, x3, h => ob h x0 1 <| mb (F_X0_many x0 h) fun r1 h2 => if r1 ≤ x3 then (F_X0_learn_78 x0 x2 h2) else (ob h2 x0 1 <| ob h2 (xv h2 x0 0) 2 <| ob h2 (xv h2 (xv h2 x0 0) 0) 26 <| mb (F_J2_get (xv h2 (xv h2 x0 0) 0) x3 h2) fun r3 h4 => ob h4 r3 5 <| ob h4 x1 20 <| ai h4 (xv h4 x1 0) 0 x3 <| ob h4 r3 5 <| nm (hset h4 r3 3 (xv h4 (xv h4 x1 0) x3)) fun h5 => ob h5 x1 20 <| ai h5 (xv h5 x1 0) 0 x3 <| nm (α := Int) (if xv h5 (xv h5 x1 0) x3 ≤ 0 then 0 else 1) fun v6 => nm (α := Int) (w32 (x2 + v6)) fun v7 => nm (w32 (x3 + 1)) fun v8 => F_X0_learn_24 n x0 x1 v7 v8 h5)
theorem WF_X0_learn_24 {d : Nat} {Z : XZ XR} (hdd : 129 ≤ d) : ∀ n x0 x1 x2 x3 h, XG xfh (xQ 0) RX0 "learn" cX0_learn 4 (some .int) d Z 24 [(0, (2, x0)), (1, (2, x1)), (2, (0, x2)), (3, (0, x3))] [] h (F_X0_learn_24 n x0 x1 x2 x3 h) := by
  intro n
  induction n with
  | zero => intro x0 x1 x2 x3 h; exact x_none
  | succ n ih =>
    intro x0 x1 x2 x3 h
    rw [F_X0_learn_24]
    refine x_iload_n 3 dX0_learn_24 rfl rfl ?_
    refine x_aload_n 0 dX0_learn_25 rfl rfl ?_
    refine cl_X0_13 (by omega) (Nat.le_of_ble_eq_true rfl) dX0_learn_26 fun r1 h2 => ?_
    refine x_icmp_ge 78 dX0_learn_29 (by decide) (fun _ => ?_) (fun _ => ?_)
    · exact x_sub [0, 2] rfl (WF_X0_learn_78 hdd x0 x2 h2)
    · refine x_aload_n 0 dX0_learn_32 rfl rfl ?_
      refine xg_X0_17 dX0_learn_33 ?_
      refine xg_X0_21 dX0_learn_36 ?_
      refine x_iload_n 3 dX0_learn_39 rfl rfl ?_
      refine cl_X0_27 (by omega) (Nat.le_of_ble_eq_true rfl) dX0_learn_40 fun r3 h4 => ?_
      refine x_cast (C := RX5) 5 rfl (by decide) q374 dX0_learn_43 ?_
      refine x_aload_n 1 dX0_learn_46 rfl rfl ?_
      refine xg_X0_317 dX0_learn_47 ?_
      refine x_iload_n 3 dX0_learn_50 rfl rfl ?_
      refine x_iald dX0_learn_51 ?_
      refine xp_X0_39 dX0_learn_52 fun h5 => ?_
      refine x_iload_n 2 dX0_learn_55 rfl rfl ?_
      refine x_aload_n 1 dX0_learn_56 rfl rfl ?_
      refine xg_X0_317 dX0_learn_57 ?_
      refine x_iload_n 3 dX0_learn_60 rfl rfl ?_
      refine x_iald dX0_learn_61 ?_
      refine x_join 70 (fun v6 => [(0, v6), (0, x2)]) (fun v6 => ?_) (fun hJ => ?_)
      · refine x_iadd dX0_learn_70 ?_
        refine x_nmT fun v7 => ?_
        refine x_istore_n (lv' := [(2, (0, v7)), (0, (2, x0)), (1, (2, x1)), (3, (0, x3))]) dX0_learn_71 rfl (by decide) rfl ?_
        refine x_iinc 3 dX0_learn_72 rfl (by decide) fun v8 => x_lv (lv' := [(3, (0, v8)), (2, (0, v7)), (0, (2, x0)), (1, (2, x1))]) rfl ?_
        refine x_goto 24 dX0_learn_75 (by decide) ?_
        exact x_sub [2, 3, 1, 0] rfl (ih x0 x1 v7 v8 h5)
      · refine x_if_leF 69 dX0_learn_62 (by decide) (fun _ => ?_) (fun _ => ?_)
        · refine x_ic dX0_learn_69 (by decide) (by decide) ?_
          exact hJ _
        · refine x_ic dX0_learn_65 (by decide) (by decide) ?_
          refine x_goto 70 dX0_learn_66 (by decide) ?_
          exact hJ _
noncomputable def F_X0_learn (x0 : Int) (h : XH) : Option XR := nw h 20 7 fun r1 h2 => ob h2 x0 1 <| ob h2 (xv h2 x0 0) 2 <| ai h2 (xv h2 (xv h2 x0 0) 3) 0 5 <| pz r1 <| mb (F_X22_init r1 x0 (w32 ((xv h2 (xv h2 (xv h2 x0 0) 3) 5) - 1)) h2) fun r3 h4 => F_X0_learn_24 FU x0 r1 0 0 h4
theorem WF_X0_learn {d : Nat} {Z : XZ XR} (hdd : 129 ≤ d) : ∀ x0 h, XG xfh (xQ 0) RX0 "learn" cX0_learn 4 (some .int) d Z 0 [(0, (2, x0))] [] h (F_X0_learn x0 h) := by
  intro x0 h
  unfold F_X0_learn
  refine xn_X0_309 dX0_learn_0 fun r1 h2 => ?_
  refine x_dup dX0_learn_3 rfl ?_
  refine x_aload_n 0 dX0_learn_4 rfl rfl ?_
  refine x_aload_n 0 dX0_learn_5 rfl rfl ?_
  refine xg_X0_17 dX0_learn_6 ?_
  refine xg_X0_174 dX0_learn_9 ?_
  refine x_ic dX0_learn_12 (by decide) (by decide) ?_
  refine x_iald dX0_learn_13 ?_
  refine x_ic dX0_learn_14 (by decide) (by decide) ?_
  refine x_isub dX0_learn_15 ?_
  refine cl_X0_311 (by omega) (Nat.le_of_ble_eq_true rfl) dX0_learn_16 fun r3 h4 => ?_
  refine x_astore_n (lv' := [(1, (2, r1)), (0, (2, x0))]) dX0_learn_19 rfl (by decide) rfl ?_
  refine x_ic dX0_learn_20 (by decide) (by decide) ?_
  refine x_istore_n (lv' := [(2, (0, 0)), (1, (2, r1)), (0, (2, x0))]) dX0_learn_21 rfl (by decide) rfl ?_
  refine x_ic dX0_learn_22 (by decide) (by decide) ?_
  refine x_istore_n (lv' := [(3, (0, 0)), (2, (0, 0)), (1, (2, r1)), (0, (2, x0))]) dX0_learn_23 rfl (by decide) rfl ?_
  exact x_sub [3, 2, 1, 0] rfl (WF_X0_learn_24 hdd FU x0 r1 0 0 h4)
theorem SF_X0_learn (l : Launch) {d : Nat} (hdd : 129 ≤ d) (x0 : Int) (h : XH) (hok : okH h) (ho : okXs (xn h) [(2, x0)]) (fin : XR) (hf : F_X0_learn x0 h = some fin) : xSpec l yX0_learn cX0_learn 4 (some .int) d 0 [(2, x0)] h fin := x_enter (lv := [(0, (2, x0))]) (by decide) rfl rfl (Nat.le_of_ble_eq_true rfl) rfl (fun Z _ => WF_X0_learn hdd x0 h) hok ho fin hf
theorem cl_X23_24 {ρ : Type} {fh : ρ → XH} {QQ : XZ ρ → State → Prop} {mn : String} {cc : ByteArray} {nL : Nat} {ret : Option FieldType} {d : Nat} {Z : XZ ρ} {pc : Nat} {lv : List (Nat × AV)} {st : List AV} {h : XH} {g : Int → XH → Option ρ} {b : Int} (hdd : 132 ≤ d) (hcat : (st.map fun v => if v.1 = 1 then 2 else 1).sum ≤ 8) (hdg : decode cc pc = .ok (.invokevirtual 24, 3)) (kk : ∀ r h1, XG fh QQ RX23 mn cc nL ret d Z (pc + 3) lv ((2, r) :: st) h1 (g r h1)) : XG fh QQ RX23 mn cc nL ret d Z pc lv ((2, b) :: st) h (ob h b 1 (mb (F_X0_schemes b h) g)) :=
  x_callPr [] 0 (WF_X0_schemes (Z := (Z.1, Z.2.1, ((0, h), h))) (Nat.le_refl 131) b h).1 (fun hok ho fin hf => SF_X0_schemes (yL Z) (Nat.le_refl 131) b h hok ho fin hf) RX0 1 rfl (by decide) q1365 q124 q1152 qs38 (lw_meth q1153) ⟨by decide +kernel, by decide +kernel, by decide +kernel⟩ rfl (by omega) (by decide) rfl hcat hdg kk
theorem cl_X23_38 {ρ : Type} {fh : ρ → XH} {QQ : XZ ρ → State → Prop} {mn : String} {cc : ByteArray} {nL : Nat} {ret : Option FieldType} {d : Nat} {Z : XZ ρ} {pc : Nat} {lv : List (Nat × AV)} {st : List AV} {h : XH} {g : Int → XH → Option ρ} {b a0 : Int} (hdd : 131 ≤ d) (hcat : (st.map fun v => if v.1 = 1 then 2 else 1).sum ≤ 8) (hdg : decode cc pc = .ok (.invokevirtual 38, 3)) (kk : ∀ r h1, XG fh QQ RX23 mn cc nL ret d Z (pc + 3) lv ((2, r) :: st) h1 (g r h1)) : XG fh QQ RX23 mn cc nL ret d Z pc lv ((0, a0) :: (2, b) :: st) h (ob h b 18 (mb (F_X20_first b a0 h) g)) :=
  x_callVr [(0, a0)] 1 (WF_X20_first (Z := (Z.1, Z.2.1, ((0, h), h))) (Nat.le_refl 130) b a0 h).1 (fun hok ho fin hf => SF_X20_first (yL Z) (Nat.le_refl 130) b a0 h hok ho fin hf) RX20 18 rfl (by decide) (lw_V q1366 q1240 q1241 q158 q1242) ⟨rfl, by decide +kernel, by decide +kernel, by decide +kernel⟩ rfl (by omega) (by decide) rfl hcat hdg kk
theorem cl_X23_47 {ρ : Type} {fh : ρ → XH} {QQ : XZ ρ → State → Prop} {mn : String} {cc : ByteArray} {nL : Nat} {ret : Option FieldType} {d : Nat} {Z : XZ ρ} {pc : Nat} {lv : List (Nat × AV)} {st : List AV} {h : XH} {g : Int → XH → Option ρ} {b a0 a1 a2 : Int} (hdd : 2 ≤ d) (hcat : (st.map fun v => if v.1 = 1 then 2 else 1).sum ≤ 8) (hdg : decode cc pc = .ok (.invokevirtual 47, 3)) (kk : ∀ r h1, XG fh QQ RX23 mn cc nL ret d Z (pc + 3) lv ((0, r) :: st) h1 (g r h1)) : XG fh QQ RX23 mn cc nL ret d Z pc lv ((0, a2) :: (0, a1) :: (0, a0) :: (2, b) :: st) h (ob h b 18 (mb (F_X20_after b a0 a1 a2 h) g)) :=
  x_callPi [(0, a0), (0, a1), (0, a2)] 3 (WF_X20_after (Z := (Z.1, Z.2.1, ((0, h), h))) (Nat.le_refl 1) b a0 a1 a2 h).1 (fun hok ho fin hf => SF_X20_after (yL Z) (Nat.le_refl 1) b a0 a1 a2 h hok ho fin hf) RX20 18 rfl (by decide) q1367 q158 q1185 qs43 (lw_meth q1186) ⟨by decide +kernel, by decide +kernel, by decide +kernel⟩ rfl (by omega) (by decide) rfl hcat hdg kk
theorem cl_X23_51 {ρ : Type} {fh : ρ → XH} {QQ : XZ ρ → State → Prop} {mn : String} {cc : ByteArray} {nL : Nat} {ret : Option FieldType} {d : Nat} {Z : XZ ρ} {pc : Nat} {lv : List (Nat × AV)} {st : List AV} {h : XH} {g : Int → XH → Option ρ} {b a0 a1 a2 : Int} (hdd : 128 ≤ d) (hcat : (st.map fun v => if v.1 = 1 then 2 else 1).sum ≤ 8) (hdg : decode cc pc = .ok (.invokevirtual 51, 3)) (kk : ∀ r h1, XG fh QQ RX23 mn cc nL ret d Z (pc + 3) lv ((0, r) :: st) h1 (g r h1)) : XG fh QQ RX23 mn cc nL ret d Z pc lv ((0, a2) :: (0, a1) :: (0, a0) :: (2, b) :: st) h (ob h b 18 (mb (F_X20_cost b a0 a1 a2 h) g)) :=
  x_callPi [(0, a0), (0, a1), (0, a2)] 3 (WF_X20_cost (Z := (Z.1, Z.2.1, ((0, h), h))) (Nat.le_refl 127) b a0 a1 a2 h).1 (fun hok ho fin hf => SF_X20_cost (yL Z) (Nat.le_refl 127) b a0 a1 a2 h hok ho fin hf) RX20 18 rfl (by decide) q1368 q158 q1180 qs42 (lw_meth q1181) ⟨by decide +kernel, by decide +kernel, by decide +kernel⟩ rfl (by omega) (by decide) rfl hcat hdg kk
theorem xg_X23_17 {ρ : Type} {fh : ρ → XH} {QQ : XZ ρ → State → Prop} {mn : String} {cc : ByteArray} {nL : Nat} {ret : Option FieldType} {d : Nat} {Z : XZ ρ} {pc : Nat} {lv : List (Nat × AV)} {st : List AV} {h : XH} {res : Option ρ} {a : Int} (hd : decode cc pc = .ok (.getfield 17, 3)) (kk : XG fh QQ RX23 mn cc nL ret d Z (pc + 3) lv ((2, xv h a 0) :: st) h res) : XG fh QQ RX23 mn cc nL ret d Z pc lv ((2, a) :: st) h (ob h a 21 res) := x_get (C := RX23) (ref := RX23) 21 0 rfl in_X23 (by decide) rfl (by decide) (Or.inl rfl) q1369 hd kk
theorem xpF_X23_17 {ρ : Type} {fh : ρ → XH} {QQ : XZ ρ → State → Prop} {cc : ByteArray} {nL : Nat} {ret : Option FieldType} {d : Nat} {Z : XZ ρ} {pc : Nat} {lv : List (Nat × AV)} {st : List AV} {h : XH} {f : XH → Option ρ} {a x : Int} (hd : decode cc pc = .ok (.putfield 17, 3)) (kk : ∀ h1, XG fh QQ RX23 "<init>" cc nL ret d Z (pc + 3) lv st h1 (f h1)) : XG fh QQ RX23 "<init>" cc nL ret d Z pc lv ((2, x) :: (2, a) :: st) h (ob h a 21 (nm (hset h a 0 x) f)) := x_putF (C := RX23) (ref := RX23) 21 0 rfl in_X23 tyX23_ok nmX23 (by decide) rfl (by decide) (Or.inl rfl) rfl rfl rfl (xfit_X23 0 (by decide)) 2 rfl q1369 hd kk
theorem xp_X23_20 {ρ : Type} {fh : ρ → XH} {QQ : XZ ρ → State → Prop} {mn : String} {cc : ByteArray} {nL : Nat} {ret : Option FieldType} {d : Nat} {Z : XZ ρ} {pc : Nat} {lv : List (Nat × AV)} {st : List AV} {h : XH} {f : XH → Option ρ} {a x : Int} (hd : decode cc pc = .ok (.putfield 20, 3)) (kk : ∀ h1, XG fh QQ RX23 mn cc nL ret d Z (pc + 3) lv st h1 (f h1)) : XG fh QQ RX23 mn cc nL ret d Z pc lv ((0, x) :: (2, a) :: st) h (ob h a 21 (nm (hset h a 2 x) f)) := x_put (C := RX23) (ref := RX23) 21 2 rfl in_X23 tyX23_ok nmX23 (by decide) rfl (by decide) (Or.inl rfl) (by decide) (xfit_X23 2 (by decide)) 0 rfl q1373 hd kk
theorem xg_X23_28 {ρ : Type} {fh : ρ → XH} {QQ : XZ ρ → State → Prop} {mn : String} {cc : ByteArray} {nL : Nat} {ret : Option FieldType} {d : Nat} {Z : XZ ρ} {pc : Nat} {lv : List (Nat × AV)} {st : List AV} {h : XH} {res : Option ρ} {a : Int} (hd : decode cc pc = .ok (.getfield 28, 3)) (kk : XG fh QQ RX23 mn cc nL ret d Z (pc + 3) lv ((2, xv h a 0) :: st) h res) : XG fh QQ RX23 mn cc nL ret d Z pc lv ((2, a) :: st) h (ob h a 1 res) := x_getN (C := RX0) (ref := RX0) 1 0 rfl in_X0 (by decide) rfl (by decide) (Or.inl rfl) q292 hd kk
theorem xpF_X23_3 {ρ : Type} {fh : ρ → XH} {QQ : XZ ρ → State → Prop} {cc : ByteArray} {nL : Nat} {ret : Option FieldType} {d : Nat} {Z : XZ ρ} {pc : Nat} {lv : List (Nat × AV)} {st : List AV} {h : XH} {f : XH → Option ρ} {a x : Int} (hd : decode cc pc = .ok (.putfield 3, 3)) (kk : ∀ h1, XG fh QQ RX23 "<init>" cc nL ret d Z (pc + 3) lv st h1 (f h1)) : XG fh QQ RX23 "<init>" cc nL ret d Z pc lv ((2, x) :: (2, a) :: st) h (ob h a 21 (nm (hset h a 3 x) f)) := x_putF (C := RX23) (ref := RX23) 21 3 rfl in_X23 tyX23_ok nmX23 (by decide) rfl (by decide) (Or.inl rfl) rfl rfl rfl (xfit_X23 3 (by decide)) 2 rfl q1375 hd kk
theorem xg_X23_32 {ρ : Type} {fh : ρ → XH} {QQ : XZ ρ → State → Prop} {mn : String} {cc : ByteArray} {nL : Nat} {ret : Option FieldType} {d : Nat} {Z : XZ ρ} {pc : Nat} {lv : List (Nat × AV)} {st : List AV} {h : XH} {res : Option ρ} {a : Int} (hd : decode cc pc = .ok (.getfield 32, 3)) (kk : XG fh QQ RX23 mn cc nL ret d Z (pc + 3) lv ((2, xv h a 3) :: st) h res) : XG fh QQ RX23 mn cc nL ret d Z pc lv ((2, a) :: st) h (ob h a 2 res) := x_getN (C := RX1) (ref := RX1) 2 3 rfl in_X1 (by decide) rfl (by decide) (Or.inl rfl) q222 hd kk
theorem xg_X23_43 {ρ : Type} {fh : ρ → XH} {QQ : XZ ρ → State → Prop} {mn : String} {cc : ByteArray} {nL : Nat} {ret : Option FieldType} {d : Nat} {Z : XZ ρ} {pc : Nat} {lv : List (Nat × AV)} {st : List AV} {h : XH} {res : Option ρ} {a : Int} (hd : decode cc pc = .ok (.getfield 43, 3)) (kk : XG fh QQ RX23 mn cc nL ret d Z (pc + 3) lv ((2, xv h a 0) :: st) h res) : XG fh QQ RX23 mn cc nL ret d Z pc lv ((2, a) :: st) h (ob h a 18 res) := x_getN (C := RX20) (ref := RX20) 18 0 rfl in_X20 (by decide) rfl (by decide) (Or.inl rfl) q1203 hd kk
theorem xg_X23_54 {ρ : Type} {fh : ρ → XH} {QQ : XZ ρ → State → Prop} {mn : String} {cc : ByteArray} {nL : Nat} {ret : Option FieldType} {d : Nat} {Z : XZ ρ} {pc : Nat} {lv : List (Nat × AV)} {st : List AV} {h : XH} {res : Option ρ} {a : Int} (hd : decode cc pc = .ok (.getfield 54, 3)) (kk : XG fh QQ RX23 mn cc nL ret d Z (pc + 3) lv ((0, xv h a 1) :: st) h res) : XG fh QQ RX23 mn cc nL ret d Z pc lv ((2, a) :: st) h (ob h a 21 res) := x_get (C := RX23) (ref := RX23) 21 1 rfl in_X23 (by decide) rfl (by decide) (Or.inl rfl) q1371 hd kk
theorem xp_X23_54 {ρ : Type} {fh : ρ → XH} {QQ : XZ ρ → State → Prop} {mn : String} {cc : ByteArray} {nL : Nat} {ret : Option FieldType} {d : Nat} {Z : XZ ρ} {pc : Nat} {lv : List (Nat × AV)} {st : List AV} {h : XH} {f : XH → Option ρ} {a x : Int} (hd : decode cc pc = .ok (.putfield 54, 3)) (kk : ∀ h1, XG fh QQ RX23 mn cc nL ret d Z (pc + 3) lv st h1 (f h1)) : XG fh QQ RX23 mn cc nL ret d Z pc lv ((0, x) :: (2, a) :: st) h (ob h a 21 (nm (hset h a 1 x) f)) := x_put (C := RX23) (ref := RX23) 21 1 rfl in_X23 tyX23_ok nmX23 (by decide) rfl (by decide) (Or.inl rfl) (by decide) (xfit_X23 1 (by decide)) 0 rfl q1371 hd kk
theorem xg_X23_57 {ρ : Type} {fh : ρ → XH} {QQ : XZ ρ → State → Prop} {mn : String} {cc : ByteArray} {nL : Nat} {ret : Option FieldType} {d : Nat} {Z : XZ ρ} {pc : Nat} {lv : List (Nat × AV)} {st : List AV} {h : XH} {res : Option ρ} {a : Int} (hd : decode cc pc = .ok (.getfield 57, 3)) (kk : XG fh QQ RX23 mn cc nL ret d Z (pc + 3) lv ((0, xv h a 0) :: st) h res) : XG fh QQ RX23 mn cc nL ret d Z pc lv ((2, a) :: st) h (ob h a 5 res) := x_getN (C := RX5) (ref := RX5) 5 0 rfl in_X5 (by decide) rfl (by decide) (Or.inl rfl) q381 hd kk
noncomputable def F_X23_init_69 (K36 : Int → Int → Int → Int → Int → XH → Option XR) (x0 : Int) (x1 : Int) (x2 : Int) (x3 : Int) (x4 : Int) (h : XH) : Option XR := nm (w32 (x4 + 1)) fun v1 => K36 x0 x1 x2 x3 v1 h
theorem WF_X23_init_69 {d : Nat} {Z : XZ XR} (hdd : 132 ≤ d) {K36 : Int → Int → Int → Int → Int → XH → Option XR} (hK36 : ∀ x0 x1 x2 x3 x4 h, XG xfh (xQ 2) RX23 "<init>" cX23_init 12 none d Z 36 [(0, (2, x0)), (1, (2, x1)), (2, (2, x2)), (3, (0, x3)), (4, (0, x4))] [] h (K36 x0 x1 x2 x3 x4 h)) : ∀ x0 x1 x2 x3 x4 h, XG xfh (xQ 2) RX23 "<init>" cX23_init 12 none d Z 69 [(0, (2, x0)), (1, (2, x1)), (2, (2, x2)), (3, (0, x3)), (4, (0, x4))] [] h (F_X23_init_69 K36 x0 x1 x2 x3 x4 h) := by
  intro x0 x1 x2 x3 x4 h
  unfold F_X23_init_69
  refine x_iinc 4 dX23_init_69 rfl (by decide) fun v1 => x_lv (lv' := [(4, (0, v1)), (0, (2, x0)), (1, (2, x1)), (2, (2, x2)), (3, (0, x3))]) rfl ?_
  refine x_goto 36 dX23_init_72 (by decide) ?_
  exact x_sub [1, 2, 3, 4, 0] rfl (hK36 x0 x1 x2 x3 v1 h)
noncomputable def F_X23_init_51 (K36 : Int → Int → Int → Int → Int → XH → Option XR) : Nat → Int → Int → Int → Int → Int → Int → Int → XH → Option XR
  | 0, _, _, _, _, _, _, _, _ => none
  | n + 1, x0, x1, x2, x3, x4, x5, x6, h => if 3 ≤ x6 then (F_X23_init_69 K36 x0 x1 x2 x3 x4 h) else (ai h x5 0 x6 <| nm (hset h x5 x6 (-1)) fun h1 => nm (w32 (x6 + 1)) fun v2 => F_X23_init_51 K36 n x0 x1 x2 x3 x4 x5 v2 h1)
theorem WF_X23_init_51 {d : Nat} {Z : XZ XR} (hdd : 132 ≤ d) {K36 : Int → Int → Int → Int → Int → XH → Option XR} (hK36 : ∀ x0 x1 x2 x3 x4 h, XG xfh (xQ 2) RX23 "<init>" cX23_init 12 none d Z 36 [(0, (2, x0)), (1, (2, x1)), (2, (2, x2)), (3, (0, x3)), (4, (0, x4))] [] h (K36 x0 x1 x2 x3 x4 h)) : ∀ n x0 x1 x2 x3 x4 x5 x6 h, XG xfh (xQ 2) RX23 "<init>" cX23_init 12 none d Z 51 [(0, (2, x0)), (1, (2, x1)), (2, (2, x2)), (3, (0, x3)), (4, (0, x4)), (5, (2, x5)), (6, (0, x6))] [] h (F_X23_init_51 K36 n x0 x1 x2 x3 x4 x5 x6 h) := by
  intro n
  induction n with
  | zero => intro x0 x1 x2 x3 x4 x5 x6 h; exact x_none
  | succ n ih =>
    intro x0 x1 x2 x3 x4 x5 x6 h
    rw [F_X23_init_51]
    refine x_iload 6 dX23_init_51 rfl ?_
    refine x_ic dX23_init_53 (by decide) (by decide) ?_
    refine x_icmp_ge 69 dX23_init_54 (by decide) (fun _ => ?_) (fun _ => ?_)
    · exact x_sub [0, 1, 2, 3, 4] rfl (WF_X23_init_69 hdd hK36 x0 x1 x2 x3 x4 h)
    · refine x_aload 5 dX23_init_57 rfl ?_
      refine x_iload 6 dX23_init_59 rfl ?_
      refine x_ic dX23_init_61 (by decide) (by decide) ?_
      refine x_iast dX23_init_62 fun h1 => ?_
      refine x_iinc 6 dX23_init_63 rfl (by decide) fun v2 => x_lv (lv' := [(6, (0, v2)), (0, (2, x0)), (1, (2, x1)), (2, (2, x2)), (3, (0, x3)), (4, (0, x4)), (5, (2, x5))]) rfl ?_
      refine x_goto 51 dX23_init_66 (by decide) ?_
      exact x_sub [1, 2, 3, 4, 5, 6, 0] rfl (ih x0 x1 x2 x3 x4 x5 v2 h1)
noncomputable def F_X23_init_328 (K183 : Int → Int → Int → Int → Int → Int → Int → Int → XH → Option XR) (K191 : Int → Int → Int → Int → Int → Int → Int → Int → Int → XH → Option XR) (K202 : Int → Int → Int → Int → Int → Int → Int → Int → Int → Int → XH → Option XR) (x0 : Int) (x1 : Int) (x2 : Int) (x3 : Int) (x4 : Int) (x6 : Int) (x7 : Int) (x8 : Int) (x9 : Int) (x10 : Int) (h : XH) : Option XR := nm (w32 (x10 + (-1))) fun v1 => K202 x0 x1 x2 x3 x4 x6 x7 x8 x9 v1 h
theorem WF_X23_init_328 {d : Nat} {Z : XZ XR} (hdd : 132 ≤ d) {K183 : Int → Int → Int → Int → Int → Int → Int → Int → XH → Option XR} (hK183 : ∀ x0 x1 x2 x3 x4 x6 x7 x8 h, XG xfh (xQ 2) RX23 "<init>" cX23_init 12 none d Z 183 [(0, (2, x0)), (1, (2, x1)), (2, (2, x2)), (3, (2, x3)), (4, (2, x4)), (6, (0, x6)), (7, (0, x7)), (8, (0, x8))] [] h (K183 x0 x1 x2 x3 x4 x6 x7 x8 h)) {K191 : Int → Int → Int → Int → Int → Int → Int → Int → Int → XH → Option XR} (hK191 : ∀ x0 x1 x2 x3 x4 x6 x7 x8 x9 h, XG xfh (xQ 2) RX23 "<init>" cX23_init 12 none d Z 191 [(0, (2, x0)), (1, (2, x1)), (2, (2, x2)), (3, (2, x3)), (4, (2, x4)), (6, (0, x6)), (7, (0, x7)), (8, (0, x8)), (9, (0, x9))] [] h (K191 x0 x1 x2 x3 x4 x6 x7 x8 x9 h)) {K202 : Int → Int → Int → Int → Int → Int → Int → Int → Int → Int → XH → Option XR} (hK202 : ∀ x0 x1 x2 x3 x4 x6 x7 x8 x9 x10 h, XG xfh (xQ 2) RX23 "<init>" cX23_init 12 none d Z 202 [(0, (2, x0)), (1, (2, x1)), (2, (2, x2)), (3, (2, x3)), (4, (2, x4)), (6, (0, x6)), (7, (0, x7)), (8, (0, x8)), (9, (0, x9)), (10, (0, x10))] [] h (K202 x0 x1 x2 x3 x4 x6 x7 x8 x9 x10 h)) : ∀ x0 x1 x2 x3 x4 x6 x7 x8 x9 x10 h, XG xfh (xQ 2) RX23 "<init>" cX23_init 12 none d Z 328 [(0, (2, x0)), (1, (2, x1)), (2, (2, x2)), (3, (2, x3)), (4, (2, x4)), (6, (0, x6)), (7, (0, x7)), (8, (0, x8)), (9, (0, x9)), (10, (0, x10))] [] h (F_X23_init_328 K183 K191 K202 x0 x1 x2 x3 x4 x6 x7 x8 x9 x10 h) := by
  intro x0 x1 x2 x3 x4 x6 x7 x8 x9 x10 h
  unfold F_X23_init_328
  refine x_iinc 9 dX23_init_328 rfl (by decide) fun v1 => x_lv (lv' := [(10, (0, v1)), (0, (2, x0)), (1, (2, x1)), (2, (2, x2)), (3, (2, x3)), (4, (2, x4)), (6, (0, x6)), (7, (0, x7)), (8, (0, x8)), (9, (0, x9))]) rfl ?_
  refine x_goto 202 dX23_init_331 (by decide) ?_
  exact x_sub [1, 2, 3, 4, 5, 6, 7, 8, 9, 0] rfl (hK202 x0 x1 x2 x3 x4 x6 x7 x8 x9 v1 h)
noncomputable def F_X23_init_277 (K183 : Int → Int → Int → Int → Int → Int → Int → Int → XH → Option XR) (K191 : Int → Int → Int → Int → Int → Int → Int → Int → Int → XH → Option XR) (K202 : Int → Int → Int → Int → Int → Int → Int → Int → Int → Int → XH → Option XR) (x0 : Int) (x1 : Int) (x2 : Int) (x3 : Int) (x4 : Int) (x6 : Int) (x7 : Int) (x8 : Int) (x9 : Int) (x10 : Int) (x11 : Int) (h : XH) : Option XR := if 0 ≤ x6 then (nm (α := Int) (w32 (x7 - x11)) fun v1 => ob h x0 21 <| ob h x2 18 <| ai h (xv h x2 0) 7 x9 <| ob h (xv h (xv h x2 0) x9) 5 <| ai h (xv h x0 0) 11 (xv h (xv h (xv h x2 0) x9) 0) <| ai h (xv h (xv h x0 0) (xv h (xv h (xv h x2 0) x9) 0)) 0 x10 <| nm (hset h (xv h (xv h x0 0) (xv h (xv h (xv h x2 0) x9) 0)) x10 x6) fun h2 => ob h2 x0 21 <| nm (hset h2 x0 2 x6) fun h3 => F_X23_init_328 K183 K191 K202 x0 x1 x2 x3 x4 x6 v1 x8 x9 x10 h3) else (ob h x0 21 <| ob h x0 21 <| nm (hset h x0 1 (w32 ((xv h x0 1) + 1))) fun h4 => F_X23_init_328 K183 K191 K202 x0 x1 x2 x3 x4 x6 x7 x8 x9 x10 h4)
theorem WF_X23_init_277 {d : Nat} {Z : XZ XR} (hdd : 132 ≤ d) {K183 : Int → Int → Int → Int → Int → Int → Int → Int → XH → Option XR} (hK183 : ∀ x0 x1 x2 x3 x4 x6 x7 x8 h, XG xfh (xQ 2) RX23 "<init>" cX23_init 12 none d Z 183 [(0, (2, x0)), (1, (2, x1)), (2, (2, x2)), (3, (2, x3)), (4, (2, x4)), (6, (0, x6)), (7, (0, x7)), (8, (0, x8))] [] h (K183 x0 x1 x2 x3 x4 x6 x7 x8 h)) {K191 : Int → Int → Int → Int → Int → Int → Int → Int → Int → XH → Option XR} (hK191 : ∀ x0 x1 x2 x3 x4 x6 x7 x8 x9 h, XG xfh (xQ 2) RX23 "<init>" cX23_init 12 none d Z 191 [(0, (2, x0)), (1, (2, x1)), (2, (2, x2)), (3, (2, x3)), (4, (2, x4)), (6, (0, x6)), (7, (0, x7)), (8, (0, x8)), (9, (0, x9))] [] h (K191 x0 x1 x2 x3 x4 x6 x7 x8 x9 h)) {K202 : Int → Int → Int → Int → Int → Int → Int → Int → Int → Int → XH → Option XR} (hK202 : ∀ x0 x1 x2 x3 x4 x6 x7 x8 x9 x10 h, XG xfh (xQ 2) RX23 "<init>" cX23_init 12 none d Z 202 [(0, (2, x0)), (1, (2, x1)), (2, (2, x2)), (3, (2, x3)), (4, (2, x4)), (6, (0, x6)), (7, (0, x7)), (8, (0, x8)), (9, (0, x9)), (10, (0, x10))] [] h (K202 x0 x1 x2 x3 x4 x6 x7 x8 x9 x10 h)) : ∀ x0 x1 x2 x3 x4 x6 x7 x8 x9 x10 x11 h, XG xfh (xQ 2) RX23 "<init>" cX23_init 12 none d Z 277 [(0, (2, x0)), (1, (2, x1)), (2, (2, x2)), (3, (2, x3)), (4, (2, x4)), (6, (0, x6)), (7, (0, x7)), (8, (0, x8)), (9, (0, x9)), (10, (0, x10)), (11, (0, x11))] [] h (F_X23_init_277 K183 K191 K202 x0 x1 x2 x3 x4 x6 x7 x8 x9 x10 x11 h) := by
  intro x0 x1 x2 x3 x4 x6 x7 x8 x9 x10 x11 h
  unfold F_X23_init_277
  refine x_iload 5 dX23_init_277 rfl ?_
  refine x_if_ge 295 dX23_init_279 (by decide) (fun _ => ?_) (fun _ => ?_)
  · refine x_iload 6 dX23_init_295 rfl ?_
    refine x_iload 10 dX23_init_297 rfl ?_
    refine x_isub dX23_init_299 ?_
    refine x_nmT fun v1 => ?_
    refine x_istore (lv' := [(7, (0, v1)), (0, (2, x0)), (1, (2, x1)), (2, (2, x2)), (3, (2, x3)), (4, (2, x4)), (6, (0, x6)), (8, (0, x8)), (9, (0, x9)), (10, (0, x10)), (11, (0, x11))]) dX23_init_300 (by decide) rfl ?_
    refine x_aload_n 1 dX23_init_302 rfl rfl ?_
    refine xg_X23_17 dX23_init_303 ?_
    refine x_aload_n 3 dX23_init_306 rfl rfl ?_
    refine xg_X23_43 dX23_init_307 ?_
    refine x_iload 8 dX23_init_310 rfl ?_
    refine x_aald 7 _ (by decide) (by decide) rfl dX23_init_312 ?_
    refine xg_X23_57 dX23_init_313 ?_
    refine x_aaldA dX23_init_316 ?_
    refine x_iload 9 dX23_init_317 rfl ?_
    refine x_iload 6 dX23_init_319 rfl ?_
    refine x_iast dX23_init_321 fun h2 => ?_
    refine x_aload_n 1 dX23_init_322 rfl rfl ?_
    refine x_iload 6 dX23_init_323 rfl ?_
    refine xp_X23_20 dX23_init_325 fun h3 => ?_
    exact x_sub [1, 2, 3, 4, 5, 6, 0, 7, 8, 9] rfl (WF_X23_init_328 hdd hK183 hK191 hK202 x0 x1 x2 x3 x4 x6 v1 x8 x9 x10 h3)
  · refine x_aload_n 0 dX23_init_282 rfl rfl ?_
    refine x_dup dX23_init_283 rfl ?_
    refine xg_X23_54 dX23_init_284 ?_
    refine x_ic dX23_init_287 (by decide) (by decide) ?_
    refine x_iadd dX23_init_288 ?_
    refine xp_X23_54 dX23_init_289 fun h4 => ?_
    refine x_goto 328 dX23_init_292 (by decide) ?_
    exact x_sub [0, 1, 2, 3, 4, 5, 6, 7, 8, 9] rfl (WF_X23_init_328 hdd hK183 hK191 hK202 x0 x1 x2 x3 x4 x6 x7 x8 x9 x10 h4)
noncomputable def F_X23_init_247 (K183 : Int → Int → Int → Int → Int → Int → Int → Int → XH → Option XR) (K191 : Int → Int → Int → Int → Int → Int → Int → Int → Int → XH → Option XR) (K202 : Int → Int → Int → Int → Int → Int → Int → Int → Int → Int → XH → Option XR) : Nat → Int → Int → Int → Int → Int → Int → Int → Int → Int → Int → Int → XH → Option XR
  | 0, _, _, _, _, _, _, _, _, _, _, _, _ => none
  | n + 1, x0, x1, x2, x3, x4, x6, x7, x8, x9, x10, x11, h => if x6 < 0 then (F_X23_init_277 K183 K191 K202 x0 x1 x2 x3 x4 x6 x7 x8 x9 x10 x11 h) else (if x11 ≤ x7 then (F_X23_init_277 K183 K191 K202 x0 x1 x2 x3 x4 x6 x7 x8 x9 x10 x11 h) else (nm (w32 (x6 + (-1))) fun v1 => ob h x1 1 <| ob h (xv h x1 0) 2 <| ai h (xv h (xv h x1 0) 3) 0 6 <| nm (α := Int) (xv h (xv h (xv h x1 0) 3) 6) fun v2 => F_X23_init_247 K183 K191 K202 n x0 x1 x2 x3 x4 v1 v2 x8 x9 x10 x11 h))
theorem WF_X23_init_247 {d : Nat} {Z : XZ XR} (hdd : 132 ≤ d) {K183 : Int → Int → Int → Int → Int → Int → Int → Int → XH → Option XR} (hK183 : ∀ x0 x1 x2 x3 x4 x6 x7 x8 h, XG xfh (xQ 2) RX23 "<init>" cX23_init 12 none d Z 183 [(0, (2, x0)), (1, (2, x1)), (2, (2, x2)), (3, (2, x3)), (4, (2, x4)), (6, (0, x6)), (7, (0, x7)), (8, (0, x8))] [] h (K183 x0 x1 x2 x3 x4 x6 x7 x8 h)) {K191 : Int → Int → Int → Int → Int → Int → Int → Int → Int → XH → Option XR} (hK191 : ∀ x0 x1 x2 x3 x4 x6 x7 x8 x9 h, XG xfh (xQ 2) RX23 "<init>" cX23_init 12 none d Z 191 [(0, (2, x0)), (1, (2, x1)), (2, (2, x2)), (3, (2, x3)), (4, (2, x4)), (6, (0, x6)), (7, (0, x7)), (8, (0, x8)), (9, (0, x9))] [] h (K191 x0 x1 x2 x3 x4 x6 x7 x8 x9 h)) {K202 : Int → Int → Int → Int → Int → Int → Int → Int → Int → Int → XH → Option XR} (hK202 : ∀ x0 x1 x2 x3 x4 x6 x7 x8 x9 x10 h, XG xfh (xQ 2) RX23 "<init>" cX23_init 12 none d Z 202 [(0, (2, x0)), (1, (2, x1)), (2, (2, x2)), (3, (2, x3)), (4, (2, x4)), (6, (0, x6)), (7, (0, x7)), (8, (0, x8)), (9, (0, x9)), (10, (0, x10))] [] h (K202 x0 x1 x2 x3 x4 x6 x7 x8 x9 x10 h)) : ∀ n x0 x1 x2 x3 x4 x6 x7 x8 x9 x10 x11 h, XG xfh (xQ 2) RX23 "<init>" cX23_init 12 none d Z 247 [(0, (2, x0)), (1, (2, x1)), (2, (2, x2)), (3, (2, x3)), (4, (2, x4)), (6, (0, x6)), (7, (0, x7)), (8, (0, x8)), (9, (0, x9)), (10, (0, x10)), (11, (0, x11))] [] h (F_X23_init_247 K183 K191 K202 n x0 x1 x2 x3 x4 x6 x7 x8 x9 x10 x11 h) := by
  intro n
  induction n with
  | zero => intro x0 x1 x2 x3 x4 x6 x7 x8 x9 x10 x11 h; exact x_none
  | succ n ih =>
    intro x0 x1 x2 x3 x4 x6 x7 x8 x9 x10 x11 h
    rw [F_X23_init_247]
    refine x_iload 5 dX23_init_247 rfl ?_
    refine x_if_lt 277 dX23_init_249 (by decide) (fun _ => ?_) (fun _ => ?_)
    · exact x_sub [0, 1, 2, 3, 4, 5, 6, 7, 8, 9, 10] rfl (WF_X23_init_277 hdd hK183 hK191 hK202 x0 x1 x2 x3 x4 x6 x7 x8 x9 x10 x11 h)
    · refine x_iload 10 dX23_init_252 rfl ?_
      refine x_iload 6 dX23_init_254 rfl ?_
      refine x_icmp_le 277 dX23_init_256 (by decide) (fun _ => ?_) (fun _ => ?_)
      · exact x_sub [0, 1, 2, 3, 4, 5, 6, 7, 8, 9, 10] rfl (WF_X23_init_277 hdd hK183 hK191 hK202 x0 x1 x2 x3 x4 x6 x7 x8 x9 x10 x11 h)
      · refine x_iinc 5 dX23_init_259 rfl (by decide) fun v1 => x_lv (lv' := [(6, (0, v1)), (0, (2, x0)), (1, (2, x1)), (2, (2, x2)), (3, (2, x3)), (4, (2, x4)), (7, (0, x7)), (8, (0, x8)), (9, (0, x9)), (10, (0, x10)), (11, (0, x11))]) rfl ?_
        refine x_aload_n 2 dX23_init_262 rfl rfl ?_
        refine xg_X23_28 dX23_init_263 ?_
        refine xg_X23_32 dX23_init_266 ?_
        refine x_bp dX23_init_269 (by decide) (by decide) ?_
        refine x_iald dX23_init_271 ?_
        refine x_nmT fun v2 => ?_
        refine x_istore (lv' := [(7, (0, v2)), (6, (0, v1)), (0, (2, x0)), (1, (2, x1)), (2, (2, x2)), (3, (2, x3)), (4, (2, x4)), (8, (0, x8)), (9, (0, x9)), (10, (0, x10)), (11, (0, x11))]) dX23_init_272 (by decide) rfl ?_
        refine x_goto 247 dX23_init_274 (by decide) ?_
        exact x_sub [2, 3, 4, 5, 6, 1, 0, 7, 8, 9, 10] rfl (ih x0 x1 x2 x3 x4 v1 v2 x8 x9 x10 x11 h)
noncomputable def F_X23_init_334 (K183 : Int → Int → Int → Int → Int → Int → Int → Int → XH → Option XR) (K191 : Int → Int → Int → Int → Int → Int → Int → Int → Int → XH → Option XR) (x0 : Int) (x1 : Int) (x2 : Int) (x3 : Int) (x4 : Int) (x6 : Int) (x7 : Int) (x8 : Int) (x9 : Int) (h : XH) : Option XR := nm (w32 (x9 + 1)) fun v1 => K191 x0 x1 x2 x3 x4 x6 x7 x8 v1 h
theorem WF_X23_init_334 {d : Nat} {Z : XZ XR} (hdd : 132 ≤ d) {K183 : Int → Int → Int → Int → Int → Int → Int → Int → XH → Option XR} (hK183 : ∀ x0 x1 x2 x3 x4 x6 x7 x8 h, XG xfh (xQ 2) RX23 "<init>" cX23_init 12 none d Z 183 [(0, (2, x0)), (1, (2, x1)), (2, (2, x2)), (3, (2, x3)), (4, (2, x4)), (6, (0, x6)), (7, (0, x7)), (8, (0, x8))] [] h (K183 x0 x1 x2 x3 x4 x6 x7 x8 h)) {K191 : Int → Int → Int → Int → Int → Int → Int → Int → Int → XH → Option XR} (hK191 : ∀ x0 x1 x2 x3 x4 x6 x7 x8 x9 h, XG xfh (xQ 2) RX23 "<init>" cX23_init 12 none d Z 191 [(0, (2, x0)), (1, (2, x1)), (2, (2, x2)), (3, (2, x3)), (4, (2, x4)), (6, (0, x6)), (7, (0, x7)), (8, (0, x8)), (9, (0, x9))] [] h (K191 x0 x1 x2 x3 x4 x6 x7 x8 x9 h)) : ∀ x0 x1 x2 x3 x4 x6 x7 x8 x9 h, XG xfh (xQ 2) RX23 "<init>" cX23_init 12 none d Z 334 [(0, (2, x0)), (1, (2, x1)), (2, (2, x2)), (3, (2, x3)), (4, (2, x4)), (6, (0, x6)), (7, (0, x7)), (8, (0, x8)), (9, (0, x9))] [] h (F_X23_init_334 K183 K191 x0 x1 x2 x3 x4 x6 x7 x8 x9 h) := by
  intro x0 x1 x2 x3 x4 x6 x7 x8 x9 h
  unfold F_X23_init_334
  refine x_iinc 8 dX23_init_334 rfl (by decide) fun v1 => x_lv (lv' := [(9, (0, v1)), (0, (2, x0)), (1, (2, x1)), (2, (2, x2)), (3, (2, x3)), (4, (2, x4)), (6, (0, x6)), (7, (0, x7)), (8, (0, x8))]) rfl ?_
  refine x_goto 191 dX23_init_337 (by decide) ?_
  exact x_sub [1, 2, 3, 4, 5, 6, 7, 8, 0] rfl (hK191 x0 x1 x2 x3 x4 x6 x7 x8 v1 h)
noncomputable def F_X23_init_202 (K183 : Int → Int → Int → Int → Int → Int → Int → Int → XH → Option XR) (K191 : Int → Int → Int → Int → Int → Int → Int → Int → Int → XH → Option XR) : Nat → Int → Int → Int → Int → Int → Int → Int → Int → Int → Int → XH → Option XR
  | 0, _, _, _, _, _, _, _, _, _, _, _ => none
  | n + 1, x0, x1, x2, x3, x4, x6, x7, x8, x9, x10, h => if x10 ≤ 0 then (F_X23_init_334 K183 K191 x0 x1 x2 x3 x4 x6 x7 x8 x9 h) else (ai h x3 0 x9 <| if xv h x3 x9 = x8 then (ai h x4 0 x9 <| ob h x2 18 <| mb (F_X20_cost x2 x9 x10 (xv h x4 x9) h) fun r1 h2 => ai h2 x4 0 x9 <| ob h2 x2 18 <| mb (F_X20_cost x2 x9 (w32 (x10 - 1)) (xv h2 x4 x9) h2) fun r3 h4 => nm (α := Int) (w32 (r1 - r3)) fun v5 => F_X23_init_247 K183 K191 (F_X23_init_202 K183 K191 n) FU x0 x1 x2 x3 x4 x6 x7 x8 x9 x10 v5 h4) else (F_X23_init_334 K183 K191 x0 x1 x2 x3 x4 x6 x7 x8 x9 h))
theorem WF_X23_init_202 {d : Nat} {Z : XZ XR} (hdd : 132 ≤ d) {K183 : Int → Int → Int → Int → Int → Int → Int → Int → XH → Option XR} (hK183 : ∀ x0 x1 x2 x3 x4 x6 x7 x8 h, XG xfh (xQ 2) RX23 "<init>" cX23_init 12 none d Z 183 [(0, (2, x0)), (1, (2, x1)), (2, (2, x2)), (3, (2, x3)), (4, (2, x4)), (6, (0, x6)), (7, (0, x7)), (8, (0, x8))] [] h (K183 x0 x1 x2 x3 x4 x6 x7 x8 h)) {K191 : Int → Int → Int → Int → Int → Int → Int → Int → Int → XH → Option XR} (hK191 : ∀ x0 x1 x2 x3 x4 x6 x7 x8 x9 h, XG xfh (xQ 2) RX23 "<init>" cX23_init 12 none d Z 191 [(0, (2, x0)), (1, (2, x1)), (2, (2, x2)), (3, (2, x3)), (4, (2, x4)), (6, (0, x6)), (7, (0, x7)), (8, (0, x8)), (9, (0, x9))] [] h (K191 x0 x1 x2 x3 x4 x6 x7 x8 x9 h)) : ∀ n x0 x1 x2 x3 x4 x6 x7 x8 x9 x10 h, XG xfh (xQ 2) RX23 "<init>" cX23_init 12 none d Z 202 [(0, (2, x0)), (1, (2, x1)), (2, (2, x2)), (3, (2, x3)), (4, (2, x4)), (6, (0, x6)), (7, (0, x7)), (8, (0, x8)), (9, (0, x9)), (10, (0, x10))] [] h (F_X23_init_202 K183 K191 n x0 x1 x2 x3 x4 x6 x7 x8 x9 x10 h) := by
  intro n
  induction n with
  | zero => intro x0 x1 x2 x3 x4 x6 x7 x8 x9 x10 h; exact x_none
  | succ n ih =>
    intro x0 x1 x2 x3 x4 x6 x7 x8 x9 x10 h
    rw [F_X23_init_202]
    refine x_iload 9 dX23_init_202 rfl ?_
    refine x_if_le 334 dX23_init_204 (by decide) (fun _ => ?_) (fun _ => ?_)
    · exact x_sub [0, 1, 2, 3, 4, 5, 6, 7, 8] rfl (WF_X23_init_334 hdd hK183 hK191 x0 x1 x2 x3 x4 x6 x7 x8 x9 h)
    · refine x_aload_n 3 dX23_init_207 rfl rfl ?_
      refine x_iload 8 dX23_init_208 rfl ?_
      refine x_iald dX23_init_210 ?_
      refine x_iload 7 dX23_init_211 rfl ?_
      refine x_icmp_ne 334 dX23_init_213 (by decide) (fun _ => ?_) (fun _ => ?_)
      · exact x_sub [0, 1, 2, 3, 4, 5, 6, 7, 8] rfl (WF_X23_init_334 hdd hK183 hK191 x0 x1 x2 x3 x4 x6 x7 x8 x9 h)
      · refine x_aload_n 2 dX23_init_216 rfl rfl ?_
        refine x_iload 8 dX23_init_217 rfl ?_
        refine x_iload 9 dX23_init_219 rfl ?_
        refine x_aload 4 dX23_init_221 rfl ?_
        refine x_iload 8 dX23_init_223 rfl ?_
        refine x_iald dX23_init_225 ?_
        refine cl_X23_51 (by omega) (Nat.le_of_ble_eq_true rfl) dX23_init_226 fun r1 h2 => ?_
        refine x_aload_n 2 dX23_init_229 rfl rfl ?_
        refine x_iload 8 dX23_init_230 rfl ?_
        refine x_iload 9 dX23_init_232 rfl ?_
        refine x_ic dX23_init_234 (by decide) (by decide) ?_
        refine x_isub dX23_init_235 ?_
        refine x_aload 4 dX23_init_236 rfl ?_
        refine x_iload 8 dX23_init_238 rfl ?_
        refine x_iald dX23_init_240 ?_
        refine cl_X23_51 (by omega) (Nat.le_of_ble_eq_true rfl) dX23_init_241 fun r3 h4 => ?_
        refine x_isub dX23_init_244 ?_
        refine x_nmT fun v5 => ?_
        refine x_istore (lv' := [(11, (0, v5)), (0, (2, x0)), (1, (2, x1)), (2, (2, x2)), (3, (2, x3)), (4, (2, x4)), (6, (0, x6)), (7, (0, x7)), (8, (0, x8)), (9, (0, x9)), (10, (0, x10))]) dX23_init_245 (by decide) rfl ?_
        exact x_sub [1, 2, 3, 4, 5, 6, 7, 8, 9, 10, 0] rfl (WF_X23_init_247 hdd hK183 hK191 ih FU x0 x1 x2 x3 x4 x6 x7 x8 x9 x10 v5 h4)
noncomputable def F_X23_init_340 (K183 : Int → Int → Int → Int → Int → Int → Int → Int → XH → Option XR) (x0 : Int) (x1 : Int) (x2 : Int) (x3 : Int) (x4 : Int) (x6 : Int) (x7 : Int) (x8 : Int) (h : XH) : Option XR := nm (w32 (x8 + (-1))) fun v1 => K183 x0 x1 x2 x3 x4 x6 x7 v1 h
theorem WF_X23_init_340 {d : Nat} {Z : XZ XR} (hdd : 132 ≤ d) {K183 : Int → Int → Int → Int → Int → Int → Int → Int → XH → Option XR} (hK183 : ∀ x0 x1 x2 x3 x4 x6 x7 x8 h, XG xfh (xQ 2) RX23 "<init>" cX23_init 12 none d Z 183 [(0, (2, x0)), (1, (2, x1)), (2, (2, x2)), (3, (2, x3)), (4, (2, x4)), (6, (0, x6)), (7, (0, x7)), (8, (0, x8))] [] h (K183 x0 x1 x2 x3 x4 x6 x7 x8 h)) : ∀ x0 x1 x2 x3 x4 x6 x7 x8 h, XG xfh (xQ 2) RX23 "<init>" cX23_init 12 none d Z 340 [(0, (2, x0)), (1, (2, x1)), (2, (2, x2)), (3, (2, x3)), (4, (2, x4)), (6, (0, x6)), (7, (0, x7)), (8, (0, x8))] [] h (F_X23_init_340 K183 x0 x1 x2 x3 x4 x6 x7 x8 h) := by
  intro x0 x1 x2 x3 x4 x6 x7 x8 h
  unfold F_X23_init_340
  refine x_iinc 7 dX23_init_340 rfl (by decide) fun v1 => x_lv (lv' := [(8, (0, v1)), (0, (2, x0)), (1, (2, x1)), (2, (2, x2)), (3, (2, x3)), (4, (2, x4)), (6, (0, x6)), (7, (0, x7))]) rfl ?_
  refine x_goto 183 dX23_init_343 (by decide) ?_
  exact x_sub [1, 2, 3, 4, 5, 6, 7, 0] rfl (hK183 x0 x1 x2 x3 x4 x6 x7 v1 h)
noncomputable def F_X23_init_191 (K183 : Int → Int → Int → Int → Int → Int → Int → Int → XH → Option XR) : Nat → Int → Int → Int → Int → Int → Int → Int → Int → Int → XH → Option XR
  | 0, _, _, _, _, _, _, _, _, _, _ => none
  | n + 1, x0, x1, x2, x3, x4, x6, x7, x8, x9, h => al h x3 0 <| if (xl h x3 : Int) ≤ x9 then (F_X23_init_340 K183 x0 x1 x2 x3 x4 x6 x7 x8 h) else (F_X23_init_202 K183 (F_X23_init_191 K183 n) FU x0 x1 x2 x3 x4 x6 x7 x8 x9 x8 h)
theorem WF_X23_init_191 {d : Nat} {Z : XZ XR} (hdd : 132 ≤ d) {K183 : Int → Int → Int → Int → Int → Int → Int → Int → XH → Option XR} (hK183 : ∀ x0 x1 x2 x3 x4 x6 x7 x8 h, XG xfh (xQ 2) RX23 "<init>" cX23_init 12 none d Z 183 [(0, (2, x0)), (1, (2, x1)), (2, (2, x2)), (3, (2, x3)), (4, (2, x4)), (6, (0, x6)), (7, (0, x7)), (8, (0, x8))] [] h (K183 x0 x1 x2 x3 x4 x6 x7 x8 h)) : ∀ n x0 x1 x2 x3 x4 x6 x7 x8 x9 h, XG xfh (xQ 2) RX23 "<init>" cX23_init 12 none d Z 191 [(0, (2, x0)), (1, (2, x1)), (2, (2, x2)), (3, (2, x3)), (4, (2, x4)), (6, (0, x6)), (7, (0, x7)), (8, (0, x8)), (9, (0, x9))] [] h (F_X23_init_191 K183 n x0 x1 x2 x3 x4 x6 x7 x8 x9 h) := by
  intro n
  induction n with
  | zero => intro x0 x1 x2 x3 x4 x6 x7 x8 x9 h; exact x_none
  | succ n ih =>
    intro x0 x1 x2 x3 x4 x6 x7 x8 x9 h
    rw [F_X23_init_191]
    refine x_iload 8 dX23_init_191 rfl ?_
    refine x_aload_n 3 dX23_init_193 rfl rfl ?_
    refine x_alen 0 (by decide) dX23_init_194 ?_
    refine x_icmp_ge 340 dX23_init_195 (by decide) (fun _ => ?_) (fun _ => ?_)
    · exact x_sub [0, 1, 2, 3, 4, 5, 6, 7] rfl (WF_X23_init_340 hdd hK183 x0 x1 x2 x3 x4 x6 x7 x8 h)
    · refine x_iload 7 dX23_init_198 rfl ?_
      refine x_istore (lv' := [(10, (0, x8)), (0, (2, x0)), (1, (2, x1)), (2, (2, x2)), (3, (2, x3)), (4, (2, x4)), (6, (0, x6)), (7, (0, x7)), (8, (0, x8)), (9, (0, x9))]) dX23_init_200 (by decide) rfl ?_
      exact x_sub [1, 2, 3, 4, 5, 6, 7, 8, 9, 0] rfl (WF_X23_init_202 hdd hK183 ih FU x0 x1 x2 x3 x4 x6 x7 x8 x9 x8 h)
noncomputable def F_X23_init_183 : Nat → Int → Int → Int → Int → Int → Int → Int → Int → XH → Option XR
  | 0, _, _, _, _, _, _, _, _, _ => none
  | n + 1, x0, x1, x2, x3, x4, x6, x7, x8, h => if x8 ≤ 0 then (some (0, h)) else (F_X23_init_191 (F_X23_init_183 n) FU x0 x1 x2 x3 x4 x6 x7 x8 0 h)
theorem WF_X23_init_183 {d : Nat} {Z : XZ XR} (hdd : 132 ≤ d) : ∀ n x0 x1 x2 x3 x4 x6 x7 x8 h, XG xfh (xQ 2) RX23 "<init>" cX23_init 12 none d Z 183 [(0, (2, x0)), (1, (2, x1)), (2, (2, x2)), (3, (2, x3)), (4, (2, x4)), (6, (0, x6)), (7, (0, x7)), (8, (0, x8))] [] h (F_X23_init_183 n x0 x1 x2 x3 x4 x6 x7 x8 h) := by
  intro n
  induction n with
  | zero => intro x0 x1 x2 x3 x4 x6 x7 x8 h; exact x_none
  | succ n ih =>
    intro x0 x1 x2 x3 x4 x6 x7 x8 h
    rw [F_X23_init_183]
    refine x_iload 7 dX23_init_183 rfl ?_
    refine x_if_le 346 dX23_init_185 (by decide) (fun _ => ?_) (fun _ => ?_)
    · exact x_vret rfl dX23_init_346
    · refine x_ic dX23_init_188 (by decide) (by decide) ?_
      refine x_istore (lv' := [(9, (0, 0)), (0, (2, x0)), (1, (2, x1)), (2, (2, x2)), (3, (2, x3)), (4, (2, x4)), (6, (0, x6)), (7, (0, x7)), (8, (0, x8))]) dX23_init_189 (by decide) rfl ?_
      exact x_sub [1, 2, 3, 4, 5, 6, 7, 8, 0] rfl (WF_X23_init_191 hdd ih FU x0 x1 x2 x3 x4 x6 x7 x8 0 h)
noncomputable def F_X23_init_155 (x0 : Int) (x1 : Int) (x2 : Int) (x3 : Int) (x4 : Int) (h : XH) : Option XR := ob h x1 1 <| ob h (xv h x1 0) 2 <| ai h (xv h (xv h x1 0) 3) 0 5 <| nm (α := Int) (w32 ((xv h (xv h (xv h x1 0) 3) 5) - 1)) fun v1 => ob h x1 1 <| ob h (xv h x1 0) 2 <| ai h (xv h (xv h x1 0) 3) 0 6 <| nm (α := Int) (xv h (xv h (xv h x1 0) 3) 6) fun v2 => F_X23_init_183 FU x0 x1 x2 x3 x4 v1 v2 2 h
theorem WF_X23_init_155 {d : Nat} {Z : XZ XR} (hdd : 132 ≤ d) : ∀ x0 x1 x2 x3 x4 h, XG xfh (xQ 2) RX23 "<init>" cX23_init 12 none d Z 155 [(0, (2, x0)), (1, (2, x1)), (2, (2, x2)), (3, (2, x3)), (4, (2, x4))] [] h (F_X23_init_155 x0 x1 x2 x3 x4 h) := by
  intro x0 x1 x2 x3 x4 h
  unfold F_X23_init_155
  refine x_aload_n 1 dX23_init_155 rfl rfl ?_
  refine xg_X23_28 dX23_init_156 ?_
  refine xg_X23_32 dX23_init_159 ?_
  refine x_ic dX23_init_162 (by decide) (by decide) ?_
  refine x_iald dX23_init_163 ?_
  refine x_ic dX23_init_164 (by decide) (by decide) ?_
  refine x_isub dX23_init_165 ?_
  refine x_nmT fun v1 => ?_
  refine x_istore (lv' := [(6, (0, v1)), (0, (2, x0)), (1, (2, x1)), (2, (2, x2)), (3, (2, x3)), (4, (2, x4))]) dX23_init_166 (by decide) rfl ?_
  refine x_aload_n 2 dX23_init_168 rfl rfl ?_
  refine xg_X23_28 dX23_init_169 ?_
  refine xg_X23_32 dX23_init_172 ?_
  refine x_bp dX23_init_175 (by decide) (by decide) ?_
  refine x_iald dX23_init_177 ?_
  refine x_nmT fun v2 => ?_
  refine x_istore (lv' := [(7, (0, v2)), (6, (0, v1)), (0, (2, x0)), (1, (2, x1)), (2, (2, x2)), (3, (2, x3)), (4, (2, x4))]) dX23_init_178 (by decide) rfl ?_
  refine x_ic dX23_init_180 (by decide) (by decide) ?_
  refine x_istore (lv' := [(8, (0, 2)), (7, (0, v2)), (6, (0, v1)), (0, (2, x0)), (1, (2, x1)), (2, (2, x2)), (3, (2, x3)), (4, (2, x4))]) dX23_init_181 (by decide) rfl ?_
  exact x_sub [3, 4, 5, 6, 7, 2, 1, 0] rfl (WF_X23_init_183 hdd FU x0 x1 x2 x3 x4 v1 v2 2 h)
noncomputable def F_X23_init_120 : Nat → Int → Int → Int → Int → Int → Int → Int → XH → Option XR
  | 0, _, _, _, _, _, _, _, _ => none
  | n + 1, x0, x1, x2, x3, x4, x5, x6, h => al h x4 0 <| if (xl h x4 : Int) ≤ x6 then (F_X23_init_155 x0 x1 x2 x3 x4 h) else (ai h x4 0 x6 <| nm (hset h x4 x6 x5) fun h1 => ai h1 x3 0 x6 <| ob h1 x2 18 <| mb (F_X20_after x2 x6 (xv h1 x3 x6) x5 h1) fun r2 h3 => nm (w32 (x6 + 1)) fun v4 => F_X23_init_120 n x0 x1 x2 x3 x4 r2 v4 h3)
theorem WF_X23_init_120 {d : Nat} {Z : XZ XR} (hdd : 132 ≤ d) : ∀ n x0 x1 x2 x3 x4 x5 x6 h, XG xfh (xQ 2) RX23 "<init>" cX23_init 12 none d Z 120 [(0, (2, x0)), (1, (2, x1)), (2, (2, x2)), (3, (2, x3)), (4, (2, x4)), (5, (0, x5)), (6, (0, x6))] [] h (F_X23_init_120 n x0 x1 x2 x3 x4 x5 x6 h) := by
  intro n
  induction n with
  | zero => intro x0 x1 x2 x3 x4 x5 x6 h; exact x_none
  | succ n ih =>
    intro x0 x1 x2 x3 x4 x5 x6 h
    rw [F_X23_init_120]
    refine x_iload 6 dX23_init_120 rfl ?_
    refine x_aload 4 dX23_init_122 rfl ?_
    refine x_alen 0 (by decide) dX23_init_124 ?_
    refine x_icmp_ge 155 dX23_init_125 (by decide) (fun _ => ?_) (fun _ => ?_)
    · exact x_sub [0, 1, 2, 3, 4] rfl (WF_X23_init_155 hdd x0 x1 x2 x3 x4 h)
    · refine x_aload 4 dX23_init_128 rfl ?_
      refine x_iload 6 dX23_init_130 rfl ?_
      refine x_iload 5 dX23_init_132 rfl ?_
      refine x_iast dX23_init_134 fun h1 => ?_
      refine x_aload_n 2 dX23_init_135 rfl rfl ?_
      refine x_iload 6 dX23_init_136 rfl ?_
      refine x_aload_n 3 dX23_init_138 rfl rfl ?_
      refine x_iload 6 dX23_init_139 rfl ?_
      refine x_iald dX23_init_141 ?_
      refine x_iload 5 dX23_init_142 rfl ?_
      refine cl_X23_47 (by omega) (Nat.le_of_ble_eq_true rfl) dX23_init_144 fun r2 h3 => ?_
      refine x_istore (lv' := [(5, (0, r2)), (0, (2, x0)), (1, (2, x1)), (2, (2, x2)), (3, (2, x3)), (4, (2, x4)), (6, (0, x6))]) dX23_init_147 (by decide) rfl ?_
      refine x_iinc 6 dX23_init_149 rfl (by decide) fun v4 => x_lv (lv' := [(6, (0, v4)), (5, (0, r2)), (0, (2, x0)), (1, (2, x1)), (2, (2, x2)), (3, (2, x3)), (4, (2, x4))]) rfl ?_
      refine x_goto 120 dX23_init_152 (by decide) ?_
      exact x_sub [2, 3, 4, 5, 6, 1, 0] rfl (ih x0 x1 x2 x3 x4 r2 v4 h3)
noncomputable def F_X23_init_75 (x0 : Int) (x1 : Int) (h : XH) : Option XR := ob h x1 1 <| mb (F_X0_schemes x1 h) fun r1 h2 => ob h2 x1 1 <| ob h2 (xv h2 x1 0) 2 <| ai h2 (xv h2 (xv h2 x1 0) 3) 0 5 <| ob h2 x1 1 <| ob h2 (xv h2 x1 0) 2 <| ai h2 (xv h2 (xv h2 x1 0) 3) 0 6 <| ob h2 r1 18 <| mb (F_X20_first r1 (w32 ((xv h2 (xv h2 (xv h2 x1 0) 3) 5) * (xv h2 (xv h2 (xv h2 x1 0) 3) 6))) h2) fun r3 h4 => ob h4 r1 18 <| al h4 (xv h4 r1 0) 7 <| na h4 0 (xl h4 (xv h4 r1 0) : Int) fun r5 h6 => F_X23_init_120 FU x0 x1 r1 r3 r5 0 0 h6
theorem WF_X23_init_75 {d : Nat} {Z : XZ XR} (hdd : 132 ≤ d) : ∀ x0 x1 h, XG xfh (xQ 2) RX23 "<init>" cX23_init 12 none d Z 75 [(0, (2, x0)), (1, (2, x1))] [] h (F_X23_init_75 x0 x1 h) := by
  intro x0 x1 h
  unfold F_X23_init_75
  refine x_aload_n 1 dX23_init_75 rfl rfl ?_
  refine cl_X23_24 (by omega) (Nat.le_of_ble_eq_true rfl) dX23_init_76 fun r1 h2 => ?_
  refine x_astore_n (lv' := [(2, (2, r1)), (0, (2, x0)), (1, (2, x1))]) dX23_init_79 rfl (by decide) rfl ?_
  refine x_aload_n 0 dX23_init_80 rfl rfl ?_
  refine x_aload_n 2 dX23_init_81 rfl rfl ?_
  refine xg_X23_28 dX23_init_82 ?_
  refine xg_X23_32 dX23_init_85 ?_
  refine x_ic dX23_init_88 (by decide) (by decide) ?_
  refine x_iald dX23_init_89 ?_
  refine x_aload_n 2 dX23_init_90 rfl rfl ?_
  refine xg_X23_28 dX23_init_91 ?_
  refine xg_X23_32 dX23_init_94 ?_
  refine x_bp dX23_init_97 (by decide) (by decide) ?_
  refine x_iald dX23_init_99 ?_
  refine x_imul dX23_init_100 ?_
  refine cl_X23_38 (by omega) (Nat.le_of_ble_eq_true rfl) dX23_init_101 fun r3 h4 => ?_
  refine x_astore_n (lv' := [(3, (2, r3)), (2, (2, r1)), (0, (2, x0)), (1, (2, x1))]) dX23_init_104 rfl (by decide) rfl ?_
  refine x_aload_n 1 dX23_init_105 rfl rfl ?_
  refine xg_X23_43 dX23_init_106 ?_
  refine x_alen 7 (by decide) dX23_init_109 ?_
  refine x_newarr (atype := .int) 0 (by decide) rfl rfl q252 dX23_init_110 fun r5 h6 => ?_
  refine x_astore (lv' := [(4, (2, r5)), (3, (2, r3)), (2, (2, r1)), (0, (2, x0)), (1, (2, x1))]) dX23_init_112 (by decide) rfl ?_
  refine x_ic dX23_init_114 (by decide) (by decide) ?_
  refine x_istore (lv' := [(5, (0, 0)), (4, (2, r5)), (3, (2, r3)), (2, (2, r1)), (0, (2, x0)), (1, (2, x1))]) dX23_init_115 (by decide) rfl ?_
  refine x_ic dX23_init_117 (by decide) (by decide) ?_
  refine x_istore (lv' := [(6, (0, 0)), (5, (0, 0)), (4, (2, r5)), (3, (2, r3)), (2, (2, r1)), (0, (2, x0)), (1, (2, x1))]) dX23_init_118 (by decide) rfl ?_
  exact x_sub [5, 6, 4, 3, 2, 1, 0] rfl (WF_X23_init_120 hdd FU x0 x1 r1 r3 r5 0 0 h6)
noncomputable def F_X23_init_36 : Nat → Int → Int → Int → Int → Int → XH → Option XR
  | 0, _, _, _, _, _, _ => none
  | n + 1, x0, x1, x2, x3, x4, h => if x3 ≤ x4 then (F_X23_init_75 x0 x1 h) else (ai h x2 11 x4 <| nm (α := Int) (xv h x2 x4) fun v1 => F_X23_init_51 (F_X23_init_36 n) FU x0 x1 x2 x3 x4 v1 0 h)
theorem WF_X23_init_36 {d : Nat} {Z : XZ XR} (hdd : 132 ≤ d) : ∀ n x0 x1 x2 x3 x4 h, XG xfh (xQ 2) RX23 "<init>" cX23_init 12 none d Z 36 [(0, (2, x0)), (1, (2, x1)), (2, (2, x2)), (3, (0, x3)), (4, (0, x4))] [] h (F_X23_init_36 n x0 x1 x2 x3 x4 h) := by
  intro n
  induction n with
  | zero => intro x0 x1 x2 x3 x4 h; exact x_none
  | succ n ih =>
    intro x0 x1 x2 x3 x4 h
    rw [F_X23_init_36]
    refine x_iload 4 dX23_init_36 rfl ?_
    refine x_iload_n 3 dX23_init_38 rfl rfl ?_
    refine x_icmp_ge 75 dX23_init_39 (by decide) (fun _ => ?_) (fun _ => ?_)
    · exact x_sub [0, 1] rfl (WF_X23_init_75 hdd x0 x1 h)
    · refine x_aload_n 2 dX23_init_42 rfl rfl ?_
      refine x_iload 4 dX23_init_43 rfl ?_
      refine x_aaldA dX23_init_45 ?_
      refine x_nmT fun v1 => ?_
      refine x_astore (lv' := [(5, (2, v1)), (0, (2, x0)), (1, (2, x1)), (2, (2, x2)), (3, (0, x3)), (4, (0, x4))]) dX23_init_46 (by decide) rfl ?_
      refine x_ic dX23_init_48 (by decide) (by decide) ?_
      refine x_istore (lv' := [(6, (0, 0)), (5, (2, v1)), (0, (2, x0)), (1, (2, x1)), (2, (2, x2)), (3, (0, x3)), (4, (0, x4))]) dX23_init_49 (by decide) rfl ?_
      exact x_sub [2, 3, 4, 5, 6, 1, 0] rfl (WF_X23_init_51 hdd ih FU x0 x1 x2 x3 x4 v1 0 h)
noncomputable def F_X23_init (x0 : Int) (x1 : Int) (h : XH) : Option XR := ob h x0 21 <| nm (hset h x0 3 x1) fun h1 => pz x0 <| mu h1 20 3 fun r2 h3 => ob h3 x0 21 <| nm (hset h3 x0 0 r2) fun h4 => ob h4 x0 21 <| nm (hset h4 x0 2 (-1)) fun h5 => ob h5 x0 21 <| nm (α := Int) (xv h5 x0 0) fun v6 => al h5 v6 11 <| nm (α := Int) ((xl h5 v6 : Int)) fun v7 => F_X23_init_36 FU x0 x1 v6 v7 0 h5
theorem WF_X23_init {d : Nat} {Z : XZ XR} (hdd : 132 ≤ d) : ∀ x0 x1 h, XG xfh (xQ 2) RX23 "<init>" cX23_init 12 none d Z 0 [(0, (2, x0)), (1, (2, x1))] [] h (F_X23_init x0 x1 h) := by
  intro x0 x1 h
  unfold F_X23_init
  refine x_aload_n 0 dX23_init_0 rfl rfl ?_
  refine x_aload_n 1 dX23_init_1 rfl rfl ?_
  refine xpF_X23_3 dX23_init_2 fun h1 => ?_
  refine x_aload_n 0 dX23_init_5 rfl rfl ?_
  refine x_objinit q1362 q176 q177 (by omega) (Nat.le_of_ble_eq_true rfl) dX23_init_6 ?_
  refine x_aload_n 0 dX23_init_9 rfl rfl ?_
  refine x_bp dX23_init_10 (by decide) (by decide) ?_
  refine x_ic dX23_init_12 (by decide) (by decide) ?_
  refine x_multi q1363 dX23_init_13 fun r2 h3 => ?_
  refine xpF_X23_17 dX23_init_17 fun h4 => ?_
  refine x_aload_n 0 dX23_init_20 rfl rfl ?_
  refine x_ic dX23_init_21 (by decide) (by decide) ?_
  refine xp_X23_20 dX23_init_22 fun h5 => ?_
  refine x_aload_n 0 dX23_init_25 rfl rfl ?_
  refine xg_X23_17 dX23_init_26 ?_
  refine x_nmT fun v6 => ?_
  refine x_astore_n (lv' := [(2, (2, v6)), (0, (2, x0)), (1, (2, x1))]) dX23_init_29 rfl (by decide) rfl ?_
  refine x_aload_n 0 dX23_init_30 rfl rfl ?_
  refine x_alen 11 (by decide) dX23_init_31 ?_
  refine x_nmT fun v7 => ?_
  refine x_istore_n (lv' := [(3, (0, v7)), (2, (2, v6)), (0, (2, x0)), (1, (2, x1))]) dX23_init_32 rfl (by decide) rfl ?_
  refine x_ic dX23_init_33 (by decide) (by decide) ?_
  refine x_istore (lv' := [(4, (0, 0)), (3, (0, v7)), (2, (2, v6)), (0, (2, x0)), (1, (2, x1))]) dX23_init_34 (by decide) rfl ?_
  exact x_sub [3, 4, 2, 1, 0] rfl (WF_X23_init_36 hdd FU x0 x1 v6 v7 0 h5)
theorem SF_X23_init (l : Launch) {d : Nat} (hdd : 132 ≤ d) (x0 : Int) (x1 : Int) (h : XH) (hok : okH h) (ho : okXs (xn h) [(2, x0), (2, x1)]) (fin : XR) (hf : F_X23_init x0 x1 h = some fin) : xSpec l yX23_init cX23_init 12 none d 2 [(2, x0), (2, x1)] h fin := x_enter (lv := [(0, (2, x0)), (1, (2, x1))]) (by decide) rfl rfl (Nat.le_of_ble_eq_true rfl) rfl (fun Z _ => WF_X23_init hdd x0 x1 h) hok ho fin hf
