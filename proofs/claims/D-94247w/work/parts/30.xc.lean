/-! printed by tools/genx.py: the system's methods as pure functions over named cells, and their walks -/
set_option maxRecDepth 100000
set_option maxHeartbeats 4000000
noncomputable def F_X20_weigh_90 (K6 : Int → Int → Int → Int → Int → Int → XH → Option XR) (x0 : Int) (x1 : Int) (x2 : Int) (x3 : Int) (x4 : Int) (x6 : Int) (h : XH) : Option XR := nm (w32 (x6 + 1)) fun v1 => K6 x0 x1 x2 x3 x4 v1 h
theorem WF_X20_weigh_90 {d : Nat} {Z : XZ XR} (hdd : 2 ≤ d) {K6 : Int → Int → Int → Int → Int → Int → XH → Option XR} (hK6 : ∀ x0 x1 x2 x3 x4 x6 h, XG xfh (xQ 1) RX20 "weigh" cX20_weigh 8 (some .long) d Z 6 [(0, (2, x0)), (1, (0, x1)), (2, (0, x2)), (3, (0, x3)), (4, (1, x4)), (6, (0, x6))] [] h (K6 x0 x1 x2 x3 x4 x6 h)) : ∀ x0 x1 x2 x3 x4 x6 h, XG xfh (xQ 1) RX20 "weigh" cX20_weigh 8 (some .long) d Z 90 [(0, (2, x0)), (1, (0, x1)), (2, (0, x2)), (3, (0, x3)), (4, (1, x4)), (6, (0, x6))] [] h (F_X20_weigh_90 K6 x0 x1 x2 x3 x4 x6 h) := by
  intro x0 x1 x2 x3 x4 x6 h
  unfold F_X20_weigh_90
  refine x_iinc 5 dX20_weigh_90 rfl (by decide) fun v1 => x_lv (lv' := [(6, (0, v1)), (0, (2, x0)), (1, (0, x1)), (2, (0, x2)), (3, (0, x3)), (4, (1, x4))]) rfl ?_
  refine x_goto 6 dX20_weigh_93 (by decide) ?_
  exact x_sub [1, 2, 3, 4, 5, 0] rfl (hK6 x0 x1 x2 x3 x4 v1 h)
noncomputable def F_X20_weigh_19 (K6 : Int → Int → Int → Int → Int → Int → XH → Option XR) : Nat → Int → Int → Int → Int → Int → Int → Int → XH → Option XR
  | 0, _, _, _, _, _, _, _, _ => none
  | n + 1, x0, x1, x2, x3, x4, x6, x7, h => nm (α := Int) (if (w32 (x3 - x6)) < x2 then (w32 (x3 - x6)) else x2) fun v1 => if v1 < x7 then (F_X20_weigh_90 K6 x0 x1 x2 x3 x4 x6 h) else (mb (F_X0_over x1 x6 h) fun r2 h3 => mb (F_X0_over x2 x7 h3) fun r4 h5 => ob h5 x0 18 <| al h5 (xv h5 x0 0) 7 <| mb (F_X0_over (w32 ((w32 ((xl h5 (xv h5 x0 0) : Int) - x1)) - x2)) (w32 ((w32 (x3 - x6)) - x7)) h5) fun r6 h7 => ob h7 x0 18 <| ai h7 (xv h7 x0 2) 1 (w32 ((w32 (x6 * 21)) + x7)) <| nm (α := Int) (w64 (x4 + (w64 ((w64 ((w64 (r2 * r4)) * r6)) * (xv h7 (xv h7 x0 2) (w32 ((w32 (x6 * 21)) + x7))))))) fun v8 => nm (w32 (x7 + 1)) fun v9 => F_X20_weigh_19 K6 n x0 x1 x2 x3 v8 x6 v9 h7)
theorem WF_X20_weigh_19 {d : Nat} {Z : XZ XR} (hdd : 2 ≤ d) {K6 : Int → Int → Int → Int → Int → Int → XH → Option XR} (hK6 : ∀ x0 x1 x2 x3 x4 x6 h, XG xfh (xQ 1) RX20 "weigh" cX20_weigh 8 (some .long) d Z 6 [(0, (2, x0)), (1, (0, x1)), (2, (0, x2)), (3, (0, x3)), (4, (1, x4)), (6, (0, x6))] [] h (K6 x0 x1 x2 x3 x4 x6 h)) : ∀ n x0 x1 x2 x3 x4 x6 x7 h, XG xfh (xQ 1) RX20 "weigh" cX20_weigh 8 (some .long) d Z 19 [(0, (2, x0)), (1, (0, x1)), (2, (0, x2)), (3, (0, x3)), (4, (1, x4)), (6, (0, x6)), (7, (0, x7))] [] h (F_X20_weigh_19 K6 n x0 x1 x2 x3 x4 x6 x7 h) := by
  intro n
  induction n with
  | zero => intro x0 x1 x2 x3 x4 x6 x7 h; exact x_none
  | succ n ih =>
    intro x0 x1 x2 x3 x4 x6 x7 h
    rw [F_X20_weigh_19]
    refine x_iload 6 dX20_weigh_19 rfl ?_
    refine x_iload_n 2 dX20_weigh_21 rfl rfl ?_
    refine x_iload_n 3 dX20_weigh_22 rfl rfl ?_
    refine x_iload 5 dX20_weigh_23 rfl ?_
    refine x_isub dX20_weigh_25 ?_
    refine x_mmin q1187 q364 q132 q365 (by omega) (Nat.le_of_ble_eq_true rfl) dX20_weigh_26 ?_
    refine x_nmT fun v1 => ?_
    refine x_icmp_gt 90 dX20_weigh_29 (by decide) (fun _ => ?_) (fun _ => ?_)
    · exact x_sub [0, 1, 2, 3, 4, 5] rfl (WF_X20_weigh_90 hdd hK6 x0 x1 x2 x3 x4 x6 h)
    · refine x_lload 4 dX20_weigh_32 rfl ?_
      refine x_iload_n 1 dX20_weigh_34 rfl rfl ?_
      refine x_iload 5 dX20_weigh_35 rfl ?_
      refine cl_X20_95 (by omega) (Nat.le_of_ble_eq_true rfl) dX20_weigh_37 fun r2 h3 => ?_
      refine x_iload_n 2 dX20_weigh_40 rfl rfl ?_
      refine x_iload 6 dX20_weigh_41 rfl ?_
      refine cl_X20_95 (by omega) (Nat.le_of_ble_eq_true rfl) dX20_weigh_43 fun r4 h5 => ?_
      refine x_lmul dX20_weigh_46 ?_
      refine x_aload_n 0 dX20_weigh_47 rfl rfl ?_
      refine xg_X20_48 dX20_weigh_48 ?_
      refine x_alen 7 (by decide) dX20_weigh_51 ?_
      refine x_iload_n 1 dX20_weigh_52 rfl rfl ?_
      refine x_isub dX20_weigh_53 ?_
      refine x_iload_n 2 dX20_weigh_54 rfl rfl ?_
      refine x_isub dX20_weigh_55 ?_
      refine x_iload_n 3 dX20_weigh_56 rfl rfl ?_
      refine x_iload 5 dX20_weigh_57 rfl ?_
      refine x_isub dX20_weigh_59 ?_
      refine x_iload 6 dX20_weigh_60 rfl ?_
      refine x_isub dX20_weigh_62 ?_
      refine cl_X20_95 (by omega) (Nat.le_of_ble_eq_true rfl) dX20_weigh_63 fun r6 h7 => ?_
      refine x_lmul dX20_weigh_66 ?_
      refine x_aload_n 0 dX20_weigh_67 rfl rfl ?_
      refine xg_X20_19 dX20_weigh_68 ?_
      refine x_iload 5 dX20_weigh_71 rfl ?_
      refine x_bp dX20_weigh_73 (by decide) (by decide) ?_
      refine x_imul dX20_weigh_75 ?_
      refine x_iload 6 dX20_weigh_76 rfl ?_
      refine x_iadd dX20_weigh_78 ?_
      refine x_lald dX20_weigh_79 ?_
      refine x_lmul dX20_weigh_80 ?_
      refine x_ladd dX20_weigh_81 ?_
      refine x_nmT fun v8 => ?_
      refine x_lstore (lv' := [(4, (1, v8)), (0, (2, x0)), (1, (0, x1)), (2, (0, x2)), (3, (0, x3)), (6, (0, x6)), (7, (0, x7))]) dX20_weigh_82 (by decide) rfl ?_
      refine x_iinc 6 dX20_weigh_84 rfl (by decide) fun v9 => x_lv (lv' := [(7, (0, v9)), (4, (1, v8)), (0, (2, x0)), (1, (0, x1)), (2, (0, x2)), (3, (0, x3)), (6, (0, x6))]) rfl ?_
      refine x_goto 19 dX20_weigh_87 (by decide) ?_
      exact x_sub [2, 3, 4, 5, 1, 6, 0] rfl (ih x0 x1 x2 x3 v8 x6 v9 h7)
noncomputable def F_X20_weigh_6 : Nat → Int → Int → Int → Int → Int → Int → XH → Option XR
  | 0, _, _, _, _, _, _, _ => none
  | n + 1, x0, x1, x2, x3, x4, x6, h => nm (α := Int) (if x3 < x1 then x3 else x1) fun v1 => if v1 < x6 then (some (x4, h)) else (F_X20_weigh_19 (F_X20_weigh_6 n) FU x0 x1 x2 x3 x4 x6 0 h)
theorem WF_X20_weigh_6 {d : Nat} {Z : XZ XR} (hdd : 2 ≤ d) : ∀ n x0 x1 x2 x3 x4 x6 h, XG xfh (xQ 1) RX20 "weigh" cX20_weigh 8 (some .long) d Z 6 [(0, (2, x0)), (1, (0, x1)), (2, (0, x2)), (3, (0, x3)), (4, (1, x4)), (6, (0, x6))] [] h (F_X20_weigh_6 n x0 x1 x2 x3 x4 x6 h) := by
  intro n
  induction n with
  | zero => intro x0 x1 x2 x3 x4 x6 h; exact x_none
  | succ n ih =>
    intro x0 x1 x2 x3 x4 x6 h
    rw [F_X20_weigh_6]
    refine x_iload 5 dX20_weigh_6 rfl ?_
    refine x_iload_n 1 dX20_weigh_8 rfl rfl ?_
    refine x_iload_n 3 dX20_weigh_9 rfl rfl ?_
    refine x_mmin q1187 q364 q132 q365 (by omega) (Nat.le_of_ble_eq_true rfl) dX20_weigh_10 ?_
    refine x_nmT fun v1 => ?_
    refine x_icmp_gt 96 dX20_weigh_13 (by decide) (fun _ => ?_) (fun _ => ?_)
    · refine x_lload 4 dX20_weigh_96 rfl ?_
      exact x_lret rfl dX20_weigh_98
    · refine x_ic dX20_weigh_16 (by decide) (by decide) ?_
      refine x_istore (lv' := [(7, (0, 0)), (0, (2, x0)), (1, (0, x1)), (2, (0, x2)), (3, (0, x3)), (4, (1, x4)), (6, (0, x6))]) dX20_weigh_17 (by decide) rfl ?_
      exact x_sub [1, 2, 3, 4, 5, 6, 0] rfl (WF_X20_weigh_19 hdd ih FU x0 x1 x2 x3 x4 x6 0 h)
noncomputable def F_X20_weigh (x0 : Int) (x1 : Int) (x2 : Int) (x3 : Int) (h : XH) : Option XR := F_X20_weigh_6 FU x0 x1 x2 x3 0 0 h
theorem WF_X20_weigh {d : Nat} {Z : XZ XR} (hdd : 2 ≤ d) : ∀ x0 x1 x2 x3 h, XG xfh (xQ 1) RX20 "weigh" cX20_weigh 8 (some .long) d Z 0 [(0, (2, x0)), (1, (0, x1)), (2, (0, x2)), (3, (0, x3))] [] h (F_X20_weigh x0 x1 x2 x3 h) := by
  intro x0 x1 x2 x3 h
  unfold F_X20_weigh
  refine x_l0 dX20_weigh_0 ?_
  refine x_lstore (lv' := [(4, (1, 0)), (0, (2, x0)), (1, (0, x1)), (2, (0, x2)), (3, (0, x3))]) dX20_weigh_1 (by decide) rfl ?_
  refine x_ic dX20_weigh_3 (by decide) (by decide) ?_
  refine x_istore (lv' := [(6, (0, 0)), (4, (1, 0)), (0, (2, x0)), (1, (0, x1)), (2, (0, x2)), (3, (0, x3))]) dX20_weigh_4 (by decide) rfl ?_
  exact x_sub [2, 3, 4, 5, 1, 0] rfl (WF_X20_weigh_6 hdd FU x0 x1 x2 x3 0 0 h)
theorem SF_X20_weigh (l : Launch) {d : Nat} (hdd : 2 ≤ d) (x0 : Int) (x1 : Int) (x2 : Int) (x3 : Int) (h : XH) (hok : okH h) (ho : okXs (xn h) [(2, x0), (0, x1), (0, x2), (0, x3)]) (fin : XR) (hf : F_X20_weigh x0 x1 x2 x3 h = some fin) : xSpec l yX20_weigh cX20_weigh 8 (some .long) d 1 [(2, x0), (0, x1), (0, x2), (0, x3)] h fin := x_enter (lv := [(0, (2, x0)), (1, (0, x1)), (2, (0, x2)), (3, (0, x3))]) (by decide) rfl rfl (Nat.le_of_ble_eq_true rfl) rfl (fun Z _ => WF_X20_weigh hdd x0 x1 x2 x3 h) hok ho fin hf
theorem cl_X20_24 {ρ : Type} {fh : ρ → XH} {QQ : XZ ρ → State → Prop} {mn : String} {cc : ByteArray} {nL : Nat} {ret : Option FieldType} {d : Nat} {Z : XZ ρ} {pc : Nat} {lv : List (Nat × AV)} {st : List AV} {h : XH} {g : Int → XH → Option ρ} {b : Int} (hdd : 3 ≤ d) (hcat : (st.map fun v => if v.1 = 1 then 2 else 1).sum ≤ 8) (hdg : decode cc pc = .ok (.invokevirtual 24, 3)) (kk : ∀ r h1, XG fh QQ RX20 mn cc nL ret d Z (pc + 3) lv ((0, r) :: st) h1 (g r h1)) : XG fh QQ RX20 mn cc nL ret d Z pc lv ((2, b) :: st) h (ob h b 1 (mb (F_X0_many b h) g)) :=
  x_callPi [] 0 (WF_X0_many (Z := (Z.1, Z.2.1, ((0, h), h))) (Nat.le_refl 2) b h).1 (fun hok ho fin hf => SF_X0_many (yL Z) (Nat.le_refl 2) b h hok ho fin hf) RX0 1 rfl (by decide) q1162 q124 q368 qs2 (lw_meth q369) ⟨by decide +kernel, by decide +kernel, by decide +kernel⟩ rfl (by omega) (by decide) rfl hcat hdg kk
theorem cl_X20_38 {ρ : Type} {fh : ρ → XH} {QQ : XZ ρ → State → Prop} {mn : String} {cc : ByteArray} {nL : Nat} {ret : Option FieldType} {d : Nat} {Z : XZ ρ} {pc : Nat} {lv : List (Nat × AV)} {st : List AV} {h : XH} {g : Int → XH → Option ρ} {b a0 : Int} (hdd : 4 ≤ d) (hcat : (st.map fun v => if v.1 = 1 then 2 else 1).sum ≤ 8) (hdg : decode cc pc = .ok (.invokevirtual 38, 3)) (kk : ∀ r h1, XG fh QQ RX20 mn cc nL ret d Z (pc + 3) lv ((2, r) :: st) h1 (g r h1)) : XG fh QQ RX20 mn cc nL ret d Z pc lv ((0, a0) :: (2, b) :: st) h (ob h b 26 (mb (F_J2_get b a0 h) g)) :=
  x_callVr [(0, a0)] 1 (WF_J2_get (Z := (Z.1, Z.2.1, ((0, h), h))) (Nat.le_refl 3) b a0 h).1 (fun hok ho fin hf => SF_J2_get (yL Z) (Nat.le_refl 3) b a0 h hok ho fin hf) RJ2 26 rfl (by decide) (lw_V q1163 q497 q498 q128 q499) ⟨rfl, by decide +kernel, by decide +kernel, by decide +kernel⟩ rfl (by omega) (by decide) rfl hcat hdg kk
theorem cl_X20_66 {ρ : Type} {fh : ρ → XH} {QQ : XZ ρ → State → Prop} {mn : String} {cc : ByteArray} {nL : Nat} {ret : Option FieldType} {d : Nat} {Z : XZ ρ} {pc : Nat} {lv : List (Nat × AV)} {st : List AV} {h : XH} {g : Int → XH → Option ρ} {b a0 a1 a2 a3 : Int} (hdd : 130 ≤ d) (hcat : (st.map fun v => if v.1 = 1 then 2 else 1).sum ≤ 8) (hdg : decode cc pc = .ok (.invokevirtual 66, 3)) (kk : ∀ r h1, XG fh QQ RX20 mn cc nL ret d Z (pc + 3) lv ((0, r) :: st) h1 (g r h1)) : XG fh QQ RX20 mn cc nL ret d Z pc lv ((0, a3) :: (0, a2) :: (0, a1) :: (0, a0) :: (2, b) :: st) h (ob h b 18 (mb (F_X20_least b a0 a1 a2 a3 h) g)) :=
  x_callVi [(0, a0), (0, a1), (0, a2), (0, a3)] 4 (WF_X20_least (Z := (Z.1, Z.2.1, ((0, h), h))) (Nat.le_refl 129) b a0 a1 a2 a3 h).1 (fun hok ho fin hf => SF_X20_least (yL Z) (Nat.le_refl 129) b a0 a1 a2 a3 h hok ho fin hf) RX20 18 rfl (by decide) (lw_V q1169 q1171 qs40 q158 q1172) ⟨rfl, by decide +kernel, by decide +kernel, by decide +kernel⟩ rfl (by omega) (by decide) rfl hcat hdg kk
theorem cl_X20_80 {ρ : Type} {fh : ρ → XH} {QQ : XZ ρ → State → Prop} {mn : String} {cc : ByteArray} {nL : Nat} {ret : Option FieldType} {d : Nat} {Z : XZ ρ} {pc : Nat} {lv : List (Nat × AV)} {st : List AV} {h : XH} {g : Int → XH → Option ρ} {b : Int} (hdd : 128 ≤ d) (hcat : (st.map fun v => if v.1 = 1 then 2 else 1).sum ≤ 8) (hdg : decode cc pc = .ok (.invokevirtual 80, 3)) (kk : ∀ r h1, XG fh QQ RX20 mn cc nL ret d Z (pc + 3) lv ((2, r) :: st) h1 (g r h1)) : XG fh QQ RX20 mn cc nL ret d Z pc lv ((2, b) :: st) h (ob h b 1 (mb (F_X0_chances b h) g)) :=
  x_callPr [] 0 (WF_X0_chances (Z := (Z.1, Z.2.1, ((0, h), h))) (Nat.le_refl 127) b h).1 (fun hok ho fin hf => SF_X0_chances (yL Z) (Nat.le_refl 127) b h hok ho fin hf) RX0 1 rfl (by decide) q1189 q124 q1007 qs32 (lw_meth q1008) ⟨by decide +kernel, by decide +kernel, by decide +kernel⟩ rfl (by omega) (by decide) rfl hcat hdg kk
theorem cl_X20_84 {ρ : Type} {fh : ρ → XH} {QQ : XZ ρ → State → Prop} {mn : String} {cc : ByteArray} {nL : Nat} {ret : Option FieldType} {d : Nat} {Z : XZ ρ} {pc : Nat} {lv : List (Nat × AV)} {st : List AV} {h : XH} {g : Int → XH → Option ρ} {b a0 a1 : Int} (hdd : 2 ≤ d) (hcat : (st.map fun v => if v.1 = 1 then 2 else 1).sum ≤ 8) (hdg : decode cc pc = .ok (.invokespecial 84, 3)) (kk : ∀ r h1, XG fh QQ RX20 mn cc nL ret d Z (pc + 3) lv st h1 (g r h1)) : XG fh QQ RX20 mn cc nL ret d Z pc lv ((0, a1) :: (2, a0) :: (2, b) :: st) h (pz b (mb (F_X18_init b a0 a1 h) g)) :=
  x_callIv [(2, a0), (0, a1)] 2 (WF_X18_init (Z := (Z.1, Z.2.1, ((0, h), h))) (Nat.le_refl 1) b a0 a1 h).1 (fun hok ho fin hf => SF_X18_init (yL Z) (Nat.le_refl 1) b a0 a1 h hok ho fin hf) (lw_meth q1012) q156 q1190 q1011 rfl ⟨by decide +kernel, by decide +kernel, by decide +kernel⟩ rfl (by omega) (by decide) rfl hcat hdg kk
theorem cl_X20_87 {ρ : Type} {fh : ρ → XH} {QQ : XZ ρ → State → Prop} {mn : String} {cc : ByteArray} {nL : Nat} {ret : Option FieldType} {d : Nat} {Z : XZ ρ} {pc : Nat} {lv : List (Nat × AV)} {st : List AV} {h : XH} {g : Int → XH → Option ρ} {b a0 a1 : Int} (hdd : 4 ≤ d) (hcat : (st.map fun v => if v.1 = 1 then 2 else 1).sum ≤ 8) (hdg : decode cc pc = .ok (.invokevirtual 87, 3)) (kk : ∀ r h1, XG fh QQ RX20 mn cc nL ret d Z (pc + 3) lv st h1 (g r h1)) : XG fh QQ RX20 mn cc nL ret d Z pc lv ((0, a1) :: (2, a0) :: (2, b) :: st) h (ob h b 18 (mb (F_X20_lie b a0 a1 h) g)) :=
  x_callVv [(2, a0), (0, a1)] 2 (WF_X20_lie (Z := (Z.1, Z.2.1, ((0, h), h))) (Nat.le_refl 3) b a0 a1 h).1 (fun hok ho fin hf => SF_X20_lie (yL Z) (Nat.le_refl 3) b a0 a1 h hok ho fin hf) RX20 18 rfl (by decide) (lw_V q1191 q1193 qs44 q158 q1194) ⟨rfl, by decide +kernel, by decide +kernel, by decide +kernel⟩ rfl (by omega) (by decide) rfl hcat hdg kk
theorem cl_X20_91 {ρ : Type} {fh : ρ → XH} {QQ : XZ ρ → State → Prop} {mn : String} {cc : ByteArray} {nL : Nat} {ret : Option FieldType} {d : Nat} {Z : XZ ρ} {pc : Nat} {lv : List (Nat × AV)} {st : List AV} {h : XH} {g : Int → XH → Option ρ} {b a0 a1 a2 : Int} (hdd : 3 ≤ d) (hcat : (st.map fun v => if v.1 = 1 then 2 else 1).sum ≤ 8) (hdg : decode cc pc = .ok (.invokevirtual 91, 3)) (kk : ∀ r h1, XG fh QQ RX20 mn cc nL ret d Z (pc + 3) lv ((1, r) :: st) h1 (g r h1)) : XG fh QQ RX20 mn cc nL ret d Z pc lv ((0, a2) :: (0, a1) :: (0, a0) :: (2, b) :: st) h (ob h b 18 (mb (F_X20_weigh b a0 a1 a2 h) g)) :=
  x_callVl [(0, a0), (0, a1), (0, a2)] 3 (WF_X20_weigh (Z := (Z.1, Z.2.1, ((0, h), h))) (Nat.le_refl 2) b a0 a1 a2 h).1 (fun hok ho fin hf => SF_X20_weigh (yL Z) (Nat.le_refl 2) b a0 a1 a2 h hok ho fin hf) RX20 18 rfl (by decide) (lw_V q1198 q1200 qs45 q158 q1201) ⟨rfl, by decide +kernel, by decide +kernel, by decide +kernel⟩ rfl (by omega) (by decide) rfl hcat hdg kk
theorem xg_X20_15 {ρ : Type} {fh : ρ → XH} {QQ : XZ ρ → State → Prop} {mn : String} {cc : ByteArray} {nL : Nat} {ret : Option FieldType} {d : Nat} {Z : XZ ρ} {pc : Nat} {lv : List (Nat × AV)} {st : List AV} {h : XH} {res : Option ρ} {a : Int} (hd : decode cc pc = .ok (.getfield 15, 3)) (kk : XG fh QQ RX20 mn cc nL ret d Z (pc + 3) lv ((2, xv h a 1) :: st) h res) : XG fh QQ RX20 mn cc nL ret d Z pc lv ((2, a) :: st) h (ob h a 18 res) := x_get (C := RX20) (ref := RX20) 18 1 rfl in_X20 (by decide) rfl (by decide) (Or.inl rfl) q1204 hd kk
theorem xpF_X20_15 {ρ : Type} {fh : ρ → XH} {QQ : XZ ρ → State → Prop} {cc : ByteArray} {nL : Nat} {ret : Option FieldType} {d : Nat} {Z : XZ ρ} {pc : Nat} {lv : List (Nat × AV)} {st : List AV} {h : XH} {f : XH → Option ρ} {a x : Int} (hd : decode cc pc = .ok (.putfield 15, 3)) (kk : ∀ h1, XG fh QQ RX20 "<init>" cc nL ret d Z (pc + 3) lv st h1 (f h1)) : XG fh QQ RX20 "<init>" cc nL ret d Z pc lv ((2, x) :: (2, a) :: st) h (ob h a 18 (nm (hset h a 1 x) f)) := x_putF (C := RX20) (ref := RX20) 18 1 rfl in_X20 tyX20_ok nmX20 (by decide) rfl (by decide) (Or.inl rfl) rfl rfl rfl (xfit_X20 1 (by decide)) 2 rfl q1204 hd kk
theorem xpF_X20_19 {ρ : Type} {fh : ρ → XH} {QQ : XZ ρ → State → Prop} {cc : ByteArray} {nL : Nat} {ret : Option FieldType} {d : Nat} {Z : XZ ρ} {pc : Nat} {lv : List (Nat × AV)} {st : List AV} {h : XH} {f : XH → Option ρ} {a x : Int} (hd : decode cc pc = .ok (.putfield 19, 3)) (kk : ∀ h1, XG fh QQ RX20 "<init>" cc nL ret d Z (pc + 3) lv st h1 (f h1)) : XG fh QQ RX20 "<init>" cc nL ret d Z pc lv ((2, x) :: (2, a) :: st) h (ob h a 18 (nm (hset h a 2 x) f)) := x_putF (C := RX20) (ref := RX20) 18 2 rfl in_X20 tyX20_ok nmX20 (by decide) rfl (by decide) (Or.inl rfl) rfl rfl rfl (xfit_X20 2 (by decide)) 2 rfl q1205 hd kk
theorem xpF_X20_3 {ρ : Type} {fh : ρ → XH} {QQ : XZ ρ → State → Prop} {cc : ByteArray} {nL : Nat} {ret : Option FieldType} {d : Nat} {Z : XZ ρ} {pc : Nat} {lv : List (Nat × AV)} {st : List AV} {h : XH} {f : XH → Option ρ} {a x : Int} (hd : decode cc pc = .ok (.putfield 3, 3)) (kk : ∀ h1, XG fh QQ RX20 "<init>" cc nL ret d Z (pc + 3) lv st h1 (f h1)) : XG fh QQ RX20 "<init>" cc nL ret d Z pc lv ((2, x) :: (2, a) :: st) h (ob h a 18 (nm (hset h a 4 x) f)) := x_putF (C := RX20) (ref := RX20) 18 4 rfl in_X20 tyX20_ok nmX20 (by decide) rfl (by decide) (Or.inl rfl) rfl rfl rfl (xfit_X20 4 (by decide)) 2 rfl q1208 hd kk
theorem xg_X20_32 {ρ : Type} {fh : ρ → XH} {QQ : XZ ρ → State → Prop} {mn : String} {cc : ByteArray} {nL : Nat} {ret : Option FieldType} {d : Nat} {Z : XZ ρ} {pc : Nat} {lv : List (Nat × AV)} {st : List AV} {h : XH} {res : Option ρ} {a : Int} (hd : decode cc pc = .ok (.getfield 32, 3)) (kk : XG fh QQ RX20 mn cc nL ret d Z (pc + 3) lv ((2, xv h a 0) :: st) h res) : XG fh QQ RX20 mn cc nL ret d Z pc lv ((2, a) :: st) h (ob h a 2 res) := x_getN (C := RX1) (ref := RX1) 2 0 rfl in_X1 (by decide) rfl (by decide) (Or.inl rfl) q211 hd kk
theorem xg_X20_44 {ρ : Type} {fh : ρ → XH} {QQ : XZ ρ → State → Prop} {mn : String} {cc : ByteArray} {nL : Nat} {ret : Option FieldType} {d : Nat} {Z : XZ ρ} {pc : Nat} {lv : List (Nat × AV)} {st : List AV} {h : XH} {res : Option ρ} {a : Int} (hd : decode cc pc = .ok (.getfield 44, 3)) (kk : XG fh QQ RX20 mn cc nL ret d Z (pc + 3) lv ((0, xv h a 5) :: st) h res) : XG fh QQ RX20 mn cc nL ret d Z pc lv ((2, a) :: st) h (ob h a 5 res) := x_getN (C := RX5) (ref := RX5) 5 5 rfl in_X5 (by decide) rfl (by decide) (Or.inl rfl) q394 hd kk
theorem xpF_X20_48 {ρ : Type} {fh : ρ → XH} {QQ : XZ ρ → State → Prop} {cc : ByteArray} {nL : Nat} {ret : Option FieldType} {d : Nat} {Z : XZ ρ} {pc : Nat} {lv : List (Nat × AV)} {st : List AV} {h : XH} {f : XH → Option ρ} {a x : Int} (hd : decode cc pc = .ok (.putfield 48, 3)) (kk : ∀ h1, XG fh QQ RX20 "<init>" cc nL ret d Z (pc + 3) lv st h1 (f h1)) : XG fh QQ RX20 "<init>" cc nL ret d Z pc lv ((2, x) :: (2, a) :: st) h (ob h a 18 (nm (hset h a 0 x) f)) := x_putF (C := RX20) (ref := RX20) 18 0 rfl in_X20 tyX20_ok nmX20 (by decide) rfl (by decide) (Or.inl rfl) rfl rfl rfl (xfit_X20 0 (by decide)) 2 rfl q1202 hd kk
theorem xn_X20_78 {ρ : Type} {fh : ρ → XH} {QQ : XZ ρ → State → Prop} {mn : String} {cc : ByteArray} {nL : Nat} {ret : Option FieldType} {d : Nat} {Z : XZ ρ} {pc : Nat} {lv : List (Nat × AV)} {st : List AV} {h : XH} {f : Int → XH → Option ρ} (hd : decode cc pc = .ok (.new 78, 3)) (kk : ∀ r h1, XG fh QQ RX20 mn cc nL ret d Z (pc + 3) lv ((2, r) :: st) h1 (f r h1)) : XG fh QQ RX20 mn cc nL ret d Z pc lv st h (nw h 16 2 f) := x_new (C := RX18) 16 rfl in_X18 tyX18_ok (by decide) rfl (by decide) xfit_X18 q1188 q1004 q156 hd kk
noncomputable def F_X20_init_92 (K38 : Int → Int → Int → Int → Int → XH → Option XR) (x0 : Int) (x1 : Int) (x2 : Int) (x3 : Int) (x4 : Int) (h : XH) : Option XR := nm (w32 (x4 + 1)) fun v1 => K38 x0 x1 x2 x3 v1 h
theorem WF_X20_init_92 {d : Nat} {Z : XZ XR} (hdd : 130 ≤ d) {K38 : Int → Int → Int → Int → Int → XH → Option XR} (hK38 : ∀ x0 x1 x2 x3 x4 h, XG xfh (xQ 2) RX20 "<init>" cX20_init 8 none d Z 38 [(0, (2, x0)), (1, (2, x1)), (2, (2, x2)), (3, (0, x3)), (4, (0, x4))] [] h (K38 x0 x1 x2 x3 x4 h)) : ∀ x0 x1 x2 x3 x4 h, XG xfh (xQ 2) RX20 "<init>" cX20_init 8 none d Z 92 [(0, (2, x0)), (1, (2, x1)), (2, (2, x2)), (3, (0, x3)), (4, (0, x4))] [] h (F_X20_init_92 K38 x0 x1 x2 x3 x4 h) := by
  intro x0 x1 x2 x3 x4 h
  unfold F_X20_init_92
  refine x_iinc 4 dX20_init_92 rfl (by decide) fun v1 => x_lv (lv' := [(4, (0, v1)), (0, (2, x0)), (1, (2, x1)), (2, (2, x2)), (3, (0, x3))]) rfl ?_
  refine x_goto 38 dX20_init_95 (by decide) ?_
  exact x_sub [1, 2, 3, 4, 0] rfl (hK38 x0 x1 x2 x3 v1 h)
noncomputable def F_X20_init_200 (K120 : Int → Int → Int → Int → XH → Option XR) (K128 : Int → Int → Int → Int → Int → XH → Option XR) (K140 : Int → Int → Int → Int → Int → Int → XH → Option XR) (K155 : Int → Int → Int → Int → Int → Int → Int → XH → Option XR) (s0 : Int) (s1 : Int) (s2 : Int) (x0 : Int) (x1 : Int) (x3 : Int) (x4 : Int) (x5 : Int) (x6 : Int) (x7 : Int) (h : XH) : Option XR := ai h s0 0 s1 <| nm (hset h s0 s1 s2) fun h1 => nm (w32 (x7 + 1)) fun v2 => K155 x0 x1 x3 x4 x5 x6 v2 h1
theorem WF_X20_init_200 {d : Nat} {Z : XZ XR} (hdd : 130 ≤ d) {K120 : Int → Int → Int → Int → XH → Option XR} (hK120 : ∀ x0 x1 x3 x4 h, XG xfh (xQ 2) RX20 "<init>" cX20_init 8 none d Z 120 [(0, (2, x0)), (1, (2, x1)), (3, (0, x3)), (4, (0, x4))] [] h (K120 x0 x1 x3 x4 h)) {K128 : Int → Int → Int → Int → Int → XH → Option XR} (hK128 : ∀ x0 x1 x3 x4 x5 h, XG xfh (xQ 2) RX20 "<init>" cX20_init 8 none d Z 128 [(0, (2, x0)), (1, (2, x1)), (3, (0, x3)), (4, (0, x4)), (5, (0, x5))] [] h (K128 x0 x1 x3 x4 x5 h)) {K140 : Int → Int → Int → Int → Int → Int → XH → Option XR} (hK140 : ∀ x0 x1 x3 x4 x5 x6 h, XG xfh (xQ 2) RX20 "<init>" cX20_init 8 none d Z 140 [(0, (2, x0)), (1, (2, x1)), (3, (0, x3)), (4, (0, x4)), (5, (0, x5)), (6, (0, x6))] [] h (K140 x0 x1 x3 x4 x5 x6 h)) {K155 : Int → Int → Int → Int → Int → Int → Int → XH → Option XR} (hK155 : ∀ x0 x1 x3 x4 x5 x6 x7 h, XG xfh (xQ 2) RX20 "<init>" cX20_init 8 none d Z 155 [(0, (2, x0)), (1, (2, x1)), (3, (0, x3)), (4, (0, x4)), (5, (0, x5)), (6, (0, x6)), (7, (0, x7))] [] h (K155 x0 x1 x3 x4 x5 x6 x7 h)) : ∀ s0 s1 s2 x0 x1 x3 x4 x5 x6 x7 h, XG xfh (xQ 2) RX20 "<init>" cX20_init 8 none d Z 200 [(0, (2, x0)), (1, (2, x1)), (3, (0, x3)), (4, (0, x4)), (5, (0, x5)), (6, (0, x6)), (7, (0, x7))] [(0, s2), (0, s1), (2, s0)] h (F_X20_init_200 K120 K128 K140 K155 s0 s1 s2 x0 x1 x3 x4 x5 x6 x7 h) := by
  intro s0 s1 s2 x0 x1 x3 x4 x5 x6 x7 h
  unfold F_X20_init_200
  refine x_iast dX20_init_200 fun h1 => ?_
  refine x_iinc 6 dX20_init_201 rfl (by decide) fun v2 => x_lv (lv' := [(7, (0, v2)), (0, (2, x0)), (1, (2, x1)), (3, (0, x3)), (4, (0, x4)), (5, (0, x5)), (6, (0, x6))]) rfl ?_
  refine x_goto 155 dX20_init_204 (by decide) ?_
  exact x_sub [1, 2, 3, 4, 5, 6, 0] rfl (hK155 x0 x1 x3 x4 x5 x6 v2 h1)
noncomputable def F_X20_init_207 (K120 : Int → Int → Int → Int → XH → Option XR) (K128 : Int → Int → Int → Int → Int → XH → Option XR) (K140 : Int → Int → Int → Int → Int → Int → XH → Option XR) (x0 : Int) (x1 : Int) (x3 : Int) (x4 : Int) (x5 : Int) (x6 : Int) (h : XH) : Option XR := nm (w32 (x6 + 1)) fun v1 => K140 x0 x1 x3 x4 x5 v1 h
theorem WF_X20_init_207 {d : Nat} {Z : XZ XR} (hdd : 130 ≤ d) {K120 : Int → Int → Int → Int → XH → Option XR} (hK120 : ∀ x0 x1 x3 x4 h, XG xfh (xQ 2) RX20 "<init>" cX20_init 8 none d Z 120 [(0, (2, x0)), (1, (2, x1)), (3, (0, x3)), (4, (0, x4))] [] h (K120 x0 x1 x3 x4 h)) {K128 : Int → Int → Int → Int → Int → XH → Option XR} (hK128 : ∀ x0 x1 x3 x4 x5 h, XG xfh (xQ 2) RX20 "<init>" cX20_init 8 none d Z 128 [(0, (2, x0)), (1, (2, x1)), (3, (0, x3)), (4, (0, x4)), (5, (0, x5))] [] h (K128 x0 x1 x3 x4 x5 h)) {K140 : Int → Int → Int → Int → Int → Int → XH → Option XR} (hK140 : ∀ x0 x1 x3 x4 x5 x6 h, XG xfh (xQ 2) RX20 "<init>" cX20_init 8 none d Z 140 [(0, (2, x0)), (1, (2, x1)), (3, (0, x3)), (4, (0, x4)), (5, (0, x5)), (6, (0, x6))] [] h (K140 x0 x1 x3 x4 x5 x6 h)) : ∀ x0 x1 x3 x4 x5 x6 h, XG xfh (xQ 2) RX20 "<init>" cX20_init 8 none d Z 207 [(0, (2, x0)), (1, (2, x1)), (3, (0, x3)), (4, (0, x4)), (5, (0, x5)), (6, (0, x6))] [] h (F_X20_init_207 K120 K128 K140 x0 x1 x3 x4 x5 x6 h) := by
  intro x0 x1 x3 x4 x5 x6 h
  unfold F_X20_init_207
  refine x_iinc 5 dX20_init_207 rfl (by decide) fun v1 => x_lv (lv' := [(6, (0, v1)), (0, (2, x0)), (1, (2, x1)), (3, (0, x3)), (4, (0, x4)), (5, (0, x5))]) rfl ?_
  refine x_goto 140 dX20_init_210 (by decide) ?_
  exact x_sub [1, 2, 3, 4, 5, 0] rfl (hK140 x0 x1 x3 x4 x5 v1 h)
noncomputable def F_X20_init_155 (K120 : Int → Int → Int → Int → XH → Option XR) (K128 : Int → Int → Int → Int → Int → XH → Option XR) (K140 : Int → Int → Int → Int → Int → Int → XH → Option XR) : Nat → Int → Int → Int → Int → Int → Int → Int → XH → Option XR
  | 0, _, _, _, _, _, _, _, _ => none
  | n + 1, x0, x1, x3, x4, x5, x6, x7, h => if 16 ≤ x7 then (F_X20_init_207 K120 K128 K140 x0 x1 x3 x4 x5 x6 h) else (ob h x1 1 <| ob h x0 18 <| mb (F_X20_at x0 x4 x5 x6 x7 h) fun r1 h2 => if x4 = x3 then (F_X20_init_200 K120 K128 K140 (F_X20_init_155 K120 K128 K140 n) (xv h x1 10) r1 0 x0 x1 x3 x4 x5 x6 x7 h2) else (ob h2 x0 18 <| mb (F_X20_least x0 x4 x5 x6 x7 h2) fun r3 h4 => F_X20_init_200 K120 K128 K140 (F_X20_init_155 K120 K128 K140 n) (xv h x1 10) r1 r3 x0 x1 x3 x4 x5 x6 x7 h4))
theorem WF_X20_init_155 {d : Nat} {Z : XZ XR} (hdd : 130 ≤ d) {K120 : Int → Int → Int → Int → XH → Option XR} (hK120 : ∀ x0 x1 x3 x4 h, XG xfh (xQ 2) RX20 "<init>" cX20_init 8 none d Z 120 [(0, (2, x0)), (1, (2, x1)), (3, (0, x3)), (4, (0, x4))] [] h (K120 x0 x1 x3 x4 h)) {K128 : Int → Int → Int → Int → Int → XH → Option XR} (hK128 : ∀ x0 x1 x3 x4 x5 h, XG xfh (xQ 2) RX20 "<init>" cX20_init 8 none d Z 128 [(0, (2, x0)), (1, (2, x1)), (3, (0, x3)), (4, (0, x4)), (5, (0, x5))] [] h (K128 x0 x1 x3 x4 x5 h)) {K140 : Int → Int → Int → Int → Int → Int → XH → Option XR} (hK140 : ∀ x0 x1 x3 x4 x5 x6 h, XG xfh (xQ 2) RX20 "<init>" cX20_init 8 none d Z 140 [(0, (2, x0)), (1, (2, x1)), (3, (0, x3)), (4, (0, x4)), (5, (0, x5)), (6, (0, x6))] [] h (K140 x0 x1 x3 x4 x5 x6 h)) : ∀ n x0 x1 x3 x4 x5 x6 x7 h, XG xfh (xQ 2) RX20 "<init>" cX20_init 8 none d Z 155 [(0, (2, x0)), (1, (2, x1)), (3, (0, x3)), (4, (0, x4)), (5, (0, x5)), (6, (0, x6)), (7, (0, x7))] [] h (F_X20_init_155 K120 K128 K140 n x0 x1 x3 x4 x5 x6 x7 h) := by
  intro n
  induction n with
  | zero => intro x0 x1 x3 x4 x5 x6 x7 h; exact x_none
  | succ n ih =>
    intro x0 x1 x3 x4 x5 x6 x7 h
    rw [F_X20_init_155]
    refine x_iload 6 dX20_init_155 rfl ?_
    refine x_bp dX20_init_157 (by decide) (by decide) ?_
    refine x_icmp_ge 207 dX20_init_159 (by decide) (fun _ => ?_) (fun _ => ?_)
    · exact x_sub [0, 1, 2, 3, 4, 5] rfl (WF_X20_init_207 hdd hK120 hK128 hK140 x0 x1 x3 x4 x5 x6 h)
    · refine x_aload_n 1 dX20_init_162 rfl rfl ?_
      refine xg_X20_58 dX20_init_163 ?_
      refine x_aload_n 0 dX20_init_166 rfl rfl ?_
      refine x_iload 3 dX20_init_167 rfl ?_
      refine x_iload 4 dX20_init_169 rfl ?_
      refine x_iload 5 dX20_init_171 rfl ?_
      refine x_iload 6 dX20_init_173 rfl ?_
      refine cl_X20_62 (by omega) (Nat.le_of_ble_eq_true rfl) dX20_init_175 fun r1 h2 => ?_
      refine x_iload 3 dX20_init_178 rfl ?_
      refine x_iload_n 2 dX20_init_180 rfl rfl ?_
      refine x_icmp_ne 188 dX20_init_181 (by decide) (fun _ => ?_) (fun _ => ?_)
      · refine x_aload_n 0 dX20_init_188 rfl rfl ?_
        refine x_iload 3 dX20_init_189 rfl ?_
        refine x_iload 4 dX20_init_191 rfl ?_
        refine x_iload 5 dX20_init_193 rfl ?_
        refine x_iload 6 dX20_init_195 rfl ?_
        refine cl_X20_66 (by omega) (Nat.le_of_ble_eq_true rfl) dX20_init_197 fun r3 h4 => ?_
        exact x_sub [0, 1, 2, 3, 4, 5, 6] rfl (WF_X20_init_200 hdd hK120 hK128 hK140 ih (xv h x1 10) r1 r3 x0 x1 x3 x4 x5 x6 x7 h4)
      · refine x_ic dX20_init_184 (by decide) (by decide) ?_
        refine x_goto 200 dX20_init_185 (by decide) ?_
        exact x_sub [0, 1, 2, 3, 4, 5, 6] rfl (WF_X20_init_200 hdd hK120 hK128 hK140 ih (xv h x1 10) r1 0 x0 x1 x3 x4 x5 x6 x7 h2)
noncomputable def F_X20_init_213 (K120 : Int → Int → Int → Int → XH → Option XR) (K128 : Int → Int → Int → Int → Int → XH → Option XR) (x0 : Int) (x1 : Int) (x3 : Int) (x4 : Int) (x5 : Int) (h : XH) : Option XR := nm (w32 (x5 + 1)) fun v1 => K128 x0 x1 x3 x4 v1 h
theorem WF_X20_init_213 {d : Nat} {Z : XZ XR} (hdd : 130 ≤ d) {K120 : Int → Int → Int → Int → XH → Option XR} (hK120 : ∀ x0 x1 x3 x4 h, XG xfh (xQ 2) RX20 "<init>" cX20_init 8 none d Z 120 [(0, (2, x0)), (1, (2, x1)), (3, (0, x3)), (4, (0, x4))] [] h (K120 x0 x1 x3 x4 h)) {K128 : Int → Int → Int → Int → Int → XH → Option XR} (hK128 : ∀ x0 x1 x3 x4 x5 h, XG xfh (xQ 2) RX20 "<init>" cX20_init 8 none d Z 128 [(0, (2, x0)), (1, (2, x1)), (3, (0, x3)), (4, (0, x4)), (5, (0, x5))] [] h (K128 x0 x1 x3 x4 x5 h)) : ∀ x0 x1 x3 x4 x5 h, XG xfh (xQ 2) RX20 "<init>" cX20_init 8 none d Z 213 [(0, (2, x0)), (1, (2, x1)), (3, (0, x3)), (4, (0, x4)), (5, (0, x5))] [] h (F_X20_init_213 K120 K128 x0 x1 x3 x4 x5 h) := by
  intro x0 x1 x3 x4 x5 h
  unfold F_X20_init_213
  refine x_iinc 4 dX20_init_213 rfl (by decide) fun v1 => x_lv (lv' := [(5, (0, v1)), (0, (2, x0)), (1, (2, x1)), (3, (0, x3)), (4, (0, x4))]) rfl ?_
  refine x_goto 128 dX20_init_216 (by decide) ?_
  exact x_sub [1, 2, 3, 4, 0] rfl (hK128 x0 x1 x3 x4 v1 h)
noncomputable def F_X20_init_140 (K120 : Int → Int → Int → Int → XH → Option XR) (K128 : Int → Int → Int → Int → Int → XH → Option XR) : Nat → Int → Int → Int → Int → Int → Int → XH → Option XR
  | 0, _, _, _, _, _, _, _ => none
  | n + 1, x0, x1, x3, x4, x5, x6, h => if w32 (x3 - x4) < w32 (x5 + x6) then (F_X20_init_213 K120 K128 x0 x1 x3 x4 x5 h) else (F_X20_init_155 K120 K128 (F_X20_init_140 K120 K128 n) FU x0 x1 x3 x4 x5 x6 0 h)
theorem WF_X20_init_140 {d : Nat} {Z : XZ XR} (hdd : 130 ≤ d) {K120 : Int → Int → Int → Int → XH → Option XR} (hK120 : ∀ x0 x1 x3 x4 h, XG xfh (xQ 2) RX20 "<init>" cX20_init 8 none d Z 120 [(0, (2, x0)), (1, (2, x1)), (3, (0, x3)), (4, (0, x4))] [] h (K120 x0 x1 x3 x4 h)) {K128 : Int → Int → Int → Int → Int → XH → Option XR} (hK128 : ∀ x0 x1 x3 x4 x5 h, XG xfh (xQ 2) RX20 "<init>" cX20_init 8 none d Z 128 [(0, (2, x0)), (1, (2, x1)), (3, (0, x3)), (4, (0, x4)), (5, (0, x5))] [] h (K128 x0 x1 x3 x4 x5 h)) : ∀ n x0 x1 x3 x4 x5 x6 h, XG xfh (xQ 2) RX20 "<init>" cX20_init 8 none d Z 140 [(0, (2, x0)), (1, (2, x1)), (3, (0, x3)), (4, (0, x4)), (5, (0, x5)), (6, (0, x6))] [] h (F_X20_init_140 K120 K128 n x0 x1 x3 x4 x5 x6 h) := by
  intro n
  induction n with
  | zero => intro x0 x1 x3 x4 x5 x6 h; exact x_none
  | succ n ih =>
    intro x0 x1 x3 x4 x5 x6 h
    rw [F_X20_init_140]
    refine x_iload 4 dX20_init_140 rfl ?_
    refine x_iload 5 dX20_init_142 rfl ?_
    refine x_iadd dX20_init_144 ?_
    refine x_iload_n 2 dX20_init_145 rfl rfl ?_
    refine x_iload 3 dX20_init_146 rfl ?_
    refine x_isub dX20_init_148 ?_
    refine x_icmp_gt 213 dX20_init_149 (by decide) (fun _ => ?_) (fun _ => ?_)
    · exact x_sub [0, 1, 2, 3, 4] rfl (WF_X20_init_213 hdd hK120 hK128 x0 x1 x3 x4 x5 h)
    · refine x_ic dX20_init_152 (by decide) (by decide) ?_
      refine x_istore (lv' := [(7, (0, 0)), (0, (2, x0)), (1, (2, x1)), (3, (0, x3)), (4, (0, x4)), (5, (0, x5)), (6, (0, x6))]) dX20_init_153 (by decide) rfl ?_
      exact x_sub [1, 2, 3, 4, 5, 6, 0] rfl (WF_X20_init_155 hdd hK120 hK128 ih FU x0 x1 x3 x4 x5 x6 0 h)
noncomputable def F_X20_init_219 (K120 : Int → Int → Int → Int → XH → Option XR) (x0 : Int) (x1 : Int) (x3 : Int) (x4 : Int) (h : XH) : Option XR := nm (w32 (x4 + (-1))) fun v1 => K120 x0 x1 x3 v1 h
theorem WF_X20_init_219 {d : Nat} {Z : XZ XR} (hdd : 130 ≤ d) {K120 : Int → Int → Int → Int → XH → Option XR} (hK120 : ∀ x0 x1 x3 x4 h, XG xfh (xQ 2) RX20 "<init>" cX20_init 8 none d Z 120 [(0, (2, x0)), (1, (2, x1)), (3, (0, x3)), (4, (0, x4))] [] h (K120 x0 x1 x3 x4 h)) : ∀ x0 x1 x3 x4 h, XG xfh (xQ 2) RX20 "<init>" cX20_init 8 none d Z 219 [(0, (2, x0)), (1, (2, x1)), (3, (0, x3)), (4, (0, x4))] [] h (F_X20_init_219 K120 x0 x1 x3 x4 h) := by
  intro x0 x1 x3 x4 h
  unfold F_X20_init_219
  refine x_iinc 3 dX20_init_219 rfl (by decide) fun v1 => x_lv (lv' := [(4, (0, v1)), (0, (2, x0)), (1, (2, x1)), (3, (0, x3))]) rfl ?_
  refine x_goto 120 dX20_init_222 (by decide) ?_
  exact x_sub [1, 2, 3, 0] rfl (hK120 x0 x1 x3 v1 h)
noncomputable def F_X20_init_128 (K120 : Int → Int → Int → Int → XH → Option XR) : Nat → Int → Int → Int → Int → Int → XH → Option XR
  | 0, _, _, _, _, _, _ => none
  | n + 1, x0, x1, x3, x4, x5, h => if w32 (x3 - x4) < x5 then (F_X20_init_219 K120 x0 x1 x3 x4 h) else (F_X20_init_140 K120 (F_X20_init_128 K120 n) FU x0 x1 x3 x4 x5 0 h)
theorem WF_X20_init_128 {d : Nat} {Z : XZ XR} (hdd : 130 ≤ d) {K120 : Int → Int → Int → Int → XH → Option XR} (hK120 : ∀ x0 x1 x3 x4 h, XG xfh (xQ 2) RX20 "<init>" cX20_init 8 none d Z 120 [(0, (2, x0)), (1, (2, x1)), (3, (0, x3)), (4, (0, x4))] [] h (K120 x0 x1 x3 x4 h)) : ∀ n x0 x1 x3 x4 x5 h, XG xfh (xQ 2) RX20 "<init>" cX20_init 8 none d Z 128 [(0, (2, x0)), (1, (2, x1)), (3, (0, x3)), (4, (0, x4)), (5, (0, x5))] [] h (F_X20_init_128 K120 n x0 x1 x3 x4 x5 h) := by
  intro n
  induction n with
  | zero => intro x0 x1 x3 x4 x5 h; exact x_none
  | succ n ih =>
    intro x0 x1 x3 x4 x5 h
    rw [F_X20_init_128]
    refine x_iload 4 dX20_init_128 rfl ?_
    refine x_iload_n 2 dX20_init_130 rfl rfl ?_
    refine x_iload 3 dX20_init_131 rfl ?_
    refine x_isub dX20_init_133 ?_
    refine x_icmp_gt 219 dX20_init_134 (by decide) (fun _ => ?_) (fun _ => ?_)
    · exact x_sub [0, 1, 2, 3] rfl (WF_X20_init_219 hdd hK120 x0 x1 x3 x4 h)
    · refine x_ic dX20_init_137 (by decide) (by decide) ?_
      refine x_istore (lv' := [(6, (0, 0)), (0, (2, x0)), (1, (2, x1)), (3, (0, x3)), (4, (0, x4)), (5, (0, x5))]) dX20_init_138 (by decide) rfl ?_
      exact x_sub [1, 2, 3, 4, 5, 0] rfl (WF_X20_init_140 hdd hK120 ih FU x0 x1 x3 x4 x5 0 h)
noncomputable def F_X20_init_316 (K269 : Int → Int → Int → Int → XH → Option XR) (x0 : Int) (x3 : Int) (x4 : Int) (x5 : Int) (h : XH) : Option XR := nm (w32 (x5 + 1)) fun v1 => K269 x0 x3 x4 v1 h
theorem WF_X20_init_316 {d : Nat} {Z : XZ XR} (hdd : 130 ≤ d) {K269 : Int → Int → Int → Int → XH → Option XR} (hK269 : ∀ x0 x3 x4 x5 h, XG xfh (xQ 2) RX20 "<init>" cX20_init 8 none d Z 269 [(0, (2, x0)), (3, (0, x3)), (4, (0, x4)), (5, (0, x5))] [] h (K269 x0 x3 x4 x5 h)) : ∀ x0 x3 x4 x5 h, XG xfh (xQ 2) RX20 "<init>" cX20_init 8 none d Z 316 [(0, (2, x0)), (3, (0, x3)), (4, (0, x4)), (5, (0, x5))] [] h (F_X20_init_316 K269 x0 x3 x4 x5 h) := by
  intro x0 x3 x4 x5 h
  unfold F_X20_init_316
  refine x_iinc 3 dX20_init_316 rfl (by decide) fun v1 => x_lv (lv' := [(5, (0, v1)), (0, (2, x0)), (3, (0, x3)), (4, (0, x4))]) rfl ?_
  refine x_goto 269 dX20_init_319 (by decide) ?_
  exact x_sub [1, 2, 3, 0] rfl (hK269 x0 x3 x4 v1 h)
noncomputable def F_X20_init_278 (K269 : Int → Int → Int → Int → XH → Option XR) : Nat → Int → Int → Int → Int → Int → XH → Option XR
  | 0, _, _, _, _, _, _ => none
  | n + 1, x0, x3, x4, x5, x6, h => if x3 < w32 (x5 + x6) then (F_X20_init_316 K269 x0 x3 x4 x5 h) else (ob h x0 18 <| ob h x0 18 <| mb (F_X20_weigh x0 x5 x6 x4 h) fun r1 h2 => ai h2 (xv h x0 1) 1 (w32 ((w32 (x5 * 21)) + x6)) <| nm (hset h2 (xv h x0 1) (w32 ((w32 (x5 * 21)) + x6)) r1) fun h3 => nm (w32 (x6 + 1)) fun v4 => F_X20_init_278 K269 n x0 x3 x4 x5 v4 h3)
theorem WF_X20_init_278 {d : Nat} {Z : XZ XR} (hdd : 130 ≤ d) {K269 : Int → Int → Int → Int → XH → Option XR} (hK269 : ∀ x0 x3 x4 x5 h, XG xfh (xQ 2) RX20 "<init>" cX20_init 8 none d Z 269 [(0, (2, x0)), (3, (0, x3)), (4, (0, x4)), (5, (0, x5))] [] h (K269 x0 x3 x4 x5 h)) : ∀ n x0 x3 x4 x5 x6 h, XG xfh (xQ 2) RX20 "<init>" cX20_init 8 none d Z 278 [(0, (2, x0)), (3, (0, x3)), (4, (0, x4)), (5, (0, x5)), (6, (0, x6))] [] h (F_X20_init_278 K269 n x0 x3 x4 x5 x6 h) := by
  intro n
  induction n with
  | zero => intro x0 x3 x4 x5 x6 h; exact x_none
  | succ n ih =>
    intro x0 x3 x4 x5 x6 h
    rw [F_X20_init_278]
    refine x_iload 3 dX20_init_278 rfl ?_
    refine x_iload 4 dX20_init_280 rfl ?_
    refine x_iadd dX20_init_282 ?_
    refine x_iload_n 1 dX20_init_283 rfl rfl ?_
    refine x_icmp_gt 316 dX20_init_284 (by decide) (fun _ => ?_) (fun _ => ?_)
    · exact x_sub [0, 1, 2, 3] rfl (WF_X20_init_316 hdd hK269 x0 x3 x4 x5 h)
    · refine x_aload_n 0 dX20_init_287 rfl rfl ?_
      refine xg_X20_15 dX20_init_288 ?_
      refine x_iload 3 dX20_init_291 rfl ?_
      refine x_bp dX20_init_293 (by decide) (by decide) ?_
      refine x_imul dX20_init_295 ?_
      refine x_iload 4 dX20_init_296 rfl ?_
      refine x_iadd dX20_init_298 ?_
      refine x_aload_n 0 dX20_init_299 rfl rfl ?_
      refine x_iload 3 dX20_init_300 rfl ?_
      refine x_iload 4 dX20_init_302 rfl ?_
      refine x_iload 2 dX20_init_304 rfl ?_
      refine cl_X20_91 (by omega) (Nat.le_of_ble_eq_true rfl) dX20_init_306 fun r1 h2 => ?_
      refine x_last dX20_init_309 fun h3 => ?_
      refine x_iinc 4 dX20_init_310 rfl (by decide) fun v4 => x_lv (lv' := [(6, (0, v4)), (0, (2, x0)), (3, (0, x3)), (4, (0, x4)), (5, (0, x5))]) rfl ?_
      refine x_goto 278 dX20_init_313 (by decide) ?_
      exact x_sub [1, 2, 3, 4, 0] rfl (ih x0 x3 x4 x5 v4 h3)
noncomputable def F_X20_init_269 : Nat → Int → Int → Int → Int → XH → Option XR
  | 0, _, _, _, _, _ => none
  | n + 1, x0, x3, x4, x5, h => if x3 < x5 then (some (0, h)) else (F_X20_init_278 (F_X20_init_269 n) FU x0 x3 x4 x5 0 h)
theorem WF_X20_init_269 {d : Nat} {Z : XZ XR} (hdd : 130 ≤ d) : ∀ n x0 x3 x4 x5 h, XG xfh (xQ 2) RX20 "<init>" cX20_init 8 none d Z 269 [(0, (2, x0)), (3, (0, x3)), (4, (0, x4)), (5, (0, x5))] [] h (F_X20_init_269 n x0 x3 x4 x5 h) := by
  intro n
  induction n with
  | zero => intro x0 x3 x4 x5 h; exact x_none
  | succ n ih =>
    intro x0 x3 x4 x5 h
    rw [F_X20_init_269]
    refine x_iload 3 dX20_init_269 rfl ?_
    refine x_iload_n 1 dX20_init_271 rfl rfl ?_
    refine x_icmp_gt 322 dX20_init_272 (by decide) (fun _ => ?_) (fun _ => ?_)
    · exact x_vret rfl dX20_init_322
    · refine x_ic dX20_init_275 (by decide) (by decide) ?_
      refine x_istore (lv' := [(6, (0, 0)), (0, (2, x0)), (3, (0, x3)), (4, (0, x4)), (5, (0, x5))]) dX20_init_276 (by decide) rfl ?_
      exact x_sub [1, 2, 3, 4, 0] rfl (WF_X20_init_278 hdd ih FU x0 x3 x4 x5 0 h)
noncomputable def F_X20_init_225 (x0 : Int) (x1 : Int) (x3 : Int) (h : XH) : Option XR := ob h x1 1 <| ob h (xv h x1 0) 2 <| ai h (xv h (xv h x1 0) 3) 0 0 <| nm (α := Int) (if (xv h (xv h (xv h x1 0) 3) 0) < x3 then (xv h (xv h (xv h x1 0) 3) 0) else x3) fun v1 => nw h 16 2 fun r2 h3 => ob h3 x1 1 <| mb (F_X0_chances x1 h3) fun r4 h5 => ob h5 x1 1 <| ob h5 (xv h5 x1 0) 2 <| ai h5 (xv h5 (xv h5 x1 0) 3) 0 1 <| pz r2 <| mb (F_X18_init r2 r4 (xv h5 (xv h5 (xv h5 x1 0) 3) 1) h5) fun r6 h7 => ob h7 x0 18 <| mb (F_X20_lie x0 r2 v1 h7) fun r8 h9 => F_X20_init_269 FU x0 x3 v1 0 h9
theorem WF_X20_init_225 {d : Nat} {Z : XZ XR} (hdd : 130 ≤ d) : ∀ x0 x1 x3 h, XG xfh (xQ 2) RX20 "<init>" cX20_init 8 none d Z 225 [(0, (2, x0)), (1, (2, x1)), (3, (0, x3))] [] h (F_X20_init_225 x0 x1 x3 h) := by
  intro x0 x1 x3 h
  unfold F_X20_init_225
  refine x_iload_n 2 dX20_init_225 rfl rfl ?_
  refine x_aload_n 1 dX20_init_226 rfl rfl ?_
  refine xg_X20_28 dX20_init_227 ?_
  refine xg_X20_69 dX20_init_230 ?_
  refine x_ic dX20_init_233 (by decide) (by decide) ?_
  refine x_iald dX20_init_234 ?_
  refine x_mmin q1187 q364 q132 q365 (by omega) (Nat.le_of_ble_eq_true rfl) dX20_init_235 ?_
  refine x_nmT fun v1 => ?_
  refine x_istore (lv' := [(4, (0, v1)), (0, (2, x0)), (1, (2, x1)), (3, (0, x3))]) dX20_init_238 (by decide) rfl ?_
  refine x_aload_n 1 dX20_init_240 rfl rfl ?_
  refine xn_X20_78 dX20_init_241 fun r2 h3 => ?_
  refine x_dup dX20_init_244 rfl ?_
  refine x_aload_n 2 dX20_init_245 rfl rfl ?_
  refine cl_X20_80 (by omega) (Nat.le_of_ble_eq_true rfl) dX20_init_246 fun r4 h5 => ?_
  refine x_aload_n 2 dX20_init_249 rfl rfl ?_
  refine xg_X20_28 dX20_init_250 ?_
  refine xg_X20_69 dX20_init_253 ?_
  refine x_ic dX20_init_256 (by decide) (by decide) ?_
  refine x_iald dX20_init_257 ?_
  refine cl_X20_84 (by omega) (Nat.le_of_ble_eq_true rfl) dX20_init_258 fun r6 h7 => ?_
  refine x_iload 0 dX20_init_261 rfl ?_
  refine cl_X20_87 (by omega) (Nat.le_of_ble_eq_true rfl) dX20_init_263 fun r8 h9 => ?_
  refine x_ic dX20_init_266 (by decide) (by decide) ?_
  refine x_istore (lv' := [(5, (0, 0)), (4, (0, v1)), (0, (2, x0)), (1, (2, x1)), (3, (0, x3))]) dX20_init_267 (by decide) rfl ?_
  exact x_sub [2, 4, 1, 0] rfl (WF_X20_init_269 hdd FU x0 x3 v1 0 h9)
noncomputable def F_X20_init_120 : Nat → Int → Int → Int → Int → XH → Option XR
  | 0, _, _, _, _, _ => none
  | n + 1, x0, x1, x3, x4, h => if x4 < 0 then (F_X20_init_225 x0 x1 x3 h) else (F_X20_init_128 (F_X20_init_120 n) FU x0 x1 x3 x4 0 h)
theorem WF_X20_init_120 {d : Nat} {Z : XZ XR} (hdd : 130 ≤ d) : ∀ n x0 x1 x3 x4 h, XG xfh (xQ 2) RX20 "<init>" cX20_init 8 none d Z 120 [(0, (2, x0)), (1, (2, x1)), (3, (0, x3)), (4, (0, x4))] [] h (F_X20_init_120 n x0 x1 x3 x4 h) := by
  intro n
  induction n with
  | zero => intro x0 x1 x3 x4 h; exact x_none
  | succ n ih =>
    intro x0 x1 x3 x4 h
    rw [F_X20_init_120]
    refine x_iload 3 dX20_init_120 rfl ?_
    refine x_if_lt 225 dX20_init_122 (by decide) (fun _ => ?_) (fun _ => ?_)
    · exact x_sub [0, 1, 2] rfl (WF_X20_init_225 hdd x0 x1 x3 h)
    · refine x_ic dX20_init_125 (by decide) (by decide) ?_
      refine x_istore (lv' := [(5, (0, 0)), (0, (2, x0)), (1, (2, x1)), (3, (0, x3)), (4, (0, x4))]) dX20_init_126 (by decide) rfl ?_
      exact x_sub [1, 2, 3, 4, 0] rfl (WF_X20_init_128 hdd ih FU x0 x1 x3 x4 0 h)
noncomputable def F_X20_init_98 (x0 : Int) (x1 : Int) (x2 : Int) (x3 : Int) (h : XH) : Option XR := na h 7 x3 fun r1 h2 => ob h2 x0 18 <| nm (hset h2 x0 0 r1) fun h3 => ob h3 x0 18 <| cpg h3 7 x2 0 (xv h3 x0 0) 0 x3 <| eg h3 "ExamSlips$Question" x2 0 x3 <| nm (hcpy h3 x2 0 (xv h3 x0 0) 0 x3) fun h4 => F_X20_init_120 FU x0 x1 x3 x3 h4
theorem WF_X20_init_98 {d : Nat} {Z : XZ XR} (hdd : 130 ≤ d) : ∀ x0 x1 x2 x3 h, XG xfh (xQ 2) RX20 "<init>" cX20_init 8 none d Z 98 [(0, (2, x0)), (1, (2, x1)), (2, (2, x2)), (3, (0, x3))] [] h (F_X20_init_98 x0 x1 x2 x3 h) := by
  intro x0 x1 x2 x3 h
  unfold F_X20_init_98
  refine x_aload_n 0 dX20_init_98 rfl rfl ?_
  refine x_iload_n 3 dX20_init_99 rfl rfl ?_
  refine x_newq 7 (by decide) (by decide) rfl q1160 q1161 dX20_init_100 fun r1 h2 => ?_
  refine xpF_X20_48 dX20_init_103 fun h3 => ?_
  refine x_aload_n 2 dX20_init_106 rfl rfl ?_
  refine x_ic dX20_init_107 (by decide) (by decide) ?_
  refine x_aload_n 0 dX20_init_108 rfl rfl ?_
  refine xg_X20_48 dX20_init_109 ?_
  refine x_ic dX20_init_112 (by decide) (by decide) ?_
  refine x_iload_n 3 dX20_init_113 rfl rfl ?_
  refine x_copyq (E := "ExamSlips$Question") 7 (by decide) (by decide) rfl q1164 q480 q479 q136 (by omega) (Nat.le_of_ble_eq_true rfl) dX20_init_114 fun h4 => ?_
  refine x_iload_n 3 dX20_init_117 rfl rfl ?_
  refine x_istore (lv' := [(4, (0, x3)), (0, (2, x0)), (1, (2, x1)), (2, (2, x2)), (3, (0, x3))]) dX20_init_118 (by decide) rfl ?_
  exact x_sub [1, 2, 4, 0] rfl (WF_X20_init_120 hdd FU x0 x1 x3 x3 h4)
noncomputable def F_X20_init_38 : Nat → Int → Int → Int → Int → Int → XH → Option XR
  | 0, _, _, _, _, _, _ => none
  | n + 1, x0, x1, x2, x3, x4, h => ob h x1 1 <| mb (F_X0_many x1 h) fun r1 h2 => if r1 ≤ x4 then (F_X20_init_98 x0 x1 x2 x3 h2) else (ob h2 x1 1 <| ob h2 (xv h2 x1 0) 2 <| ob h2 (xv h2 (xv h2 x1 0) 0) 26 <| mb (F_J2_get (xv h2 (xv h2 x1 0) 0) x4 h2) fun r3 h4 => ob h4 r3 5 <| ob h4 r3 5 <| if xv h4 r3 5 = 0 then (ob h4 x1 1 <| ob h4 (xv h4 x1 0) 2 <| ob h4 (xv h4 (xv h4 x1 0) 0) 26 <| mb (F_J2_get (xv h4 (xv h4 x1 0) 0) x4 h4) fun r5 h6 => ob h6 r5 5 <| ai h6 x2 7 x3 <| qst h6 r5 5 <| nm (hset h6 x2 x3 r5) fun h7 => nm (w32 (x3 + 1)) fun v8 => F_X20_init_92 (F_X20_init_38 n) x0 x1 x2 v8 x4 h7) else (F_X20_init_92 (F_X20_init_38 n) x0 x1 x2 x3 x4 h4))
theorem WF_X20_init_38 {d : Nat} {Z : XZ XR} (hdd : 130 ≤ d) : ∀ n x0 x1 x2 x3 x4 h, XG xfh (xQ 2) RX20 "<init>" cX20_init 8 none d Z 38 [(0, (2, x0)), (1, (2, x1)), (2, (2, x2)), (3, (0, x3)), (4, (0, x4))] [] h (F_X20_init_38 n x0 x1 x2 x3 x4 h) := by
  intro n
  induction n with
  | zero => intro x0 x1 x2 x3 x4 h; exact x_none
  | succ n ih =>
    intro x0 x1 x2 x3 x4 h
    rw [F_X20_init_38]
    refine x_iload 4 dX20_init_38 rfl ?_
    refine x_aload_n 1 dX20_init_40 rfl rfl ?_
    refine cl_X20_24 (by omega) (Nat.le_of_ble_eq_true rfl) dX20_init_41 fun r1 h2 => ?_
    refine x_icmp_ge 98 dX20_init_44 (by decide) (fun _ => ?_) (fun _ => ?_)
    · exact x_sub [0, 1, 2, 3] rfl (WF_X20_init_98 hdd x0 x1 x2 x3 h2)
    · refine x_aload_n 1 dX20_init_47 rfl rfl ?_
      refine xg_X20_28 dX20_init_48 ?_
      refine xg_X20_32 dX20_init_51 ?_
      refine x_iload 4 dX20_init_54 rfl ?_
      refine cl_X20_38 (by omega) (Nat.le_of_ble_eq_true rfl) dX20_init_56 fun r3 h4 => ?_
      refine x_cast (C := RX5) 5 rfl (by decide) q1160 dX20_init_59 ?_
      refine xg_X20_44 dX20_init_62 ?_
      refine x_if_eq 71 dX20_init_65 (by decide) (fun _ => ?_) (fun _ => ?_)
      · refine x_aload_n 2 dX20_init_71 rfl rfl ?_
        refine x_iload_n 3 dX20_init_72 rfl rfl ?_
        refine x_aload_n 1 dX20_init_73 rfl rfl ?_
        refine xg_X20_28 dX20_init_74 ?_
        refine xg_X20_32 dX20_init_77 ?_
        refine x_iload 4 dX20_init_80 rfl ?_
        refine cl_X20_38 (by omega) (Nat.le_of_ble_eq_true rfl) dX20_init_82 fun r5 h6 => ?_
        refine x_cast (C := RX5) 5 rfl (by decide) q1160 dX20_init_85 ?_
        refine x_aast 7 5 (by decide) (by decide) rfl rfl (by decide) (Or.inl rfl) dX20_init_88 fun h7 => ?_
        refine x_iinc 3 dX20_init_89 rfl (by decide) fun v8 => x_lv (lv' := [(3, (0, v8)), (0, (2, x0)), (1, (2, x1)), (2, (2, x2)), (4, (0, x4))]) rfl ?_
        exact x_sub [1, 2, 3, 0, 4] rfl (WF_X20_init_92 hdd ih x0 x1 x2 v8 x4 h7)
      · refine x_goto 92 dX20_init_68 (by decide) ?_
        exact x_sub [0, 1, 2, 3, 4] rfl (WF_X20_init_92 hdd ih x0 x1 x2 x3 x4 h4)
noncomputable def F_X20_init (x0 : Int) (x1 : Int) (h : XH) : Option XR := ob h x0 18 <| nm (hset h x0 4 x1) fun h1 => pz x0 <| na h1 1 441 fun r2 h3 => ob h3 x0 18 <| nm (hset h3 x0 1 r2) fun h4 => na h4 1 441 fun r5 h6 => ob h6 x0 18 <| nm (hset h6 x0 2 r5) fun h7 => na h7 7 20 fun r8 h9 => F_X20_init_38 FU x0 x1 r8 0 0 h9
theorem WF_X20_init {d : Nat} {Z : XZ XR} (hdd : 130 ≤ d) : ∀ x0 x1 h, XG xfh (xQ 2) RX20 "<init>" cX20_init 8 none d Z 0 [(0, (2, x0)), (1, (2, x1))] [] h (F_X20_init x0 x1 h) := by
  intro x0 x1 h
  unfold F_X20_init
  refine x_aload_n 0 dX20_init_0 rfl rfl ?_
  refine x_aload_n 1 dX20_init_1 rfl rfl ?_
  refine xpF_X20_3 dX20_init_2 fun h1 => ?_
  refine x_aload_n 0 dX20_init_5 rfl rfl ?_
  refine x_objinit q1159 q176 q177 (by omega) (Nat.le_of_ble_eq_true rfl) dX20_init_6 ?_
  refine x_aload_n 0 dX20_init_9 rfl rfl ?_
  refine x_sp dX20_init_10 (by decide) (by decide) ?_
  refine x_newarr (atype := .long) 1 (by decide) rfl rfl q275 dX20_init_13 fun r2 h3 => ?_
  refine xpF_X20_15 dX20_init_15 fun h4 => ?_
  refine x_aload_n 0 dX20_init_18 rfl rfl ?_
  refine x_sp dX20_init_19 (by decide) (by decide) ?_
  refine x_newarr (atype := .long) 1 (by decide) rfl rfl q275 dX20_init_22 fun r5 h6 => ?_
  refine xpF_X20_19 dX20_init_24 fun h7 => ?_
  refine x_bp dX20_init_27 (by decide) (by decide) ?_
  refine x_newq 7 (by decide) (by decide) rfl q1160 q1161 dX20_init_29 fun r8 h9 => ?_
  refine x_astore_n (lv' := [(2, (2, r8)), (0, (2, x0)), (1, (2, x1))]) dX20_init_32 rfl (by decide) rfl ?_
  refine x_ic dX20_init_33 (by decide) (by decide) ?_
  refine x_istore_n (lv' := [(3, (0, 0)), (2, (2, r8)), (0, (2, x0)), (1, (2, x1))]) dX20_init_34 rfl (by decide) rfl ?_
  refine x_ic dX20_init_35 (by decide) (by decide) ?_
  refine x_istore (lv' := [(4, (0, 0)), (3, (0, 0)), (2, (2, r8)), (0, (2, x0)), (1, (2, x1))]) dX20_init_36 (by decide) rfl ?_
  exact x_sub [3, 4, 2, 1, 0] rfl (WF_X20_init_38 hdd FU x0 x1 r8 0 0 h9)
theorem SF_X20_init (l : Launch) {d : Nat} (hdd : 130 ≤ d) (x0 : Int) (x1 : Int) (h : XH) (hok : okH h) (ho : okXs (xn h) [(2, x0), (2, x1)]) (fin : XR) (hf : F_X20_init x0 x1 h = some fin) : xSpec l yX20_init cX20_init 8 none d 2 [(2, x0), (2, x1)] h fin := x_enter (lv := [(0, (2, x0)), (1, (2, x1))]) (by decide) rfl rfl (Nat.le_of_ble_eq_true rfl) rfl (fun Z _ => WF_X20_init hdd x0 x1 h) hok ho fin hf
theorem cl_X0_121 {ρ : Type} {fh : ρ → XH} {QQ : XZ ρ → State → Prop} {mn : String} {cc : ByteArray} {nL : Nat} {ret : Option FieldType} {d : Nat} {Z : XZ ρ} {pc : Nat} {lv : List (Nat × AV)} {st : List AV} {h : XH} {g : Int → XH → Option ρ} {b a0 : Int} (hdd : 131 ≤ d) (hcat : (st.map fun v => if v.1 = 1 then 2 else 1).sum ≤ 8) (hdg : decode cc pc = .ok (.invokespecial 121, 3)) (kk : ∀ r h1, XG fh QQ RX0 mn cc nL ret d Z (pc + 3) lv st h1 (g r h1)) : XG fh QQ RX0 mn cc nL ret d Z pc lv ((2, a0) :: (2, b) :: st) h (pz b (mb (F_X20_init b a0 h) g)) :=
  x_callIv [(2, a0)] 1 (WF_X20_init (Z := (Z.1, Z.2.1, ((0, h), h))) (Nat.le_refl 130) b a0 h).1 (fun hok ho fin hf => SF_X20_init (yL Z) (Nat.le_refl 130) b a0 h hok ho fin hf) (lw_meth q1158) q158 q1156 q1157 rfl ⟨by decide +kernel, by decide +kernel, by decide +kernel⟩ rfl (by omega) (by decide) rfl hcat hdg kk
theorem xg_X0_102 {ρ : Type} {fh : ρ → XH} {QQ : XZ ρ → State → Prop} {mn : String} {cc : ByteArray} {nL : Nat} {ret : Option FieldType} {d : Nat} {Z : XZ ρ} {pc : Nat} {lv : List (Nat × AV)} {st : List AV} {h : XH} {res : Option ρ} {a : Int} (hd : decode cc pc = .ok (.getfield 102, 3)) (kk : XG fh QQ RX0 mn cc nL ret d Z (pc + 3) lv ((2, xv h a 9) :: st) h res) : XG fh QQ RX0 mn cc nL ret d Z pc lv ((2, a) :: st) h (ob h a 1 res) := x_get (C := RX0) (ref := RX0) 1 9 rfl in_X0 (by decide) rfl (by decide) (Or.inl rfl) q303 hd kk
theorem xn_X0_119 {ρ : Type} {fh : ρ → XH} {QQ : XZ ρ → State → Prop} {mn : String} {cc : ByteArray} {nL : Nat} {ret : Option FieldType} {d : Nat} {Z : XZ ρ} {pc : Nat} {lv : List (Nat × AV)} {st : List AV} {h : XH} {f : Int → XH → Option ρ} (hd : decode cc pc = .ok (.new 119, 3)) (kk : ∀ r h1, XG fh QQ RX0 mn cc nL ret d Z (pc + 3) lv ((2, r) :: st) h1 (f r h1)) : XG fh QQ RX0 mn cc nL ret d Z pc lv st h (nw h 18 5 f) := x_new (C := RX20) 18 rfl in_X20 tyX20_ok (by decide) rfl (by decide) xfit_X20 q1154 q1155 q158 hd kk
noncomputable def F_X0_schemes_19 (x0 : Int) (h : XH) : Option XR := ob h x0 1 <| some (xv h x0 9, h)
theorem WF_X0_schemes_19 {d : Nat} {Z : XZ XR} (hdd : 131 ≤ d) : ∀ x0 h, XG xfh (xQ 3) RX0 "schemes" cX0_schemes 1 (some (.object "ExamSlips$Schemes")) d Z 19 [(0, (2, x0))] [] h (F_X0_schemes_19 x0 h) := by
  intro x0 h
  unfold F_X0_schemes_19
  refine x_aload_n 0 dX0_schemes_19 rfl rfl ?_
  refine xg_X0_102 dX0_schemes_20 ?_
  exact x_aret rfl (Or.inl ⟨_, rfl⟩) dX0_schemes_23
noncomputable def F_X0_schemes (x0 : Int) (h : XH) : Option XR := ob h x0 1 <| if xv h x0 9 = 0 then (nw h 18 5 fun r1 h2 => pz r1 <| mb (F_X20_init r1 x0 h2) fun r3 h4 => ob h4 x0 1 <| nm (hset h4 x0 9 r1) fun h5 => F_X0_schemes_19 x0 h5) else (F_X0_schemes_19 x0 h)
theorem WF_X0_schemes {d : Nat} {Z : XZ XR} (hdd : 131 ≤ d) : ∀ x0 h, XG xfh (xQ 3) RX0 "schemes" cX0_schemes 1 (some (.object "ExamSlips$Schemes")) d Z 0 [(0, (2, x0))] [] h (F_X0_schemes x0 h) := by
  intro x0 h
  unfold F_X0_schemes
  refine x_aload_n 0 dX0_schemes_0 rfl rfl ?_
  refine xg_X0_102 dX0_schemes_1 ?_
  refine x_ifnonnull 19 dX0_schemes_4 (by decide) (fun _ => ?_) (fun _ => ?_)
  · refine x_aload_n 0 dX0_schemes_7 rfl rfl ?_
    refine xn_X0_119 dX0_schemes_8 fun r1 h2 => ?_
    refine x_dup dX0_schemes_11 rfl ?_
    refine x_aload_n 0 dX0_schemes_12 rfl rfl ?_
    refine cl_X0_121 (by omega) (Nat.le_of_ble_eq_true rfl) dX0_schemes_13 fun r3 h4 => ?_
    refine xp_X0_102 dX0_schemes_16 fun h5 => ?_
    exact x_sub [0] rfl (WF_X0_schemes_19 hdd x0 h5)
  · exact x_sub [0] rfl (WF_X0_schemes_19 hdd x0 h)
theorem SF_X0_schemes (l : Launch) {d : Nat} (hdd : 131 ≤ d) (x0 : Int) (h : XH) (hok : okH h) (ho : okXs (xn h) [(2, x0)]) (fin : XR) (hf : F_X0_schemes x0 h = some fin) : xSpec l yX0_schemes cX0_schemes 1 (some (.object "ExamSlips$Schemes")) d 3 [(2, x0)] h fin := x_enter (lv := [(0, (2, x0))]) (by decide) rfl rfl (Nat.le_of_ble_eq_true rfl) rfl (fun Z _ => WF_X0_schemes hdd x0 h) hok ho fin hf
theorem xg_X0_122 {ρ : Type} {fh : ρ → XH} {QQ : XZ ρ → State → Prop} {mn : String} {cc : ByteArray} {nL : Nat} {ret : Option FieldType} {d : Nat} {Z : XZ ρ} {pc : Nat} {lv : List (Nat × AV)} {st : List AV} {h : XH} {res : Option ρ} {a : Int} (hd : decode cc pc = .ok (.getfield 122, 3)) (kk : XG fh QQ RX0 mn cc nL ret d Z (pc + 3) lv ((0, xv h a 12) :: st) h res) : XG fh QQ RX0 mn cc nL ret d Z pc lv ((2, a) :: st) h (ob h a 1 res) := x_get (C := RX0) (ref := RX0) 1 12 rfl in_X0 (by decide) rfl (by decide) (Or.inl rfl) q309 hd kk
theorem xp_X0_122 {ρ : Type} {fh : ρ → XH} {QQ : XZ ρ → State → Prop} {mn : String} {cc : ByteArray} {nL : Nat} {ret : Option FieldType} {d : Nat} {Z : XZ ρ} {pc : Nat} {lv : List (Nat × AV)} {st : List AV} {h : XH} {f : XH → Option ρ} {a x : Int} (hd : decode cc pc = .ok (.putfield 122, 3)) (kk : ∀ h1, XG fh QQ RX0 mn cc nL ret d Z (pc + 3) lv st h1 (f h1)) : XG fh QQ RX0 mn cc nL ret d Z pc lv ((0, x) :: (2, a) :: st) h (ob h a 1 (nm (hset h a 12 x) f)) := x_put (C := RX0) (ref := RX0) 1 12 rfl in_X0 tyX0_ok nmX0 (by decide) rfl (by decide) (Or.inl rfl) (by decide) (xfit_X0 12 (by decide)) 0 rfl q309 hd kk
theorem xg_X0_89 {ρ : Type} {fh : ρ → XH} {QQ : XZ ρ → State → Prop} {mn : String} {cc : ByteArray} {nL : Nat} {ret : Option FieldType} {d : Nat} {Z : XZ ρ} {pc : Nat} {lv : List (Nat × AV)} {st : List AV} {h : XH} {res : Option ρ} {a : Int} (hd : decode cc pc = .ok (.getfield 89, 3)) (kk : XG fh QQ RX0 mn cc nL ret d Z (pc + 3) lv ((2, xv h a 11) :: st) h res) : XG fh QQ RX0 mn cc nL ret d Z pc lv ((2, a) :: st) h (ob h a 1 res) := x_get (C := RX0) (ref := RX0) 1 11 rfl in_X0 (by decide) rfl (by decide) (Or.inl rfl) q307 hd kk
noncomputable def F_X0_four_3 : Nat → Int → Int → Int → XH → Option XR
  | 0, _, _, _, _ => none
  | n + 1, x0, x1, x2, h => if x2 < 0 then (some (0, h)) else (ob h x0 1 <| ob h x0 1 <| ai h (xv h x0 11) 2 (xv h x0 12) <| nm (hset h (xv h x0 11) (xv h x0 12) (w8 (w8 (ishr x1 x2)))) fun h1 => ob h1 x0 1 <| ob h1 x0 1 <| nm (hset h1 x0 12 (w32 ((xv h1 x0 12) + 1))) fun h2 => nm (w32 (x2 + (-8))) fun v3 => F_X0_four_3 n x0 x1 v3 h2)
theorem WF_X0_four_3 {d : Nat} {Z : XZ XR} (hdd : 1 ≤ d) : ∀ n x0 x1 x2 h, XG xfh (xQ 2) RX0 "four" cX0_four 3 none d Z 3 [(0, (2, x0)), (1, (0, x1)), (2, (0, x2))] [] h (F_X0_four_3 n x0 x1 x2 h) := by
  intro n
  induction n with
  | zero => intro x0 x1 x2 h; exact x_none
  | succ n ih =>
    intro x0 x1 x2 h
    rw [F_X0_four_3]
    refine x_iload_n 2 dX0_four_3 rfl rfl ?_
    refine x_if_lt 36 dX0_four_4 (by decide) (fun _ => ?_) (fun _ => ?_)
    · exact x_vret rfl dX0_four_36
    · refine x_aload_n 0 dX0_four_7 rfl rfl ?_
      refine xg_X0_89 dX0_four_8 ?_
      refine x_aload_n 0 dX0_four_11 rfl rfl ?_
      refine xg_X0_122 dX0_four_12 ?_
      refine x_iload_n 1 dX0_four_15 rfl rfl ?_
      refine x_iload_n 2 dX0_four_16 rfl rfl ?_
      refine x_ishr dX0_four_17 ?_
      refine x_i2b dX0_four_18 ?_
      refine x_bast dX0_four_19 fun h1 => ?_
      refine x_aload_n 0 dX0_four_20 rfl rfl ?_
      refine x_dup dX0_four_21 rfl ?_
      refine xg_X0_122 dX0_four_22 ?_
      refine x_ic dX0_four_25 (by decide) (by decide) ?_
      refine x_iadd dX0_four_26 ?_
      refine xp_X0_122 dX0_four_27 fun h2 => ?_
      refine x_iinc 2 dX0_four_30 rfl (by decide) fun v3 => x_lv (lv' := [(2, (0, v3)), (0, (2, x0)), (1, (0, x1))]) rfl ?_
      refine x_goto 3 dX0_four_33 (by decide) ?_
      exact x_sub [1, 2, 0] rfl (ih x0 x1 v3 h2)
noncomputable def F_X0_four (x0 : Int) (x1 : Int) (h : XH) : Option XR := F_X0_four_3 FU x0 x1 24 h
theorem WF_X0_four {d : Nat} {Z : XZ XR} (hdd : 1 ≤ d) : ∀ x0 x1 h, XG xfh (xQ 2) RX0 "four" cX0_four 3 none d Z 0 [(0, (2, x0)), (1, (0, x1))] [] h (F_X0_four x0 x1 h) := by
  intro x0 x1 h
  unfold F_X0_four
  refine x_bp dX0_four_0 (by decide) (by decide) ?_
  refine x_istore_n (lv' := [(2, (0, 24)), (0, (2, x0)), (1, (0, x1))]) dX0_four_2 rfl (by decide) rfl ?_
  exact x_sub [1, 2, 0] rfl (WF_X0_four_3 hdd FU x0 x1 24 h)
theorem SF_X0_four (l : Launch) {d : Nat} (hdd : 1 ≤ d) (x0 : Int) (x1 : Int) (h : XH) (hok : okH h) (ho : okXs (xn h) [(2, x0), (0, x1)]) (fin : XR) (hf : F_X0_four x0 x1 h = some fin) : xSpec l yX0_four cX0_four 3 none d 2 [(2, x0), (0, x1)] h fin := x_enter (lv := [(0, (2, x0)), (1, (0, x1))]) (by decide) rfl rfl (Nat.le_of_ble_eq_true rfl) rfl (fun Z _ => WF_X0_four hdd x0 x1 h) hok ho fin hf
theorem cl_X0_125 {ρ : Type} {fh : ρ → XH} {QQ : XZ ρ → State → Prop} {mn : String} {cc : ByteArray} {nL : Nat} {ret : Option FieldType} {d : Nat} {Z : XZ ρ} {pc : Nat} {lv : List (Nat × AV)} {st : List AV} {h : XH} {g : Int → XH → Option ρ} {b a0 : Int} (hdd : 2 ≤ d) (hcat : (st.map fun v => if v.1 = 1 then 2 else 1).sum ≤ 8) (hdg : decode cc pc = .ok (.invokevirtual 125, 3)) (kk : ∀ r h1, XG fh QQ RX0 mn cc nL ret d Z (pc + 3) lv st h1 (g r h1)) : XG fh QQ RX0 mn cc nL ret d Z pc lv ((0, a0) :: (2, b) :: st) h (ob h b 1 (mb (F_X0_four b a0 h) g)) :=
  x_callVv [(0, a0)] 1 (WF_X0_four (Z := (Z.1, Z.2.1, ((0, h), h))) (Nat.le_refl 1) b a0 h).1 (fun hok ho fin hf => SF_X0_four (yL Z) (Nat.le_refl 1) b a0 h hok ho fin hf) RX0 1 rfl (by decide) (lw_V q342 q344 qs0 q124 q345) ⟨rfl, by decide +kernel, by decide +kernel, by decide +kernel⟩ rfl (by omega) (by decide) rfl hcat hdg kk
noncomputable def F_X0_feed (x0 : Int) (x1 : Int) (x2 : Int) (x3 : Int) (x4 : Int) (x5 : Int) (h : XH) : Option XR := ob h x0 1 <| if w32 ((xv h x0 12) + 20) ≤ 400 then (ob h x0 1 <| mb (F_X0_four x0 x1 h) fun r1 h2 => ob h2 x0 1 <| mb (F_X0_four x0 x2 h2) fun r3 h4 => ob h4 x0 1 <| mb (F_X0_four x0 x3 h4) fun r5 h6 => ob h6 x0 1 <| mb (F_X0_four x0 x4 h6) fun r7 h8 => ob h8 x0 1 <| mb (F_X0_four x0 x5 h8) fun r9 h10 => ob h10 x0 1 <| some (xv h10 x0 12, h10)) else (some ((-1), h))
theorem WF_X0_feed {d : Nat} {Z : XZ XR} (hdd : 2 ≤ d) : ∀ x0 x1 x2 x3 x4 x5 h, XG xfh (xQ 0) RX0 "feed" cX0_feed 6 (some .int) d Z 0 [(0, (2, x0)), (1, (0, x1)), (2, (0, x2)), (3, (0, x3)), (4, (0, x4)), (5, (0, x5))] [] h (F_X0_feed x0 x1 x2 x3 x4 x5 h) := by
  intro x0 x1 x2 x3 x4 x5 h
  unfold F_X0_feed
  refine x_aload_n 0 dX0_feed_0 rfl rfl ?_
  refine xg_X0_122 dX0_feed_1 ?_
  refine x_bp dX0_feed_4 (by decide) (by decide) ?_
  refine x_iadd dX0_feed_6 ?_
  refine x_sp dX0_feed_7 (by decide) (by decide) ?_
  refine x_icmp_le 15 dX0_feed_10 (by decide) (fun _ => ?_) (fun _ => ?_)
  · refine x_aload_n 0 dX0_feed_15 rfl rfl ?_
    refine x_iload_n 1 dX0_feed_16 rfl rfl ?_
    refine cl_X0_125 (by omega) (Nat.le_of_ble_eq_true rfl) dX0_feed_17 fun r1 h2 => ?_
    refine x_aload_n 0 dX0_feed_20 rfl rfl ?_
    refine x_iload_n 2 dX0_feed_21 rfl rfl ?_
    refine cl_X0_125 (by omega) (Nat.le_of_ble_eq_true rfl) dX0_feed_22 fun r3 h4 => ?_
    refine x_aload_n 0 dX0_feed_25 rfl rfl ?_
    refine x_iload_n 3 dX0_feed_26 rfl rfl ?_
    refine cl_X0_125 (by omega) (Nat.le_of_ble_eq_true rfl) dX0_feed_27 fun r5 h6 => ?_
    refine x_aload_n 0 dX0_feed_30 rfl rfl ?_
    refine x_iload 4 dX0_feed_31 rfl ?_
    refine cl_X0_125 (by omega) (Nat.le_of_ble_eq_true rfl) dX0_feed_33 fun r7 h8 => ?_
    refine x_aload_n 0 dX0_feed_36 rfl rfl ?_
    refine x_iload 5 dX0_feed_37 rfl ?_
    refine cl_X0_125 (by omega) (Nat.le_of_ble_eq_true rfl) dX0_feed_39 fun r9 h10 => ?_
    refine x_aload_n 0 dX0_feed_42 rfl rfl ?_
    refine xg_X0_122 dX0_feed_43 ?_
    exact x_iret rfl dX0_feed_46
  · refine x_ic dX0_feed_13 (by decide) (by decide) ?_
    exact x_iret rfl dX0_feed_14
theorem SF_X0_feed (l : Launch) {d : Nat} (hdd : 2 ≤ d) (x0 : Int) (x1 : Int) (x2 : Int) (x3 : Int) (x4 : Int) (x5 : Int) (h : XH) (hok : okH h) (ho : okXs (xn h) [(2, x0), (0, x1), (0, x2), (0, x3), (0, x4), (0, x5)]) (fin : XR) (hf : F_X0_feed x0 x1 x2 x3 x4 x5 h = some fin) : xSpec l yX0_feed cX0_feed 6 (some .int) d 0 [(2, x0), (0, x1), (0, x2), (0, x3), (0, x4), (0, x5)] h fin := x_enter (lv := [(0, (2, x0)), (1, (0, x1)), (2, (0, x2)), (3, (0, x3)), (4, (0, x4)), (5, (0, x5))]) (by decide) rfl rfl (Nat.le_of_ble_eq_true rfl) rfl (fun Z _ => WF_X0_feed hdd x0 x1 x2 x3 x4 x5 h) hok ho fin hf
noncomputable def F_X0_end (x0 : Int) (x1 : Int) (h : XH) : Option XR := ob h x0 1 <| mb (F_X0_in x1 0 (xv h x0 12) h) fun r1 h2 => if r1 = 0 then (some ((-1), h2)) else (ob h2 x0 1 <| nm (hset h2 x0 12 x1) fun h3 => some (x1, h3))
theorem WF_X0_end {d : Nat} {Z : XZ XR} (hdd : 2 ≤ d) : ∀ x0 x1 h, XG xfh (xQ 0) RX0 "end" cX0_end 2 (some .int) d Z 0 [(0, (2, x0)), (1, (0, x1))] [] h (F_X0_end x0 x1 h) := by
  intro x0 x1 h
  unfold F_X0_end
  refine x_iload_n 1 dX0_end_0 rfl rfl ?_
  refine x_i2l dX0_end_1 ?_
  refine x_l0 dX0_end_2 ?_
  refine x_aload_n 0 dX0_end_3 rfl rfl ?_
  refine xg_X0_122 dX0_end_4 ?_
  refine x_i2l dX0_end_7 ?_
  refine cl_X0_109 (by omega) (Nat.le_of_ble_eq_true rfl) dX0_end_8 fun r1 h2 => ?_
  refine x_if_ne 16 dX0_end_11 (by decide) (fun _ => ?_) (fun _ => ?_)
  · refine x_aload_n 0 dX0_end_16 rfl rfl ?_
    refine x_iload_n 1 dX0_end_17 rfl rfl ?_
    refine xp_X0_122 dX0_end_18 fun h3 => ?_
    refine x_iload_n 1 dX0_end_21 rfl rfl ?_
    exact x_iret rfl dX0_end_22
  · refine x_ic dX0_end_14 (by decide) (by decide) ?_
    exact x_iret rfl dX0_end_15
theorem SF_X0_end (l : Launch) {d : Nat} (hdd : 2 ≤ d) (x0 : Int) (x1 : Int) (h : XH) (hok : okH h) (ho : okXs (xn h) [(2, x0), (0, x1)]) (fin : XR) (hf : F_X0_end x0 x1 h = some fin) : xSpec l yX0_end cX0_end 2 (some .int) d 0 [(2, x0), (0, x1)] h fin := x_enter (lv := [(0, (2, x0)), (1, (0, x1))]) (by decide) rfl rfl (Nat.le_of_ble_eq_true rfl) rfl (fun Z _ => WF_X0_end hdd x0 x1 h) hok ho fin hf
noncomputable def F_X0_isLetter (x0 : Int) (h : XH) : Option XR := nm (α := Int) (if x0 < 97 then 0 else (if 122 < x0 then 0 else 1)) fun v1 => cb v1 (some (v1, h))
theorem WF_X0_isLetter {d : Nat} {Z : XZ XR} (hdd : 1 ≤ d) : ∀ x0 h, XG xfh (xQ 0) RX0 "isLetter" cX0_isLetter 1 (some .boolean) d Z 0 [(0, (0, x0))] [] h (F_X0_isLetter x0 h) := by
  intro x0 h
  unfold F_X0_isLetter
  refine x_iload_n 0 dX0_isLetter_0 rfl rfl ?_
  refine x_bp dX0_isLetter_1 (by decide) (by decide) ?_
  refine x_join 17 (fun v1 => [(0, v1)]) (fun v1 => ?_) (fun hJ => ?_)
  · exact x_zret rfl dX0_isLetter_17
  · refine x_icmp_ltF 16 dX0_isLetter_3 (by decide) (fun _ => ?_) (fun _ => ?_)
    · refine x_ic dX0_isLetter_16 (by decide) (by decide) ?_
      exact hJ _
    · refine x_iload_n 0 dX0_isLetter_6 rfl rfl ?_
      refine x_bp dX0_isLetter_7 (by decide) (by decide) ?_
      refine x_icmp_gtF 16 dX0_isLetter_9 (by decide) (fun _ => ?_) (fun _ => ?_)
      · refine x_ic dX0_isLetter_16 (by decide) (by decide) ?_
        exact hJ _
      · refine x_ic dX0_isLetter_12 (by decide) (by decide) ?_
        refine x_goto 17 dX0_isLetter_13 (by decide) ?_
        exact hJ _
theorem SF_X0_isLetter (l : Launch) {d : Nat} (hdd : 1 ≤ d) (x0 : Int) (h : XH) (hok : okH h) (ho : okXs (xn h) [(0, x0)]) (fin : XR) (hf : F_X0_isLetter x0 h = some fin) : xSpec l yX0_isLetter cX0_isLetter 1 (some .boolean) d 0 [(0, x0)] h fin := x_enter (lv := [(0, (0, x0))]) (by decide) rfl rfl (Nat.le_of_ble_eq_true rfl) rfl (fun Z _ => WF_X0_isLetter hdd x0 h) hok ho fin hf
noncomputable def F_X0_isDigit (x0 : Int) (h : XH) : Option XR := nm (α := Int) (if x0 < 48 then 0 else (if 57 < x0 then 0 else 1)) fun v1 => cb v1 (some (v1, h))
theorem WF_X0_isDigit {d : Nat} {Z : XZ XR} (hdd : 1 ≤ d) : ∀ x0 h, XG xfh (xQ 0) RX0 "isDigit" cX0_isDigit 1 (some .boolean) d Z 0 [(0, (0, x0))] [] h (F_X0_isDigit x0 h) := by
  intro x0 h
  unfold F_X0_isDigit
  refine x_iload_n 0 dX0_isDigit_0 rfl rfl ?_
  refine x_bp dX0_isDigit_1 (by decide) (by decide) ?_
  refine x_join 17 (fun v1 => [(0, v1)]) (fun v1 => ?_) (fun hJ => ?_)
  · exact x_zret rfl dX0_isDigit_17
  · refine x_icmp_ltF 16 dX0_isDigit_3 (by decide) (fun _ => ?_) (fun _ => ?_)
    · refine x_ic dX0_isDigit_16 (by decide) (by decide) ?_
      exact hJ _
    · refine x_iload_n 0 dX0_isDigit_6 rfl rfl ?_
      refine x_bp dX0_isDigit_7 (by decide) (by decide) ?_
      refine x_icmp_gtF 16 dX0_isDigit_9 (by decide) (fun _ => ?_) (fun _ => ?_)
      · refine x_ic dX0_isDigit_16 (by decide) (by decide) ?_
        exact hJ _
      · refine x_ic dX0_isDigit_12 (by decide) (by decide) ?_
        refine x_goto 17 dX0_isDigit_13 (by decide) ?_
        exact hJ _
theorem SF_X0_isDigit (l : Launch) {d : Nat} (hdd : 1 ≤ d) (x0 : Int) (h : XH) (hok : okH h) (ho : okXs (xn h) [(0, x0)]) (fin : XR) (hf : F_X0_isDigit x0 h = some fin) : xSpec l yX0_isDigit cX0_isDigit 1 (some .boolean) d 0 [(0, x0)] h fin := x_enter (lv := [(0, (0, x0))]) (by decide) rfl rfl (Nat.le_of_ble_eq_true rfl) rfl (fun Z _ => WF_X0_isDigit hdd x0 h) hok ho fin hf
theorem xpF_X5_13 {ρ : Type} {fh : ρ → XH} {QQ : XZ ρ → State → Prop} {cc : ByteArray} {nL : Nat} {ret : Option FieldType} {d : Nat} {Z : XZ ρ} {pc : Nat} {lv : List (Nat × AV)} {st : List AV} {h : XH} {f : XH → Option ρ} {a x : Int} (hd : decode cc pc = .ok (.putfield 13, 3)) (kk : ∀ h1, XG fh QQ RX5 "<init>" cc nL ret d Z (pc + 3) lv st h1 (f h1)) : XG fh QQ RX5 "<init>" cc nL ret d Z pc lv ((0, x) :: (2, a) :: st) h (ob h a 5 (nm (hset h a 1 x) f)) := x_putF (C := RX5) (ref := RX5) 5 1 rfl in_X5 tyX5_ok nmX5 (by decide) rfl (by decide) (Or.inl rfl) rfl rfl rfl (xfit_X5 1 (by decide)) 0 rfl q384 hd kk
theorem xpF_X5_16 {ρ : Type} {fh : ρ → XH} {QQ : XZ ρ → State → Prop} {cc : ByteArray} {nL : Nat} {ret : Option FieldType} {d : Nat} {Z : XZ ρ} {pc : Nat} {lv : List (Nat × AV)} {st : List AV} {h : XH} {f : XH → Option ρ} {a x : Int} (hd : decode cc pc = .ok (.putfield 16, 3)) (kk : ∀ h1, XG fh QQ RX5 "<init>" cc nL ret d Z (pc + 3) lv st h1 (f h1)) : XG fh QQ RX5 "<init>" cc nL ret d Z pc lv ((0, x) :: (2, a) :: st) h (ob h a 5 (nm (hset h a 2 x) f)) := x_putF (C := RX5) (ref := RX5) 5 2 rfl in_X5 tyX5_ok nmX5 (by decide) rfl (by decide) (Or.inl rfl) rfl rfl rfl (xfit_X5 2 (by decide)) 0 rfl q388 hd kk
theorem xpF_X5_7 {ρ : Type} {fh : ρ → XH} {QQ : XZ ρ → State → Prop} {cc : ByteArray} {nL : Nat} {ret : Option FieldType} {d : Nat} {Z : XZ ρ} {pc : Nat} {lv : List (Nat × AV)} {st : List AV} {h : XH} {f : XH → Option ρ} {a x : Int} (hd : decode cc pc = .ok (.putfield 7, 3)) (kk : ∀ h1, XG fh QQ RX5 "<init>" cc nL ret d Z (pc + 3) lv st h1 (f h1)) : XG fh QQ RX5 "<init>" cc nL ret d Z pc lv ((0, x) :: (2, a) :: st) h (ob h a 5 (nm (hset h a 0 x) f)) := x_putF (C := RX5) (ref := RX5) 5 0 rfl in_X5 tyX5_ok nmX5 (by decide) rfl (by decide) (Or.inl rfl) rfl rfl rfl (xfit_X5 0 (by decide)) 0 rfl q380 hd kk
noncomputable def F_X5_init (x0 : Int) (x1 : Int) (x2 : Int) (x3 : Int) (h : XH) : Option XR := pz x0 <| ob h x0 5 <| nm (hset h x0 0 x1) fun h1 => ob h1 x0 5 <| nm (hset h1 x0 1 x2) fun h2 => ob h2 x0 5 <| nm (hset h2 x0 2 x3) fun h3 => some (0, h3)
theorem WF_X5_init {d : Nat} {Z : XZ XR} (hdd : 1 ≤ d) : ∀ x0 x1 x2 x3 h, XG xfh (xQ 2) RX5 "<init>" cX5_init 4 none d Z 0 [(0, (2, x0)), (1, (0, x1)), (2, (0, x2)), (3, (0, x3))] [] h (F_X5_init x0 x1 x2 x3 h) := by
  intro x0 x1 x2 x3 h
  unfold F_X5_init
  refine x_aload_n 0 dX5_init_0 rfl rfl ?_
  refine x_objinit q379 q176 q177 (by omega) (Nat.le_of_ble_eq_true rfl) dX5_init_1 ?_
  refine x_aload_n 0 dX5_init_4 rfl rfl ?_
  refine x_iload_n 1 dX5_init_5 rfl rfl ?_
  refine xpF_X5_7 dX5_init_6 fun h1 => ?_
  refine x_aload_n 0 dX5_init_9 rfl rfl ?_
  refine x_iload_n 2 dX5_init_10 rfl rfl ?_
  refine xpF_X5_13 dX5_init_11 fun h2 => ?_
  refine x_aload_n 0 dX5_init_14 rfl rfl ?_
  refine x_iload_n 3 dX5_init_15 rfl rfl ?_
  refine xpF_X5_16 dX5_init_16 fun h3 => ?_
  exact x_vret rfl dX5_init_19
theorem SF_X5_init (l : Launch) {d : Nat} (hdd : 1 ≤ d) (x0 : Int) (x1 : Int) (x2 : Int) (x3 : Int) (h : XH) (hok : okH h) (ho : okXs (xn h) [(2, x0), (0, x1), (0, x2), (0, x3)]) (fin : XR) (hf : F_X5_init x0 x1 x2 x3 h = some fin) : xSpec l yX5_init cX5_init 4 none d 2 [(2, x0), (0, x1), (0, x2), (0, x3)] h fin := x_enter (lv := [(0, (2, x0)), (1, (0, x1)), (2, (0, x2)), (3, (0, x3))]) (by decide) rfl rfl (Nat.le_of_ble_eq_true rfl) rfl (fun Z _ => WF_X5_init hdd x0 x1 x2 x3 h) hok ho fin hf
noncomputable def F_J5_copyOf_2 (x0 : Int) (x1 : Int) (x2 : Int) (h : XH) : Option XR := gq x2 <| na h 9 x1 fun r1 h2 => alo h2 x0 <| nm (α := Int) (if x1 < (xln h2 x0) then x1 else (xln h2 x0)) fun v3 => cpg h2 9 x0 0 r1 0 v3 <| eg h2 "java/lang/Object" x0 0 v3 <| nm (hcpy h2 x0 0 r1 0 v3) fun h4 => some (r1, h4)
theorem WF_J5_copyOf_2 {d : Nat} {Z : XZ XR} (hdd : 1 ≤ d) : ∀ x0 x1 x2 h, XG xfh (xQ 3) RJ5 "copyOf" cJ5_copyOf_2 4 (some (.array (.object "java/lang/Object"))) d Z 0 [(0, (2, x0)), (1, (0, x1)), (2, (2, x2))] [] h (F_J5_copyOf_2 x0 x1 x2 h) := by
  intro x0 x1 x2 h
  unfold F_J5_copyOf_2
  refine x_aload_n 2 dJ5_copyOf_2_0 rfl rfl ?_
  refine x_ldcM q474 dJ5_copyOf_2_1 ?_
  refine x_acmpM 13 dJ5_copyOf_2_3 (by decide) ?_
  refine x_iload_n 1 dJ5_copyOf_2_6 rfl rfl ?_
  refine x_newq 9 (by decide) (by decide) rfl q476 q475 dJ5_copyOf_2_7 fun r1 h2 => ?_
  refine x_goto 24 dJ5_copyOf_2_10 (by decide) ?_
  refine x_astore_n (lv' := [(3, (2, r1)), (0, (2, x0)), (1, (0, x1)), (2, (2, x2))]) dJ5_copyOf_2_24 rfl (by decide) rfl ?_
  refine x_aload_n 1 dJ5_copyOf_2_25 rfl rfl ?_
  refine x_ic dJ5_copyOf_2_26 (by decide) (by decide) ?_
  refine x_aload_n 0 dJ5_copyOf_2_27 rfl rfl ?_
  refine x_ic dJ5_copyOf_2_28 (by decide) (by decide) ?_
  refine x_aload_n 1 dJ5_copyOf_2_29 rfl rfl ?_
  refine x_alenO dJ5_copyOf_2_30 ?_
  refine x_iload_n 2 dJ5_copyOf_2_31 rfl rfl ?_
  refine x_mmin q477 q364 q132 q365 (by omega) (Nat.le_of_ble_eq_true rfl) dJ5_copyOf_2_32 ?_
  refine x_nmT fun v3 => ?_
  refine x_copyq (E := "java/lang/Object") 9 (by decide) (by decide) rfl q478 q480 q479 q136 (by omega) (Nat.le_of_ble_eq_true rfl) dJ5_copyOf_2_35 fun h4 => ?_
  refine x_aload_n 0 dJ5_copyOf_2_38 rfl rfl ?_
  exact x_aret rfl (Or.inr ⟨_, rfl⟩) dJ5_copyOf_2_39
theorem SF_J5_copyOf_2 (l : Launch) {d : Nat} (hdd : 1 ≤ d) (x0 : Int) (x1 : Int) (x2 : Int) (h : XH) (hok : okH h) (ho : okXs (xn h) [(2, x0), (0, x1), (2, x2)]) (fin : XR) (hf : F_J5_copyOf_2 x0 x1 x2 h = some fin) : xSpec l yJ5_copyOf_2 cJ5_copyOf_2 4 (some (.array (.object "java/lang/Object"))) d 3 [(2, x0), (0, x1), (2, x2)] h fin := x_enter (lv := [(0, (2, x0)), (1, (0, x1)), (2, (2, x2))]) (by decide) rfl rfl (Nat.le_of_ble_eq_true rfl) rfl (fun Z _ => WF_J5_copyOf_2 hdd x0 x1 x2 h) hok ho fin hf
theorem cl_J5_300 {ρ : Type} {fh : ρ → XH} {QQ : XZ ρ → State → Prop} {mn : String} {cc : ByteArray} {nL : Nat} {ret : Option FieldType} {d : Nat} {Z : XZ ρ} {pc : Nat} {lv : List (Nat × AV)} {st : List AV} {h : XH} {g : Int → XH → Option ρ} {a0 a1 a2 : Int} (hdd : 2 ≤ d) (hcat : (st.map fun v => if v.1 = 1 then 2 else 1).sum ≤ 8) (hdg : decode cc pc = .ok (.invokestatic 300, 3)) (kk : ∀ r h1, XG fh QQ RJ5 mn cc nL ret d Z (pc + 3) lv ((2, r) :: st) h1 (g r h1)) : XG fh QQ RJ5 mn cc nL ret d Z pc lv ((2, a2) :: (0, a1) :: (2, a0) :: st) h (mb (F_J5_copyOf_2 a0 a1 a2 h) g) :=
  x_callSr [(2, a0), (0, a1), (2, a2)] 3 (WF_J5_copyOf_2 (Z := (Z.1, Z.2.1, ((0, h), h))) (Nat.le_refl 1) a0 a1 a2 h).1 (fun hok ho fin hf => SF_J5_copyOf_2 (yL Z) (Nat.le_refl 1) a0 a1 a2 h hok ho fin hf) (lw_S q471 q472 q135 q473) ⟨by decide +kernel, by decide +kernel, by decide +kernel⟩ rfl (by omega) (by decide) rfl hcat hdg kk
noncomputable def F_J5_copyOf (x0 : Int) (x1 : Int) (h : XH) : Option XR := al h x0 9 <| mb (F_J5_copyOf_2 x0 x1 (-2) h) fun r1 h2 => some (r1, h2)
theorem WF_J5_copyOf {d : Nat} {Z : XZ XR} (hdd : 2 ≤ d) : ∀ x0 x1 h, XG xfh (xQ 3) RJ5 "copyOf" cJ5_copyOf 2 (some (.array (.object "java/lang/Object"))) d Z 0 [(0, (2, x0)), (1, (0, x1))] [] h (F_J5_copyOf x0 x1 h) := by
  intro x0 x1 h
  unfold F_J5_copyOf
  refine x_aload_n 0 dJ5_copyOf_0 rfl rfl ?_
  refine x_iload_n 1 dJ5_copyOf_1 rfl rfl ?_
  refine x_aload_n 0 dJ5_copyOf_2 rfl rfl ?_
  refine x_getC q439 q2408 q2407 q440 q470 (by omega) (Nat.le_of_ble_eq_true rfl) dJ5_copyOf_3 ?_
  refine cl_J5_300 (by omega) (Nat.le_of_ble_eq_true rfl) dJ5_copyOf_6 fun r1 h2 => ?_
  exact x_aret rfl (Or.inr ⟨_, rfl⟩) dJ5_copyOf_9
theorem SF_J5_copyOf (l : Launch) {d : Nat} (hdd : 2 ≤ d) (x0 : Int) (x1 : Int) (h : XH) (hok : okH h) (ho : okXs (xn h) [(2, x0), (0, x1)]) (fin : XR) (hf : F_J5_copyOf x0 x1 h = some fin) : xSpec l yJ5_copyOf cJ5_copyOf 2 (some (.array (.object "java/lang/Object"))) d 3 [(2, x0), (0, x1)] h fin := x_enter (lv := [(0, (2, x0)), (1, (0, x1))]) (by decide) rfl rfl (Nat.le_of_ble_eq_true rfl) rfl (fun Z _ => WF_J5_copyOf hdd x0 x1 h) hok ho fin hf
noncomputable def F_J4_hugeLength (x0 : Int) (x1 : Int) (h : XH) : Option XR := nm (α := Int) (w32 (x0 + x1)) fun v1 => if 0 ≤ v1 then (if 2147483639 < v1 then (some (v1, h)) else (some (2147483639, h))) else (none)
theorem WF_J4_hugeLength {d : Nat} {Z : XZ XR} (hdd : 1 ≤ d) : ∀ x0 x1 h, XG xfh (xQ 0) RJ4 "hugeLength" cJ4_hugeLength 3 (some .int) d Z 0 [(0, (0, x0)), (1, (0, x1))] [] h (F_J4_hugeLength x0 x1 h) := by
  intro x0 x1 h
  unfold F_J4_hugeLength
  refine x_iload_n 0 dJ4_hugeLength_0 rfl rfl ?_
  refine x_iload_n 1 dJ4_hugeLength_1 rfl rfl ?_
  refine x_iadd dJ4_hugeLength_2 ?_
  refine x_nmT fun v1 => ?_
  refine x_istore_n (lv' := [(2, (0, v1)), (0, (0, x0)), (1, (0, x1))]) dJ4_hugeLength_3 rfl (by decide) rfl ?_
  refine x_iload_n 0 dJ4_hugeLength_4 rfl rfl ?_
  refine x_if_ge 49 dJ4_hugeLength_5 (by decide) (fun _ => ?_) (fun _ => ?_)
  · refine x_iload_n 0 dJ4_hugeLength_49 rfl rfl ?_
    refine x_ldc (n := 2147483639) q432 dJ4_hugeLength_50 (by decide +kernel) ⟨by decide, by decide⟩ ?_
    refine x_icmp_gt 58 dJ4_hugeLength_52 (by decide) (fun _ => ?_) (fun _ => ?_)
    · refine x_iload_n 0 dJ4_hugeLength_58 rfl rfl ?_
      exact x_iret rfl dJ4_hugeLength_59
    · refine x_ldc (n := 2147483639) q432 dJ4_hugeLength_55 (by decide +kernel) ⟨by decide, by decide⟩ ?_
      exact x_iret rfl dJ4_hugeLength_57
  · exact x_none
theorem SF_J4_hugeLength (l : Launch) {d : Nat} (hdd : 1 ≤ d) (x0 : Int) (x1 : Int) (h : XH) (hok : okH h) (ho : okXs (xn h) [(0, x0), (0, x1)]) (fin : XR) (hf : F_J4_hugeLength x0 x1 h = some fin) : xSpec l yJ4_hugeLength cJ4_hugeLength 3 (some .int) d 0 [(0, x0), (0, x1)] h fin := x_enter (lv := [(0, (0, x0)), (1, (0, x1))]) (by decide) rfl rfl (Nat.le_of_ble_eq_true rfl) rfl (fun Z _ => WF_J4_hugeLength hdd x0 x1 h) hok ho fin hf
theorem cl_J4_201 {ρ : Type} {fh : ρ → XH} {QQ : XZ ρ → State → Prop} {mn : String} {cc : ByteArray} {nL : Nat} {ret : Option FieldType} {d : Nat} {Z : XZ ρ} {pc : Nat} {lv : List (Nat × AV)} {st : List AV} {h : XH} {g : Int → XH → Option ρ} {a0 a1 : Int} (hdd : 2 ≤ d) (hcat : (st.map fun v => if v.1 = 1 then 2 else 1).sum ≤ 8) (hdg : decode cc pc = .ok (.invokestatic 201, 3)) (kk : ∀ r h1, XG fh QQ RJ4 mn cc nL ret d Z (pc + 3) lv ((0, r) :: st) h1 (g r h1)) : XG fh QQ RJ4 mn cc nL ret d Z pc lv ((0, a1) :: (0, a0) :: st) h (mb (F_J4_hugeLength a0 a1 h) g) :=
  x_callSi [(0, a0), (0, a1)] 2 (WF_J4_hugeLength (Z := (Z.1, Z.2.1, ((0, h), h))) (Nat.le_refl 1) a0 a1 h).1 (fun hok ho fin hf => SF_J4_hugeLength (yL Z) (Nat.le_refl 1) a0 a1 h hok ho fin hf) (lw_S q433 q434 q134 q435) ⟨by decide +kernel, by decide +kernel, by decide +kernel⟩ rfl (by omega) (by decide) rfl hcat hdg kk
noncomputable def F_J4_newLength_21 (x0 : Int) (x1 : Int) (h : XH) : Option XR := mb (F_J4_hugeLength x0 x1 h) fun r1 h2 => some (r1, h2)
theorem WF_J4_newLength_21 {d : Nat} {Z : XZ XR} (hdd : 2 ≤ d) : ∀ x0 x1 h, XG xfh (xQ 0) RJ4 "newLength" cJ4_newLength 4 (some .int) d Z 21 [(0, (0, x0)), (1, (0, x1))] [] h (F_J4_newLength_21 x0 x1 h) := by
  intro x0 x1 h
  unfold F_J4_newLength_21
  refine x_iload_n 0 dJ4_newLength_21 rfl rfl ?_
  refine x_iload_n 1 dJ4_newLength_22 rfl rfl ?_
  refine cl_J4_201 (by omega) (Nat.le_of_ble_eq_true rfl) dJ4_newLength_23 fun r1 h2 => ?_
  exact x_iret rfl dJ4_newLength_26
noncomputable def F_J4_newLength (x0 : Int) (x1 : Int) (x2 : Int) (h : XH) : Option XR := nm (α := Int) (if x1 < x2 then x2 else x1) fun v1 => nm (α := Int) (w32 (x0 + v1)) fun v2 => if v2 ≤ 0 then (F_J4_newLength_21 x0 x1 h) else (if 2147483639 < v2 then (F_J4_newLength_21 x0 x1 h) else (some (v2, h)))
theorem WF_J4_newLength {d : Nat} {Z : XZ XR} (hdd : 2 ≤ d) : ∀ x0 x1 x2 h, XG xfh (xQ 0) RJ4 "newLength" cJ4_newLength 4 (some .int) d Z 0 [(0, (0, x0)), (1, (0, x1)), (2, (0, x2))] [] h (F_J4_newLength x0 x1 x2 h) := by
  intro x0 x1 x2 h
  unfold F_J4_newLength
  refine x_iload_n 0 dJ4_newLength_0 rfl rfl ?_
  refine x_iload_n 1 dJ4_newLength_1 rfl rfl ?_
  refine x_iload_n 2 dJ4_newLength_2 rfl rfl ?_
  refine x_mmax q429 q430 q132 q431 (by omega) (Nat.le_of_ble_eq_true rfl) dJ4_newLength_3 ?_
  refine x_nmT fun v1 => ?_
  refine x_iadd dJ4_newLength_6 ?_
  refine x_nmT fun v2 => ?_
  refine x_istore_n (lv' := [(3, (0, v2)), (0, (0, x0)), (1, (0, x1)), (2, (0, x2))]) dJ4_newLength_7 rfl (by decide) rfl ?_
  refine x_ic dJ4_newLength_8 (by decide) (by decide) ?_
  refine x_iload_n 0 dJ4_newLength_9 rfl rfl ?_
  refine x_icmp_ge 21 dJ4_newLength_10 (by decide) (fun _ => ?_) (fun _ => ?_)
  · exact x_sub [1, 2] rfl (WF_J4_newLength_21 hdd x0 x1 h)
  · refine x_iload_n 0 dJ4_newLength_13 rfl rfl ?_
    refine x_ldc (n := 2147483639) q432 dJ4_newLength_14 (by decide +kernel) ⟨by decide, by decide⟩ ?_
    refine x_icmp_gt 21 dJ4_newLength_16 (by decide) (fun _ => ?_) (fun _ => ?_)
    · exact x_sub [1, 2] rfl (WF_J4_newLength_21 hdd x0 x1 h)
    · refine x_iload_n 0 dJ4_newLength_19 rfl rfl ?_
      exact x_iret rfl dJ4_newLength_20
theorem SF_J4_newLength (l : Launch) {d : Nat} (hdd : 2 ≤ d) (x0 : Int) (x1 : Int) (x2 : Int) (h : XH) (hok : okH h) (ho : okXs (xn h) [(0, x0), (0, x1), (0, x2)]) (fin : XR) (hf : F_J4_newLength x0 x1 x2 h = some fin) : xSpec l yJ4_newLength cJ4_newLength 4 (some .int) d 0 [(0, x0), (0, x1), (0, x2)] h fin := x_enter (lv := [(0, (0, x0)), (1, (0, x1)), (2, (0, x2))]) (by decide) rfl rfl (Nat.le_of_ble_eq_true rfl) rfl (fun Z _ => WF_J4_newLength hdd x0 x1 x2 h) hok ho fin hf
theorem cl_J2_66 {ρ : Type} {fh : ρ → XH} {QQ : XZ ρ → State → Prop} {mn : String} {cc : ByteArray} {nL : Nat} {ret : Option FieldType} {d : Nat} {Z : XZ ρ} {pc : Nat} {lv : List (Nat × AV)} {st : List AV} {h : XH} {g : Int → XH → Option ρ} {a0 a1 : Int} (hdd : 3 ≤ d) (hcat : (st.map fun v => if v.1 = 1 then 2 else 1).sum ≤ 8) (hdg : decode cc pc = .ok (.invokestatic 66, 3)) (kk : ∀ r h1, XG fh QQ RJ2 mn cc nL ret d Z (pc + 3) lv ((2, r) :: st) h1 (g r h1)) : XG fh QQ RJ2 mn cc nL ret d Z pc lv ((0, a1) :: (2, a0) :: st) h (mb (F_J5_copyOf a0 a1 h) g) :=
  x_callSr [(2, a0), (0, a1)] 2 (WF_J5_copyOf (Z := (Z.1, Z.2.1, ((0, h), h))) (Nat.le_refl 2) a0 a1 h).1 (fun hok ho fin hf => SF_J5_copyOf (yL Z) (Nat.le_refl 2) a0 a1 h hok ho fin hf) (lw_S q436 q437 q135 q438) ⟨by decide +kernel, by decide +kernel, by decide +kernel⟩ rfl (by omega) (by decide) rfl hcat hdg kk
theorem cl_J2_73 {ρ : Type} {fh : ρ → XH} {QQ : XZ ρ → State → Prop} {mn : String} {cc : ByteArray} {nL : Nat} {ret : Option FieldType} {d : Nat} {Z : XZ ρ} {pc : Nat} {lv : List (Nat × AV)} {st : List AV} {h : XH} {g : Int → XH → Option ρ} {a0 a1 a2 : Int} (hdd : 3 ≤ d) (hcat : (st.map fun v => if v.1 = 1 then 2 else 1).sum ≤ 8) (hdg : decode cc pc = .ok (.invokestatic 73, 3)) (kk : ∀ r h1, XG fh QQ RJ2 mn cc nL ret d Z (pc + 3) lv ((0, r) :: st) h1 (g r h1)) : XG fh QQ RJ2 mn cc nL ret d Z pc lv ((0, a2) :: (0, a1) :: (0, a0) :: st) h (mb (F_J4_newLength a0 a1 a2 h) g) :=
  x_callSi [(0, a0), (0, a1), (0, a2)] 3 (WF_J4_newLength (Z := (Z.1, Z.2.1, ((0, h), h))) (Nat.le_refl 2) a0 a1 a2 h).1 (fun hok ho fin hf => SF_J4_newLength (yL Z) (Nat.le_refl 2) a0 a1 a2 h hok ho fin hf) (lw_S q426 q427 q134 q428) ⟨by decide +kernel, by decide +kernel, by decide +kernel⟩ rfl (by omega) (by decide) rfl hcat hdg kk
noncomputable def F_J2_grow_2_20 (x0 : Int) (x1 : Int) (x2 : Int) (h : XH) : Option XR := mb (F_J4_newLength x2 (w32 (x1 - x2)) (ishr x2 1) h) fun r1 h2 => ob h2 x0 26 <| mb (F_J5_copyOf (xv h2 x0 1) r1 h2) fun r3 h4 => ob h4 x0 26 <| nm (hset h4 x0 1 r3) fun h5 => some (r3, h5)
theorem WF_J2_grow_2_20 {d : Nat} {Z : XZ XR} (hdd : 3 ≤ d) : ∀ x0 x1 x2 h, XG xfh (xQ 3) RJ2 "grow" cJ2_grow_2 4 (some (.array (.object "java/lang/Object"))) d Z 20 [(0, (2, x0)), (1, (0, x1)), (2, (0, x2))] [] h (F_J2_grow_2_20 x0 x1 x2 h) := by
  intro x0 x1 x2 h
  unfold F_J2_grow_2_20
  refine x_iload_n 2 dJ2_grow_2_20 rfl rfl ?_
  refine x_iload_n 1 dJ2_grow_2_21 rfl rfl ?_
  refine x_iload_n 2 dJ2_grow_2_22 rfl rfl ?_
  refine x_isub dJ2_grow_2_23 ?_
  refine x_iload_n 2 dJ2_grow_2_24 rfl rfl ?_
  refine x_ic dJ2_grow_2_25 (by decide) (by decide) ?_
  refine x_ishr dJ2_grow_2_26 ?_
  refine cl_J2_73 (by omega) (Nat.le_of_ble_eq_true rfl) dJ2_grow_2_27 fun r1 h2 => ?_
  refine x_istore_n (lv' := [(3, (0, r1)), (0, (2, x0)), (1, (0, x1)), (2, (0, x2))]) dJ2_grow_2_30 rfl (by decide) rfl ?_
  refine x_aload_n 1 dJ2_grow_2_31 rfl rfl ?_
  refine x_aload_n 1 dJ2_grow_2_32 rfl rfl ?_
  refine xg_J2_9 dJ2_grow_2_33 ?_
  refine x_iload_n 0 dJ2_grow_2_36 rfl rfl ?_
  refine cl_J2_66 (by omega) (Nat.le_of_ble_eq_true rfl) dJ2_grow_2_37 fun r3 h4 => ?_
  refine x_dup_x1 dJ2_grow_2_40 rfl rfl ?_
  refine xp_J2_9 dJ2_grow_2_41 fun h5 => ?_
  exact x_aret rfl (Or.inr ⟨_, rfl⟩) dJ2_grow_2_44
noncomputable def F_J2_grow_2 (x0 : Int) (x1 : Int) (h : XH) : Option XR := ob h x0 26 <| alo h (xv h x0 1) <| nm (α := Int) (xln h (xv h x0 1)) fun v1 => if 0 < v1 then (F_J2_grow_2_20 x0 x1 v1 h) else (ob h x0 26 <| gm (xv h x0 1) <| if xv h x0 1 = (-1) then (nm (α := Int) (if (10 : Int) < x1 then x1 else (10 : Int)) fun v2 => na h 9 v2 fun r3 h4 => ob h4 x0 26 <| nm (hset h4 x0 1 r3) fun h5 => some (r3, h5)) else (F_J2_grow_2_20 x0 x1 v1 h))
theorem WF_J2_grow_2 {d : Nat} {Z : XZ XR} (hdd : 3 ≤ d) : ∀ x0 x1 h, XG xfh (xQ 3) RJ2 "grow" cJ2_grow_2 4 (some (.array (.object "java/lang/Object"))) d Z 0 [(0, (2, x0)), (1, (0, x1))] [] h (F_J2_grow_2 x0 x1 h) := by
  intro x0 x1 h
  unfold F_J2_grow_2
  refine x_aload_n 0 dJ2_grow_2_0 rfl rfl ?_
  refine xg_J2_9 dJ2_grow_2_1 ?_
  refine x_alenO dJ2_grow_2_4 ?_
  refine x_nmT fun v1 => ?_
  refine x_istore_n (lv' := [(2, (0, v1)), (0, (2, x0)), (1, (0, x1))]) dJ2_grow_2_5 rfl (by decide) rfl ?_
  refine x_iload_n 0 dJ2_grow_2_6 rfl rfl ?_
  refine x_if_gt 20 dJ2_grow_2_7 (by decide) (fun _ => ?_) (fun _ => ?_)
  · exact x_sub [1, 2, 0] rfl (WF_J2_grow_2_20 hdd x0 x1 v1 h)
  · refine x_aload_n 1 dJ2_grow_2_10 rfl rfl ?_
    refine xg_J2_9 dJ2_grow_2_11 ?_
    refine x_dflt (ref := RJ2) rfl q196 dJ2_grow_2_14 ?_
    refine x_acmpD 45 dJ2_grow_2_17 (by decide) (fun _ => ?_) (fun _ => ?_)
    · refine x_aload_n 1 dJ2_grow_2_45 rfl rfl ?_
      refine x_bp dJ2_grow_2_46 (by decide) (by decide) ?_
      refine x_iload_n 2 dJ2_grow_2_48 rfl rfl ?_
      refine x_mmax q481 q430 q132 q431 (by omega) (Nat.le_of_ble_eq_true rfl) dJ2_grow_2_49 ?_
      refine x_nmT fun v2 => ?_
      refine x_newq 9 (by decide) (by decide) rfl q482 q475 dJ2_grow_2_52 fun r3 h4 => ?_
      refine x_dup_x1 dJ2_grow_2_55 rfl rfl ?_
      refine xp_J2_9 dJ2_grow_2_56 fun h5 => ?_
      exact x_aret rfl (Or.inr ⟨_, rfl⟩) dJ2_grow_2_59
    · exact x_sub [1, 2, 0] rfl (WF_J2_grow_2_20 hdd x0 x1 v1 h)
theorem SF_J2_grow_2 (l : Launch) {d : Nat} (hdd : 3 ≤ d) (x0 : Int) (x1 : Int) (h : XH) (hok : okH h) (ho : okXs (xn h) [(2, x0), (0, x1)]) (fin : XR) (hf : F_J2_grow_2 x0 x1 h = some fin) : xSpec l yJ2_grow_2 cJ2_grow_2 4 (some (.array (.object "java/lang/Object"))) d 3 [(2, x0), (0, x1)] h fin := x_enter (lv := [(0, (2, x0)), (1, (0, x1))]) (by decide) rfl rfl (Nat.le_of_ble_eq_true rfl) rfl (fun Z _ => WF_J2_grow_2 hdd x0 x1 h) hok ho fin hf
theorem cl_J2_69 {ρ : Type} {fh : ρ → XH} {QQ : XZ ρ → State → Prop} {mn : String} {cc : ByteArray} {nL : Nat} {ret : Option FieldType} {d : Nat} {Z : XZ ρ} {pc : Nat} {lv : List (Nat × AV)} {st : List AV} {h : XH} {g : Int → XH → Option ρ} {b a0 : Int} (hdd : 4 ≤ d) (hcat : (st.map fun v => if v.1 = 1 then 2 else 1).sum ≤ 8) (hdg : decode cc pc = .ok (.invokevirtual 69, 3)) (kk : ∀ r h1, XG fh QQ RJ2 mn cc nL ret d Z (pc + 3) lv ((2, r) :: st) h1 (g r h1)) : XG fh QQ RJ2 mn cc nL ret d Z pc lv ((0, a0) :: (2, b) :: st) h (ob h b 26 (mb (F_J2_grow_2 b a0 h) g)) :=
  x_callVr [(0, a0)] 1 (WF_J2_grow_2 (Z := (Z.1, Z.2.1, ((0, h), h))) (Nat.le_refl 3) b a0 h).1 (fun hok ho fin hf => SF_J2_grow_2 (yL Z) (Nat.le_refl 3) b a0 h hok ho fin hf) RJ2 26 rfl (by decide) (lw_V q422 q424 qs5 q128 q425) ⟨rfl, by decide +kernel, by decide +kernel, by decide +kernel⟩ rfl (by omega) (by decide) rfl hcat hdg kk
noncomputable def F_J2_grow (x0 : Int) (h : XH) : Option XR := ob h x0 26 <| ob h x0 26 <| mb (F_J2_grow_2 x0 (w32 ((xv h x0 2) + 1)) h) fun r1 h2 => some (r1, h2)
theorem WF_J2_grow {d : Nat} {Z : XZ XR} (hdd : 4 ≤ d) : ∀ x0 h, XG xfh (xQ 3) RJ2 "grow" cJ2_grow 1 (some (.array (.object "java/lang/Object"))) d Z 0 [(0, (2, x0))] [] h (F_J2_grow x0 h) := by
  intro x0 h
  unfold F_J2_grow
  refine x_aload_n 0 dJ2_grow_0 rfl rfl ?_
  refine x_aload_n 0 dJ2_grow_1 rfl rfl ?_
  refine xg_J2_48 dJ2_grow_2 ?_
  refine x_ic dJ2_grow_5 (by decide) (by decide) ?_
  refine x_iadd dJ2_grow_6 ?_
  refine cl_J2_69 (by omega) (Nat.le_of_ble_eq_true rfl) dJ2_grow_7 fun r1 h2 => ?_
  exact x_aret rfl (Or.inr ⟨_, rfl⟩) dJ2_grow_10
theorem SF_J2_grow (l : Launch) {d : Nat} (hdd : 4 ≤ d) (x0 : Int) (h : XH) (hok : okH h) (ho : okXs (xn h) [(2, x0)]) (fin : XR) (hf : F_J2_grow x0 h = some fin) : xSpec l yJ2_grow cJ2_grow 1 (some (.array (.object "java/lang/Object"))) d 3 [(2, x0)] h fin := x_enter (lv := [(0, (2, x0))]) (by decide) rfl rfl (Nat.le_of_ble_eq_true rfl) rfl (fun Z _ => WF_J2_grow hdd x0 h) hok ho fin hf
theorem cl_J2_129 {ρ : Type} {fh : ρ → XH} {QQ : XZ ρ → State → Prop} {mn : String} {cc : ByteArray} {nL : Nat} {ret : Option FieldType} {d : Nat} {Z : XZ ρ} {pc : Nat} {lv : List (Nat × AV)} {st : List AV} {h : XH} {g : Int → XH → Option ρ} {b : Int} (hdd : 5 ≤ d) (hcat : (st.map fun v => if v.1 = 1 then 2 else 1).sum ≤ 8) (hdg : decode cc pc = .ok (.invokevirtual 129, 3)) (kk : ∀ r h1, XG fh QQ RJ2 mn cc nL ret d Z (pc + 3) lv ((2, r) :: st) h1 (g r h1)) : XG fh QQ RJ2 mn cc nL ret d Z pc lv ((2, b) :: st) h (ob h b 26 (mb (F_J2_grow b h) g)) :=
  x_callVr [] 0 (WF_J2_grow (Z := (Z.1, Z.2.1, ((0, h), h))) (Nat.le_refl 4) b h).1 (fun hok ho fin hf => SF_J2_grow (yL Z) (Nat.le_refl 4) b h hok ho fin hf) RJ2 26 rfl (by decide) (lw_V q418 q420 qs4 q128 q421) ⟨rfl, by decide +kernel, by decide +kernel, by decide +kernel⟩ rfl (by omega) (by decide) rfl hcat hdg kk
theorem xp_J2_48 {ρ : Type} {fh : ρ → XH} {QQ : XZ ρ → State → Prop} {mn : String} {cc : ByteArray} {nL : Nat} {ret : Option FieldType} {d : Nat} {Z : XZ ρ} {pc : Nat} {lv : List (Nat × AV)} {st : List AV} {h : XH} {f : XH → Option ρ} {a x : Int} (hd : decode cc pc = .ok (.putfield 48, 3)) (kk : ∀ h1, XG fh QQ RJ2 mn cc nL ret d Z (pc + 3) lv st h1 (f h1)) : XG fh QQ RJ2 mn cc nL ret d Z pc lv ((0, x) :: (2, a) :: st) h (ob h a 26 (nm (hset h a 2 x) f)) := x_put (C := RJ2) (ref := RJ2) 26 2 rfl in_J2 tyJ2_ok nmJ2 (by decide) rfl (by decide) (Or.inl rfl) (by decide) (xfit_J2 2 (by decide)) 0 rfl q199 hd kk
noncomputable def F_J2_add_2_11 (x0 : Int) (x1 : Int) (x2 : Int) (x3 : Int) (h : XH) : Option XR := ai h x2 9 x3 <| ex h "java/lang/Object" x1 <| nm (hset h x2 x3 x1) fun h1 => ob h1 x0 26 <| nm (hset h1 x0 2 (w32 (x3 + 1))) fun h2 => some (0, h2)
theorem WF_J2_add_2_11 {d : Nat} {Z : XZ XR} (hdd : 5 ≤ d) : ∀ x0 x1 x2 x3 h, XG xfh (xQ 2) RJ2 "add" cJ2_add_2 4 none d Z 11 [(0, (2, x0)), (1, (2, x1)), (2, (2, x2)), (3, (0, x3))] [] h (F_J2_add_2_11 x0 x1 x2 x3 h) := by
  intro x0 x1 x2 x3 h
  unfold F_J2_add_2_11
  refine x_aload_n 2 dJ2_add_2_11 rfl rfl ?_
  refine x_iload_n 3 dJ2_add_2_12 rfl rfl ?_
  refine x_aload_n 1 dJ2_add_2_13 rfl rfl ?_
  refine x_aastM (E := "java/lang/Object") 9 (by decide) (by decide) rfl dJ2_add_2_14 fun h1 => ?_
  refine x_aload_n 0 dJ2_add_2_15 rfl rfl ?_
  refine x_iload_n 3 dJ2_add_2_16 rfl rfl ?_
  refine x_ic dJ2_add_2_17 (by decide) (by decide) ?_
  refine x_iadd dJ2_add_2_18 ?_
  refine xp_J2_48 dJ2_add_2_19 fun h2 => ?_
  exact x_vret rfl dJ2_add_2_22
noncomputable def F_J2_add_2 (x0 : Int) (x1 : Int) (x2 : Int) (x3 : Int) (h : XH) : Option XR := alo h x2 <| if x3 = xln h x2 then (ob h x0 26 <| mb (F_J2_grow x0 h) fun r1 h2 => F_J2_add_2_11 x0 x1 r1 x3 h2) else (F_J2_add_2_11 x0 x1 x2 x3 h)
theorem WF_J2_add_2 {d : Nat} {Z : XZ XR} (hdd : 5 ≤ d) : ∀ x0 x1 x2 x3 h, XG xfh (xQ 2) RJ2 "add" cJ2_add_2 4 none d Z 0 [(0, (2, x0)), (1, (2, x1)), (2, (2, x2)), (3, (0, x3))] [] h (F_J2_add_2 x0 x1 x2 x3 h) := by
  intro x0 x1 x2 x3 h
  unfold F_J2_add_2
  refine x_iload_n 3 dJ2_add_2_0 rfl rfl ?_
  refine x_aload_n 2 dJ2_add_2_1 rfl rfl ?_
  refine x_alenO dJ2_add_2_2 ?_
  refine x_icmp_ne 11 dJ2_add_2_3 (by decide) (fun _ => ?_) (fun _ => ?_)
  · exact x_sub [0, 1, 2, 3] rfl (WF_J2_add_2_11 hdd x0 x1 x2 x3 h)
  · refine x_aload_n 0 dJ2_add_2_6 rfl rfl ?_
    refine cl_J2_129 (by omega) (Nat.le_of_ble_eq_true rfl) dJ2_add_2_7 fun r1 h2 => ?_
    refine x_astore_n (lv' := [(2, (2, r1)), (0, (2, x0)), (1, (2, x1)), (3, (0, x3))]) dJ2_add_2_10 rfl (by decide) rfl ?_
    exact x_sub [1, 2, 0, 3] rfl (WF_J2_add_2_11 hdd x0 x1 r1 x3 h2)
theorem SF_J2_add_2 (l : Launch) {d : Nat} (hdd : 5 ≤ d) (x0 : Int) (x1 : Int) (x2 : Int) (x3 : Int) (h : XH) (hok : okH h) (ho : okXs (xn h) [(2, x0), (2, x1), (2, x2), (0, x3)]) (fin : XR) (hf : F_J2_add_2 x0 x1 x2 x3 h = some fin) : xSpec l yJ2_add_2 cJ2_add_2 4 none d 2 [(2, x0), (2, x1), (2, x2), (0, x3)] h fin := x_enter (lv := [(0, (2, x0)), (1, (2, x1)), (2, (2, x2)), (3, (0, x3))]) (by decide) rfl rfl (Nat.le_of_ble_eq_true rfl) rfl (fun Z _ => WF_J2_add_2 hdd x0 x1 x2 x3 h) hok ho fin hf
theorem cl_J2_131 {ρ : Type} {fh : ρ → XH} {QQ : XZ ρ → State → Prop} {mn : String} {cc : ByteArray} {nL : Nat} {ret : Option FieldType} {d : Nat} {Z : XZ ρ} {pc : Nat} {lv : List (Nat × AV)} {st : List AV} {h : XH} {g : Int → XH → Option ρ} {b a0 a1 a2 : Int} (hdd : 6 ≤ d) (hcat : (st.map fun v => if v.1 = 1 then 2 else 1).sum ≤ 8) (hdg : decode cc pc = .ok (.invokevirtual 131, 3)) (kk : ∀ r h1, XG fh QQ RJ2 mn cc nL ret d Z (pc + 3) lv st h1 (g r h1)) : XG fh QQ RJ2 mn cc nL ret d Z pc lv ((0, a2) :: (2, a1) :: (2, a0) :: (2, b) :: st) h (ob h b 26 (mb (F_J2_add_2 b a0 a1 a2 h) g)) :=
  x_callVv [(2, a0), (2, a1), (0, a2)] 3 (WF_J2_add_2 (Z := (Z.1, Z.2.1, ((0, h), h))) (Nat.le_refl 5) b a0 a1 a2 h).1 (fun hok ho fin hf => SF_J2_add_2 (yL Z) (Nat.le_refl 5) b a0 a1 a2 h hok ho fin hf) RJ2 26 rfl (by decide) (lw_V q414 q416 qs3 q128 q417) ⟨rfl, by decide +kernel, by decide +kernel, by decide +kernel⟩ rfl (by omega) (by decide) rfl hcat hdg kk
theorem xg_J2_63 {ρ : Type} {fh : ρ → XH} {QQ : XZ ρ → State → Prop} {mn : String} {cc : ByteArray} {nL : Nat} {ret : Option FieldType} {d : Nat} {Z : XZ ρ} {pc : Nat} {lv : List (Nat × AV)} {st : List AV} {h : XH} {res : Option ρ} {a : Int} (hd : decode cc pc = .ok (.getfield 63, 3)) (kk : XG fh QQ RJ2 mn cc nL ret d Z (pc + 3) lv ((0, xv h a 0) :: st) h res) : XG fh QQ RJ2 mn cc nL ret d Z pc lv ((2, a) :: st) h (ob h a 26 res) := x_get (C := RJ2) (ref := RJ2) 26 0 rfl in_J2 (by decide) rfl (by decide) (Or.inr q202) q201 hd kk
theorem xp_J2_63 {ρ : Type} {fh : ρ → XH} {QQ : XZ ρ → State → Prop} {mn : String} {cc : ByteArray} {nL : Nat} {ret : Option FieldType} {d : Nat} {Z : XZ ρ} {pc : Nat} {lv : List (Nat × AV)} {st : List AV} {h : XH} {f : XH → Option ρ} {a x : Int} (hd : decode cc pc = .ok (.putfield 63, 3)) (kk : ∀ h1, XG fh QQ RJ2 mn cc nL ret d Z (pc + 3) lv st h1 (f h1)) : XG fh QQ RJ2 mn cc nL ret d Z pc lv ((0, x) :: (2, a) :: st) h (ob h a 26 (nm (hset h a 0 x) f)) := x_put (C := RJ2) (ref := RJ2) 26 0 rfl in_J2 tyJ2_ok nmJ2 (by decide) rfl (by decide) (Or.inr q202) (by decide) (xfit_J2 0 (by decide)) 0 rfl q201 hd kk
noncomputable def F_J2_add (x0 : Int) (x1 : Int) (h : XH) : Option XR := ob h x0 26 <| ob h x0 26 <| nm (hset h x0 0 (w32 ((xv h x0 0) + 1))) fun h1 => ob h1 x0 26 <| ob h1 x0 26 <| ob h1 x0 26 <| mb (F_J2_add_2 x0 x1 (xv h1 x0 1) (xv h1 x0 2) h1) fun r2 h3 => some (1, h3)
theorem WF_J2_add {d : Nat} {Z : XZ XR} (hdd : 6 ≤ d) : ∀ x0 x1 h, XG xfh (xQ 0) RJ2 "add" cJ2_add 2 (some .boolean) d Z 0 [(0, (2, x0)), (1, (2, x1))] [] h (F_J2_add x0 x1 h) := by
  intro x0 x1 h
  unfold F_J2_add
  refine x_aload_n 0 dJ2_add_0 rfl rfl ?_
  refine x_dup dJ2_add_1 rfl ?_
  refine xg_J2_63 dJ2_add_2 ?_
  refine x_ic dJ2_add_5 (by decide) (by decide) ?_
  refine x_iadd dJ2_add_6 ?_
  refine xp_J2_63 dJ2_add_7 fun h1 => ?_
  refine x_aload_n 0 dJ2_add_10 rfl rfl ?_
  refine x_aload_n 1 dJ2_add_11 rfl rfl ?_
  refine x_aload_n 0 dJ2_add_12 rfl rfl ?_
  refine xg_J2_9 dJ2_add_13 ?_
  refine x_aload_n 0 dJ2_add_16 rfl rfl ?_
  refine xg_J2_48 dJ2_add_17 ?_
  refine cl_J2_131 (by omega) (Nat.le_of_ble_eq_true rfl) dJ2_add_20 fun r2 h3 => ?_
  refine x_ic dJ2_add_23 (by decide) (by decide) ?_
  exact x_cb (by decide) (x_zret rfl dJ2_add_24)
theorem SF_J2_add (l : Launch) {d : Nat} (hdd : 6 ≤ d) (x0 : Int) (x1 : Int) (h : XH) (hok : okH h) (ho : okXs (xn h) [(2, x0), (2, x1)]) (fin : XR) (hf : F_J2_add x0 x1 h = some fin) : xSpec l yJ2_add cJ2_add 2 (some .boolean) d 0 [(2, x0), (2, x1)] h fin := x_enter (lv := [(0, (2, x0)), (1, (2, x1))]) (by decide) rfl rfl (Nat.le_of_ble_eq_true rfl) rfl (fun Z _ => WF_J2_add hdd x0 x1 h) hok ho fin hf
theorem cl_X0_133 {ρ : Type} {fh : ρ → XH} {QQ : XZ ρ → State → Prop} {mn : String} {cc : ByteArray} {nL : Nat} {ret : Option FieldType} {d : Nat} {Z : XZ ρ} {pc : Nat} {lv : List (Nat × AV)} {st : List AV} {h : XH} {g : Int → XH → Option ρ} {b a0 : Int} (hdd : 2 ≤ d) (hcat : (st.map fun v => if v.1 = 1 then 2 else 1).sum ≤ 8) (hdg : decode cc pc = .ok (.invokevirtual 133, 3)) (kk : ∀ r h1, XG fh QQ RX0 mn cc nL ret d Z (pc + 3) lv ((0, r) :: st) h1 (g r h1)) : XG fh QQ RX0 mn cc nL ret d Z pc lv ((0, a0) :: (2, b) :: st) h (ob h b 1 (mb (F_X0_tell b a0 h) g)) :=
  x_callVi [(0, a0)] 1 (WF_X0_tell (Z := (Z.1, Z.2.1, ((0, h), h))) (Nat.le_refl 1) b a0 h).1 (fun hok ho fin hf => SF_X0_tell (yL Z) (Nat.le_refl 1) b a0 h hok ho fin hf) RX0 1 rfl (by decide) (lw_V q359 q361 qs1 q124 q362) ⟨rfl, by decide +kernel, by decide +kernel, by decide +kernel⟩ rfl (by omega) (by decide) rfl hcat hdg kk
theorem cl_X0_136 {ρ : Type} {fh : ρ → XH} {QQ : XZ ρ → State → Prop} {mn : String} {cc : ByteArray} {nL : Nat} {ret : Option FieldType} {d : Nat} {Z : XZ ρ} {pc : Nat} {lv : List (Nat × AV)} {st : List AV} {h : XH} {g : Int → XH → Option ρ} {b a0 a1 a2 : Int} (hdd : 2 ≤ d) (hcat : (st.map fun v => if v.1 = 1 then 2 else 1).sum ≤ 8) (hdg : decode cc pc = .ok (.invokespecial 136, 3)) (kk : ∀ r h1, XG fh QQ RX0 mn cc nL ret d Z (pc + 3) lv st h1 (g r h1)) : XG fh QQ RX0 mn cc nL ret d Z pc lv ((0, a2) :: (0, a1) :: (0, a0) :: (2, b) :: st) h (pz b (mb (F_X5_init b a0 a1 a2 h) g)) :=
  x_callIv [(0, a0), (0, a1), (0, a2)] 3 (WF_X5_init (Z := (Z.1, Z.2.1, ((0, h), h))) (Nat.le_refl 1) b a0 a1 a2 h).1 (fun hok ho fin hf => SF_X5_init (yL Z) (Nat.le_refl 1) b a0 a1 a2 h hok ho fin hf) (lw_meth q378) q133 q376 q377 rfl ⟨by decide +kernel, by decide +kernel, by decide +kernel⟩ rfl (by omega) (by decide) rfl hcat hdg kk
theorem cl_X0_139 {ρ : Type} {fh : ρ → XH} {QQ : XZ ρ → State → Prop} {mn : String} {cc : ByteArray} {nL : Nat} {ret : Option FieldType} {d : Nat} {Z : XZ ρ} {pc : Nat} {lv : List (Nat × AV)} {st : List AV} {h : XH} {g : Int → XH → Option ρ} {b a0 : Int} (hdd : 7 ≤ d) (hcat : (st.map fun v => if v.1 = 1 then 2 else 1).sum ≤ 8) (hdg : decode cc pc = .ok (.invokevirtual 139, 3)) (kk : ∀ r h1, XG fh QQ RX0 mn cc nL ret d Z (pc + 3) lv ((0, r) :: st) h1 (g r h1)) : XG fh QQ RX0 mn cc nL ret d Z pc lv ((2, a0) :: (2, b) :: st) h (ob h b 26 (mb (F_J2_add b a0 h) g)) :=
  x_callVi [(2, a0)] 1 (WF_J2_add (Z := (Z.1, Z.2.1, ((0, h), h))) (Nat.le_refl 6) b a0 h).1 (fun hok ho fin hf => SF_J2_add (yL Z) (Nat.le_refl 6) b a0 h hok ho fin hf) RJ2 26 rfl (by decide) (lw_V q410 q411 q412 q128 q413) ⟨rfl, by decide +kernel, by decide +kernel, by decide +kernel⟩ rfl (by omega) (by decide) rfl hcat hdg kk
theorem cl_X0_142 {ρ : Type} {fh : ρ → XH} {QQ : XZ ρ → State → Prop} {mn : String} {cc : ByteArray} {nL : Nat} {ret : Option FieldType} {d : Nat} {Z : XZ ρ} {pc : Nat} {lv : List (Nat × AV)} {st : List AV} {h : XH} {g : Int → XH → Option ρ} {b a0 : Int} (hdd : 2 ≤ d) (hcat : (st.map fun v => if v.1 = 1 then 2 else 1).sum ≤ 8) (hdg : decode cc pc = .ok (.invokevirtual 142, 3)) (kk : ∀ r h1, XG fh QQ RX0 mn cc nL ret d Z (pc + 3) lv ((0, r) :: st) h1 (g r h1)) : XG fh QQ RX0 mn cc nL ret d Z pc lv ((0, a0) :: (2, b) :: st) h (ob h b 1 (mb (F_X0_was b a0 h) g)) :=
  x_callVi [(0, a0)] 1 (WF_X0_was (Z := (Z.1, Z.2.1, ((0, h), h))) (Nat.le_refl 1) b a0 h).1 (fun hok ho fin hf => SF_X0_was (yL Z) (Nat.le_refl 1) b a0 h hok ho fin hf) RX0 1 rfl (by decide) (lw_V q483 q485 qs6 q124 q486) ⟨rfl, by decide +kernel, by decide +kernel, by decide +kernel⟩ rfl (by omega) (by decide) rfl hcat hdg kk
theorem xn_X0_33 {ρ : Type} {fh : ρ → XH} {QQ : XZ ρ → State → Prop} {mn : String} {cc : ByteArray} {nL : Nat} {ret : Option FieldType} {d : Nat} {Z : XZ ρ} {pc : Nat} {lv : List (Nat × AV)} {st : List AV} {h : XH} {f : Int → XH → Option ρ} (hd : decode cc pc = .ok (.new 33, 3)) (kk : ∀ r h1, XG fh QQ RX0 mn cc nL ret d Z (pc + 3) lv ((2, r) :: st) h1 (f r h1)) : XG fh QQ RX0 mn cc nL ret d Z pc lv st h (nw h 5 6 f) := x_new (C := RX5) 5 rfl in_X5 tyX5_ok (by decide) rfl (by decide) xfit_X5 q374 q375 q133 hd kk
noncomputable def F_X0_question_24 (x0 : Int) (h : XH) : Option XR := ob h x0 1 <| mb (F_X0_tell x0 (-1) h) fun r1 h2 => some (r1, h2)
theorem WF_X0_question_24 {d : Nat} {Z : XZ XR} (hdd : 7 ≤ d) : ∀ x0 h, XG xfh (xQ 0) RX0 "question" cX0_question 4 (some .int) d Z 24 [(0, (2, x0))] [] h (F_X0_question_24 x0 h) := by
  intro x0 h
  unfold F_X0_question_24
  refine x_aload_n 0 dX0_question_24 rfl rfl ?_
  refine x_ic dX0_question_25 (by decide) (by decide) ?_
  refine cl_X0_133 (by omega) (Nat.le_of_ble_eq_true rfl) dX0_question_26 fun r1 h2 => ?_
  exact x_iret rfl dX0_question_29
noncomputable def F_X0_question (x0 : Int) (x1 : Int) (x2 : Int) (h : XH) : Option XR := mb (F_X0_in x1 0 4 h) fun r1 h2 => if r1 = 0 then (F_X0_question_24 x0 h2) else (mb (F_X0_in x2 1 99 h2) fun r3 h4 => if r3 = 0 then (F_X0_question_24 x0 h4) else (ob h4 x0 1 <| mb (F_X0_many x0 h4) fun r5 h6 => if r5 = 20 then (ob h6 x0 1 <| mb (F_X0_tell x0 (-5) h6) fun r15 h16 => some (r15, h16)) else (ob h6 x0 1 <| ob h6 (xv h6 x0 0) 2 <| nw h6 5 6 fun r7 h8 => pz r7 <| mb (F_X5_init r7 r5 x1 x2 h8) fun r9 h10 => ob h10 (xv h6 (xv h6 x0 0) 0) 26 <| mb (F_J2_add (xv h6 (xv h6 x0 0) 0) r7 h10) fun r11 h12 => ob h12 x0 1 <| mb (F_X0_was x0 r5 h12) fun r13 h14 => some (r13, h14))))
theorem WF_X0_question {d : Nat} {Z : XZ XR} (hdd : 7 ≤ d) : ∀ x0 x1 x2 h, XG xfh (xQ 0) RX0 "question" cX0_question 4 (some .int) d Z 0 [(0, (2, x0)), (1, (0, x1)), (2, (0, x2))] [] h (F_X0_question x0 x1 x2 h) := by
  intro x0 x1 x2 h
  unfold F_X0_question
  refine x_iload_n 1 dX0_question_0 rfl rfl ?_
  refine x_i2l dX0_question_1 ?_
  refine x_l0 dX0_question_2 ?_
  refine x_ldc2 (n := 4) q357 dX0_question_3 (by decide +kernel) ⟨by decide, by decide⟩ ?_
  refine cl_X0_109 (by omega) (Nat.le_of_ble_eq_true rfl) dX0_question_6 fun r1 h2 => ?_
  refine x_if_eq 24 dX0_question_9 (by decide) (fun _ => ?_) (fun _ => ?_)
  · exact x_sub [0] rfl (WF_X0_question_24 hdd x0 h2)
  · refine x_iload_n 2 dX0_question_12 rfl rfl ?_
    refine x_i2l dX0_question_13 ?_
    refine x_l1 dX0_question_14 ?_
    refine x_ldc2 (n := 99) q358 dX0_question_15 (by decide +kernel) ⟨by decide, by decide⟩ ?_
    refine cl_X0_109 (by omega) (Nat.le_of_ble_eq_true rfl) dX0_question_18 fun r3 h4 => ?_
    refine x_if_ne 30 dX0_question_21 (by decide) (fun _ => ?_) (fun _ => ?_)
    · refine x_aload_n 0 dX0_question_30 rfl rfl ?_
      refine cl_X0_13 (by omega) (Nat.le_of_ble_eq_true rfl) dX0_question_31 fun r5 h6 => ?_
      refine x_istore_n (lv' := [(3, (0, r5)), (0, (2, x0)), (1, (0, x1)), (2, (0, x2))]) dX0_question_34 rfl (by decide) rfl ?_
      refine x_iload_n 0 dX0_question_35 rfl rfl ?_
      refine x_bp dX0_question_36 (by decide) (by decide) ?_
      refine x_icmp_ne 48 dX0_question_38 (by decide) (fun _ => ?_) (fun _ => ?_)
      · refine x_aload_n 1 dX0_question_48 rfl rfl ?_
        refine xg_X0_17 dX0_question_49 ?_
        refine xg_X0_21 dX0_question_52 ?_
        refine xn_X0_33 dX0_question_55 fun r7 h8 => ?_
        refine x_dup dX0_question_58 rfl ?_
        refine x_iload_n 0 dX0_question_59 rfl rfl ?_
        refine x_iload_n 2 dX0_question_60 rfl rfl ?_
        refine x_iload_n 3 dX0_question_61 rfl rfl ?_
        refine cl_X0_136 (by omega) (Nat.le_of_ble_eq_true rfl) dX0_question_62 fun r9 h10 => ?_
        refine cl_X0_139 (by omega) (Nat.le_of_ble_eq_true rfl) dX0_question_65 fun r11 h12 => ?_
        refine x_pop dX0_question_68 rfl ?_
        refine x_aload_n 1 dX0_question_69 rfl rfl ?_
        refine x_iload_n 0 dX0_question_70 rfl rfl ?_
        refine cl_X0_142 (by omega) (Nat.le_of_ble_eq_true rfl) dX0_question_71 fun r13 h14 => ?_
        exact x_iret rfl dX0_question_74
      · refine x_aload_n 1 dX0_question_41 rfl rfl ?_
        refine x_bp dX0_question_42 (by decide) (by decide) ?_
        refine cl_X0_133 (by omega) (Nat.le_of_ble_eq_true rfl) dX0_question_44 fun r15 h16 => ?_
        exact x_iret rfl dX0_question_47
    · exact x_sub [0] rfl (WF_X0_question_24 hdd x0 h4)
theorem SF_X0_question (l : Launch) {d : Nat} (hdd : 7 ≤ d) (x0 : Int) (x1 : Int) (x2 : Int) (h : XH) (hok : okH h) (ho : okXs (xn h) [(2, x0), (0, x1), (0, x2)]) (fin : XR) (hf : F_X0_question x0 x1 x2 h = some fin) : xSpec l yX0_question cX0_question 4 (some .int) d 0 [(2, x0), (0, x1), (0, x2)] h fin := x_enter (lv := [(0, (2, x0)), (1, (0, x1)), (2, (0, x2))]) (by decide) rfl rfl (Nat.le_of_ble_eq_true rfl) rfl (fun Z _ => WF_X0_question hdd x0 x1 x2 h) hok ho fin hf
theorem cl_X0_147 {ρ : Type} {fh : ρ → XH} {QQ : XZ ρ → State → Prop} {mn : String} {cc : ByteArray} {nL : Nat} {ret : Option FieldType} {d : Nat} {Z : XZ ρ} {pc : Nat} {lv : List (Nat × AV)} {st : List AV} {h : XH} {g : Int → XH → Option ρ} {b a0 : Int} (hdd : 5 ≤ d) (hcat : (st.map fun v => if v.1 = 1 then 2 else 1).sum ≤ 8) (hdg : decode cc pc = .ok (.invokevirtual 147, 3)) (kk : ∀ r h1, XG fh QQ RX0 mn cc nL ret d Z (pc + 3) lv ((2, r) :: st) h1 (g r h1)) : XG fh QQ RX0 mn cc nL ret d Z pc lv ((0, a0) :: (2, b) :: st) h (ob h b 1 (mb (F_X0_questionOf b a0 h) g)) :=
  x_callVr [(0, a0)] 1 (WF_X0_questionOf (Z := (Z.1, Z.2.1, ((0, h), h))) (Nat.le_refl 4) b a0 h).1 (fun hok ho fin hf => SF_X0_questionOf (yL Z) (Nat.le_refl 4) b a0 h hok ho fin hf) RX0 1 rfl (by decide) (lw_V q492 q494 qs7 q124 q495) ⟨rfl, by decide +kernel, by decide +kernel, by decide +kernel⟩ rfl (by omega) (by decide) rfl hcat hdg kk
theorem xg_X0_154 {ρ : Type} {fh : ρ → XH} {QQ : XZ ρ → State → Prop} {mn : String} {cc : ByteArray} {nL : Nat} {ret : Option FieldType} {d : Nat} {Z : XZ ρ} {pc : Nat} {lv : List (Nat × AV)} {st : List AV} {h : XH} {res : Option ρ} {a : Int} (hd : decode cc pc = .ok (.getfield 154, 3)) (kk : XG fh QQ RX0 mn cc nL ret d Z (pc + 3) lv ((0, xv h a 1) :: st) h res) : XG fh QQ RX0 mn cc nL ret d Z pc lv ((2, a) :: st) h (ob h a 5 res) := x_getN (C := RX5) (ref := RX5) 5 1 rfl in_X5 (by decide) rfl (by decide) (Or.inl rfl) q387 hd kk
theorem xg_X0_157 {ρ : Type} {fh : ρ → XH} {QQ : XZ ρ → State → Prop} {mn : String} {cc : ByteArray} {nL : Nat} {ret : Option FieldType} {d : Nat} {Z : XZ ρ} {pc : Nat} {lv : List (Nat × AV)} {st : List AV} {h : XH} {res : Option ρ} {a : Int} (hd : decode cc pc = .ok (.getfield 157, 3)) (kk : XG fh QQ RX0 mn cc nL ret d Z (pc + 3) lv ((0, xv h a 2) :: st) h res) : XG fh QQ RX0 mn cc nL ret d Z pc lv ((2, a) :: st) h (ob h a 5 res) := x_getN (C := RX5) (ref := RX5) 5 2 rfl in_X5 (by decide) rfl (by decide) (Or.inl rfl) q389 hd kk
noncomputable def F_X0_of (x0 : Int) (x1 : Int) (x2 : Int) (h : XH) : Option XR := ob h x0 1 <| mb (F_X0_questionOf x0 x1 h) fun r1 h2 => if r1 = 0 then (some ((-1), h2)) else (if x2 = 0 then (ob h2 r1 5 <| some (xv h2 r1 1, h2)) else if x2 = 1 then (ob h2 r1 5 <| some (xv h2 r1 2, h2)) else if x2 = 2 then (ob h2 r1 5 <| some (xv h2 r1 3, h2)) else if x2 = 3 then (ob h2 r1 5 <| nm (α := Int) (if xv h2 r1 4 = 0 then 0 else 1) fun v3 => some (v3, h2)) else if x2 = 4 then (ob h2 r1 5 <| nm (α := Int) (if xv h2 r1 5 = 0 then 0 else 1) fun v4 => some (v4, h2)) else (some ((-1), h2)))
theorem WF_X0_of {d : Nat} {Z : XZ XR} (hdd : 5 ≤ d) : ∀ x0 x1 x2 h, XG xfh (xQ 0) RX0 "of" cX0_of 4 (some .int) d Z 0 [(0, (2, x0)), (1, (0, x1)), (2, (0, x2))] [] h (F_X0_of x0 x1 x2 h) := by
  intro x0 x1 x2 h
  unfold F_X0_of
  refine x_aload_n 0 dX0_of_0 rfl rfl ?_
  refine x_iload_n 1 dX0_of_1 rfl rfl ?_
  refine cl_X0_147 (by omega) (Nat.le_of_ble_eq_true rfl) dX0_of_2 fun r1 h2 => ?_
  refine x_astore_n (lv' := [(3, (2, r1)), (0, (2, x0)), (1, (0, x1)), (2, (0, x2))]) dX0_of_5 rfl (by decide) rfl ?_
  refine x_aload_n 0 dX0_of_6 rfl rfl ?_
  refine x_ifnonnull 12 dX0_of_7 (by decide) (fun _ => ?_) (fun _ => ?_)
  · refine x_ic dX0_of_10 (by decide) (by decide) ?_
    exact x_iret rfl dX0_of_11
  · refine x_iload_n 3 dX0_of_12 rfl rfl ?_
    refine x_tswC (c := 0) 48 dX0_of_13 ⟨by decide, by decide⟩ (by decide) (by decide) rfl (by decide) (fun _ => ?_) (fun _ => ?_)
    · refine x_aload_n 0 dX0_of_48 rfl rfl ?_
      refine xg_X0_154 dX0_of_49 ?_
      exact x_iret rfl dX0_of_52
    refine x_tswC (c := 1) 53 dX0_of_13 ⟨by decide, by decide⟩ (by decide) (by decide) rfl (by decide) (fun _ => ?_) (fun _ => ?_)
    · refine x_aload_n 0 dX0_of_53 rfl rfl ?_
      refine xg_X0_157 dX0_of_54 ?_
      exact x_iret rfl dX0_of_57
    refine x_tswC (c := 2) 58 dX0_of_13 ⟨by decide, by decide⟩ (by decide) (by decide) rfl (by decide) (fun _ => ?_) (fun _ => ?_)
    · refine x_aload_n 0 dX0_of_58 rfl rfl ?_
      refine xg_X0_39 dX0_of_59 ?_
      exact x_iret rfl dX0_of_62
    refine x_tswC (c := 3) 63 dX0_of_13 ⟨by decide, by decide⟩ (by decide) (by decide) rfl (by decide) (fun _ => ?_) (fun _ => ?_)
    · refine x_aload_n 0 dX0_of_63 rfl rfl ?_
      refine xg_X0_43 dX0_of_64 ?_
      refine x_join 75 (fun v3 => [(0, v3)]) (fun v3 => ?_) (fun hJ => ?_)
      · exact x_iret rfl dX0_of_75
      · refine x_if_eqF 74 dX0_of_67 (by decide) (fun _ => ?_) (fun _ => ?_)
        · refine x_ic dX0_of_74 (by decide) (by decide) ?_
          exact hJ _
        · refine x_ic dX0_of_70 (by decide) (by decide) ?_
          refine x_goto 75 dX0_of_71 (by decide) ?_
          exact hJ _
    refine x_tswC (c := 4) 76 dX0_of_13 ⟨by decide, by decide⟩ (by decide) (by decide) rfl (by decide) (fun _ => ?_) (fun _ => ?_)
    · refine x_aload_n 0 dX0_of_76 rfl rfl ?_
      refine xg_X0_35 dX0_of_77 ?_
      refine x_join 88 (fun v4 => [(0, v4)]) (fun v4 => ?_) (fun hJ => ?_)
      · exact x_iret rfl dX0_of_88
      · refine x_if_eqF 87 dX0_of_80 (by decide) (fun _ => ?_) (fun _ => ?_)
        · refine x_ic dX0_of_87 (by decide) (by decide) ?_
          exact hJ _
        · refine x_ic dX0_of_83 (by decide) (by decide) ?_
          refine x_goto 88 dX0_of_84 (by decide) ?_
          exact hJ _
    refine x_tswO 89 dX0_of_13 (by omega) (by decide) ?_
    refine x_ic dX0_of_89 (by decide) (by decide) ?_
    exact x_iret rfl dX0_of_90
theorem SF_X0_of (l : Launch) {d : Nat} (hdd : 5 ≤ d) (x0 : Int) (x1 : Int) (x2 : Int) (h : XH) (hok : okH h) (ho : okXs (xn h) [(2, x0), (0, x1), (0, x2)]) (fin : XR) (hf : F_X0_of x0 x1 x2 h = some fin) : xSpec l yX0_of cX0_of 4 (some .int) d 0 [(2, x0), (0, x1), (0, x2)] h fin := x_enter (lv := [(0, (2, x0)), (1, (0, x1)), (2, (0, x2))]) (by decide) rfl rfl (Nat.le_of_ble_eq_true rfl) rfl (fun Z _ => WF_X0_of hdd x0 x1 x2 h) hok ho fin hf
theorem cl_X0_151 {ρ : Type} {fh : ρ → XH} {QQ : XZ ρ → State → Prop} {mn : String} {cc : ByteArray} {nL : Nat} {ret : Option FieldType} {d : Nat} {Z : XZ ρ} {pc : Nat} {lv : List (Nat × AV)} {st : List AV} {h : XH} {g : Int → XH → Option ρ} {b a0 a1 : Int} (hdd : 6 ≤ d) (hcat : (st.map fun v => if v.1 = 1 then 2 else 1).sum ≤ 8) (hdg : decode cc pc = .ok (.invokevirtual 151, 3)) (kk : ∀ r h1, XG fh QQ RX0 mn cc nL ret d Z (pc + 3) lv ((0, r) :: st) h1 (g r h1)) : XG fh QQ RX0 mn cc nL ret d Z pc lv ((0, a1) :: (0, a0) :: (2, b) :: st) h (ob h b 1 (mb (F_X0_of b a0 a1 h) g)) :=
  x_callVi [(0, a0), (0, a1)] 2 (WF_X0_of (Z := (Z.1, Z.2.1, ((0, h), h))) (Nat.le_refl 5) b a0 a1 h).1 (fun hok ho fin hf => SF_X0_of (yL Z) (Nat.le_refl 5) b a0 a1 h hok ho fin hf) RX0 1 rfl (by decide) (lw_V q510 q511 q512 q124 q513) ⟨rfl, by decide +kernel, by decide +kernel, by decide +kernel⟩ rfl (by omega) (by decide) rfl hcat hdg kk
noncomputable def F_X0_know_32 (x0 : Int) (h : XH) : Option XR := ob h x0 1 <| mb (F_X0_tell x0 (-1) h) fun r1 h2 => some (r1, h2)
theorem WF_X0_know_32 {d : Nat} {Z : XZ XR} (hdd : 6 ≤ d) : ∀ x0 h, XG xfh (xQ 0) RX0 "know" cX0_know 6 (some .int) d Z 32 [(0, (2, x0))] [] h (F_X0_know_32 x0 h) := by
  intro x0 h
  unfold F_X0_know_32
  refine x_aload_n 0 dX0_know_32 rfl rfl ?_
  refine x_ic dX0_know_33 (by decide) (by decide) ?_
  refine cl_X0_133 (by omega) (Nat.le_of_ble_eq_true rfl) dX0_know_34 fun r1 h2 => ?_
  exact x_iret rfl dX0_know_37
noncomputable def F_X0_know_138 (x0 : Int) (x5 : Int) (h : XH) : Option XR := ob h x0 1 <| mb (F_X0_was x0 x5 h) fun r1 h2 => some (r1, h2)
theorem WF_X0_know_138 {d : Nat} {Z : XZ XR} (hdd : 6 ≤ d) : ∀ x0 x5 h, XG xfh (xQ 0) RX0 "know" cX0_know 6 (some .int) d Z 138 [(0, (2, x0)), (5, (0, x5))] [] h (F_X0_know_138 x0 x5 h) := by
  intro x0 x5 h
  unfold F_X0_know_138
  refine x_aload_n 0 dX0_know_138 rfl rfl ?_
  refine x_iload 1 dX0_know_139 rfl ?_
  refine cl_X0_142 (by omega) (Nat.le_of_ble_eq_true rfl) dX0_know_141 fun r1 h2 => ?_
  exact x_iret rfl dX0_know_144
noncomputable def F_X0_know_26 (s0 : Int) (s1 : Int) (s2 : Int) (x0 : Int) (x1 : Int) (x2 : Int) (x3 : Int) (h : XH) : Option XR := mb (F_X0_in s0 s1 s2 h) fun r1 h2 => if r1 = 0 then (F_X0_know_32 x0 h2) else (ob h2 x0 1 <| mb (F_X0_questionOf x0 x1 h2) fun r3 h4 => if r3 = 0 then (ob h4 x0 1 <| mb (F_X0_tell x0 (-2) h4) fun r5 h6 => some (r5, h6)) else (ob h4 x0 1 <| mb (F_X0_of x0 x1 (w32 (x2 + 2)) h4) fun r7 h8 => none))
theorem WF_X0_know_26 {d : Nat} {Z : XZ XR} (hdd : 6 ≤ d) : ∀ s0 s1 s2 x0 x1 x2 x3 h, XG xfh (xQ 0) RX0 "know" cX0_know 6 (some .int) d Z 26 [(0, (2, x0)), (1, (0, x1)), (2, (0, x2)), (3, (0, x3))] [(1, s2), (1, s1), (1, s0)] h (F_X0_know_26 s0 s1 s2 x0 x1 x2 x3 h) := by
  intro s0 s1 s2 x0 x1 x2 x3 h
  unfold F_X0_know_26
  refine cl_X0_109 (by omega) (Nat.le_of_ble_eq_true rfl) dX0_know_26 fun r1 h2 => ?_
  refine x_if_ne 38 dX0_know_29 (by decide) (fun _ => ?_) (fun _ => ?_)
  · refine x_aload_n 0 dX0_know_38 rfl rfl ?_
    refine x_iload_n 1 dX0_know_39 rfl rfl ?_
    refine cl_X0_147 (by omega) (Nat.le_of_ble_eq_true rfl) dX0_know_40 fun r3 h4 => ?_
    refine x_astore (lv' := [(4, (2, r3)), (0, (2, x0)), (1, (0, x1)), (2, (0, x2)), (3, (0, x3))]) dX0_know_43 (by decide) rfl ?_
    refine x_aload 0 dX0_know_45 rfl ?_
    refine x_ifnonnull 57 dX0_know_47 (by decide) (fun _ => ?_) (fun _ => ?_)
    · refine x_aload_n 1 dX0_know_50 rfl rfl ?_
      refine x_bp dX0_know_51 (by decide) (by decide) ?_
      refine cl_X0_133 (by omega) (Nat.le_of_ble_eq_true rfl) dX0_know_53 fun r5 h6 => ?_
      exact x_iret rfl dX0_know_56
    · refine x_aload_n 1 dX0_know_57 rfl rfl ?_
      refine x_iload_n 2 dX0_know_58 rfl rfl ?_
      refine x_iload_n 3 dX0_know_59 rfl rfl ?_
      refine x_ic dX0_know_60 (by decide) (by decide) ?_
      refine x_iadd dX0_know_61 ?_
      refine cl_X0_151 (by omega) (Nat.le_of_ble_eq_true rfl) dX0_know_62 fun r7 h8 => ?_
      refine x_istore (lv' := [(5, (0, r7)), (4, (2, r3)), (0, (2, x0)), (1, (0, x1)), (2, (0, x2)), (3, (0, x3))]) dX0_know_65 (by decide) rfl ?_
      refine x_iload_n 4 dX0_know_67 rfl rfl ?_
      exact x_none
  · exact x_sub [0] rfl (WF_X0_know_32 hdd x0 h2)
noncomputable def F_X0_know (x0 : Int) (x1 : Int) (x2 : Int) (x3 : Int) (h : XH) : Option XR := mb (F_X0_in x2 0 2 h) fun r1 h2 => if r1 = 0 then (F_X0_know_32 x0 h2) else (if x2 = 0 then (F_X0_know_26 x3 0 2 x0 x1 x2 x3 h2) else (F_X0_know_26 x3 0 1 x0 x1 x2 x3 h2))
theorem WF_X0_know {d : Nat} {Z : XZ XR} (hdd : 6 ≤ d) : ∀ x0 x1 x2 x3 h, XG xfh (xQ 0) RX0 "know" cX0_know 6 (some .int) d Z 0 [(0, (2, x0)), (1, (0, x1)), (2, (0, x2)), (3, (0, x3))] [] h (F_X0_know x0 x1 x2 x3 h) := by
  intro x0 x1 x2 x3 h
  unfold F_X0_know
  refine x_iload_n 2 dX0_know_0 rfl rfl ?_
  refine x_i2l dX0_know_1 ?_
  refine x_l0 dX0_know_2 ?_
  refine x_ldc2 (n := 2) q491 dX0_know_3 (by decide +kernel) ⟨by decide, by decide⟩ ?_
  refine cl_X0_109 (by omega) (Nat.le_of_ble_eq_true rfl) dX0_know_6 fun r1 h2 => ?_
  refine x_if_eq 32 dX0_know_9 (by decide) (fun _ => ?_) (fun _ => ?_)
  · exact x_sub [0] rfl (WF_X0_know_32 hdd x0 h2)
  · refine x_iload_n 3 dX0_know_12 rfl rfl ?_
    refine x_i2l dX0_know_13 ?_
    refine x_l0 dX0_know_14 ?_
    refine x_iload_n 2 dX0_know_15 rfl rfl ?_
    refine x_if_ne 25 dX0_know_16 (by decide) (fun _ => ?_) (fun _ => ?_)
    · refine x_l1 dX0_know_25 ?_
      exact x_sub [0, 1, 2, 3] rfl (WF_X0_know_26 hdd x3 0 1 x0 x1 x2 x3 h2)
    · refine x_ldc2 (n := 2) q491 dX0_know_19 (by decide +kernel) ⟨by decide, by decide⟩ ?_
      refine x_goto 26 dX0_know_22 (by decide) ?_
      exact x_sub [0, 1, 2, 3] rfl (WF_X0_know_26 hdd x3 0 2 x0 x1 x2 x3 h2)
theorem SF_X0_know (l : Launch) {d : Nat} (hdd : 6 ≤ d) (x0 : Int) (x1 : Int) (x2 : Int) (x3 : Int) (h : XH) (hok : okH h) (ho : okXs (xn h) [(2, x0), (0, x1), (0, x2), (0, x3)]) (fin : XR) (hf : F_X0_know x0 x1 x2 x3 h = some fin) : xSpec l yX0_know cX0_know 6 (some .int) d 0 [(2, x0), (0, x1), (0, x2), (0, x3)] h fin := x_enter (lv := [(0, (2, x0)), (1, (0, x1)), (2, (0, x2)), (3, (0, x3))]) (by decide) rfl rfl (Nat.le_of_ble_eq_true rfl) rfl (fun Z _ => WF_X0_know hdd x0 x1 x2 x3 h) hok ho fin hf
noncomputable def F_X0_isTerm (x0 : Int) (x1 : Int) (h : XH) : Option XR := if x0 = 0 then (mb (F_X0_in x1 1 10 h) fun r1 h2 => cb r1 (some (r1, h2))) else if x0 = 1 then (mb (F_X0_in x1 1 3 h) fun r3 h4 => cb r3 (some (r3, h4))) else if x0 = 2 then (mb (F_X0_in x1 1 3 h) fun r5 h6 => cb r5 (some (r5, h6))) else if x0 = 3 then (mb (F_X0_in x1 0 100 h) fun r7 h8 => cb r7 (some (r7, h8))) else if x0 = 4 then (mb (F_X0_in x1 0 100 h) fun r9 h10 => cb r9 (some (r9, h10))) else if x0 = 5 then (mb (F_X0_in x1 1 20 h) fun r11 h12 => cb r11 (some (r11, h12))) else if x0 = 6 then (mb (F_X0_in x1 0 16 h) fun r13 h14 => cb r13 (some (r13, h14))) else (some (0, h))
theorem WF_X0_isTerm {d : Nat} {Z : XZ XR} (hdd : 2 ≤ d) : ∀ x0 x1 h, XG xfh (xQ 0) RX0 "isTerm" cX0_isTerm 2 (some .boolean) d Z 0 [(0, (0, x0)), (1, (0, x1))] [] h (F_X0_isTerm x0 x1 h) := by
  intro x0 x1 h
  unfold F_X0_isTerm
  refine x_iload_n 0 dX0_isTerm_0 rfl rfl ?_
  refine x_tswC (c := 0) 44 dX0_isTerm_1 ⟨by decide, by decide⟩ (by decide) (by decide) rfl (by decide) (fun _ => ?_) (fun _ => ?_)
  · refine x_iload_n 1 dX0_isTerm_44 rfl rfl ?_
    refine x_i2l dX0_isTerm_45 ?_
    refine x_l1 dX0_isTerm_46 ?_
    refine x_ldc2 (n := 10) q522 dX0_isTerm_47 (by decide +kernel) ⟨by decide, by decide⟩ ?_
    refine cl_X0_109 (by omega) (Nat.le_of_ble_eq_true rfl) dX0_isTerm_50 fun r1 h2 => ?_
    exact x_zret rfl dX0_isTerm_53
  refine x_tswC (c := 1) 54 dX0_isTerm_1 ⟨by decide, by decide⟩ (by decide) (by decide) rfl (by decide) (fun _ => ?_) (fun _ => ?_)
  · refine x_iload_n 1 dX0_isTerm_54 rfl rfl ?_
    refine x_i2l dX0_isTerm_55 ?_
    refine x_l1 dX0_isTerm_56 ?_
    refine x_ldc2 (n := 3) q523 dX0_isTerm_57 (by decide +kernel) ⟨by decide, by decide⟩ ?_
    refine cl_X0_109 (by omega) (Nat.le_of_ble_eq_true rfl) dX0_isTerm_60 fun r3 h4 => ?_
    exact x_zret rfl dX0_isTerm_63
  refine x_tswC (c := 2) 64 dX0_isTerm_1 ⟨by decide, by decide⟩ (by decide) (by decide) rfl (by decide) (fun _ => ?_) (fun _ => ?_)
  · refine x_iload_n 1 dX0_isTerm_64 rfl rfl ?_
    refine x_i2l dX0_isTerm_65 ?_
    refine x_l1 dX0_isTerm_66 ?_
    refine x_ldc2 (n := 3) q523 dX0_isTerm_67 (by decide +kernel) ⟨by decide, by decide⟩ ?_
    refine cl_X0_109 (by omega) (Nat.le_of_ble_eq_true rfl) dX0_isTerm_70 fun r5 h6 => ?_
    exact x_zret rfl dX0_isTerm_73
  refine x_tswC (c := 3) 74 dX0_isTerm_1 ⟨by decide, by decide⟩ (by decide) (by decide) rfl (by decide) (fun _ => ?_) (fun _ => ?_)
  · refine x_iload_n 1 dX0_isTerm_74 rfl rfl ?_
    refine x_i2l dX0_isTerm_75 ?_
    refine x_l0 dX0_isTerm_76 ?_
    refine x_ldc2 (n := 100) q524 dX0_isTerm_77 (by decide +kernel) ⟨by decide, by decide⟩ ?_
    refine cl_X0_109 (by omega) (Nat.le_of_ble_eq_true rfl) dX0_isTerm_80 fun r7 h8 => ?_
    exact x_zret rfl dX0_isTerm_83
  refine x_tswC (c := 4) 84 dX0_isTerm_1 ⟨by decide, by decide⟩ (by decide) (by decide) rfl (by decide) (fun _ => ?_) (fun _ => ?_)
  · refine x_iload_n 1 dX0_isTerm_84 rfl rfl ?_
    refine x_i2l dX0_isTerm_85 ?_
    refine x_l0 dX0_isTerm_86 ?_
    refine x_ldc2 (n := 100) q524 dX0_isTerm_87 (by decide +kernel) ⟨by decide, by decide⟩ ?_
    refine cl_X0_109 (by omega) (Nat.le_of_ble_eq_true rfl) dX0_isTerm_90 fun r9 h10 => ?_
    exact x_zret rfl dX0_isTerm_93
  refine x_tswC (c := 5) 94 dX0_isTerm_1 ⟨by decide, by decide⟩ (by decide) (by decide) rfl (by decide) (fun _ => ?_) (fun _ => ?_)
  · refine x_iload_n 1 dX0_isTerm_94 rfl rfl ?_
    refine x_i2l dX0_isTerm_95 ?_
    refine x_l1 dX0_isTerm_96 ?_
    refine x_ldc2 (n := 20) q525 dX0_isTerm_97 (by decide +kernel) ⟨by decide, by decide⟩ ?_
    refine cl_X0_109 (by omega) (Nat.le_of_ble_eq_true rfl) dX0_isTerm_100 fun r11 h12 => ?_
    exact x_zret rfl dX0_isTerm_103
  refine x_tswC (c := 6) 104 dX0_isTerm_1 ⟨by decide, by decide⟩ (by decide) (by decide) rfl (by decide) (fun _ => ?_) (fun _ => ?_)
  · refine x_iload_n 1 dX0_isTerm_104 rfl rfl ?_
    refine x_i2l dX0_isTerm_105 ?_
    refine x_l0 dX0_isTerm_106 ?_
    refine x_ldc2 (n := 16) q526 dX0_isTerm_107 (by decide +kernel) ⟨by decide, by decide⟩ ?_
    refine cl_X0_109 (by omega) (Nat.le_of_ble_eq_true rfl) dX0_isTerm_110 fun r13 h14 => ?_
    exact x_zret rfl dX0_isTerm_113
  refine x_tswO 114 dX0_isTerm_1 (by omega) (by decide) ?_
  refine x_ic dX0_isTerm_114 (by decide) (by decide) ?_
  exact x_cb (by decide) (x_zret rfl dX0_isTerm_115)
theorem SF_X0_isTerm (l : Launch) {d : Nat} (hdd : 2 ≤ d) (x0 : Int) (x1 : Int) (h : XH) (hok : okH h) (ho : okXs (xn h) [(0, x0), (0, x1)]) (fin : XR) (hf : F_X0_isTerm x0 x1 h = some fin) : xSpec l yX0_isTerm cX0_isTerm 2 (some .boolean) d 0 [(0, x0), (0, x1)] h fin := x_enter (lv := [(0, (0, x0)), (1, (0, x1))]) (by decide) rfl rfl (Nat.le_of_ble_eq_true rfl) rfl (fun Z _ => WF_X0_isTerm hdd x0 x1 h) hok ho fin hf
theorem cl_X0_170 {ρ : Type} {fh : ρ → XH} {QQ : XZ ρ → State → Prop} {mn : String} {cc : ByteArray} {nL : Nat} {ret : Option FieldType} {d : Nat} {Z : XZ ρ} {pc : Nat} {lv : List (Nat × AV)} {st : List AV} {h : XH} {g : Int → XH → Option ρ} {a0 a1 : Int} (hdd : 3 ≤ d) (hcat : (st.map fun v => if v.1 = 1 then 2 else 1).sum ≤ 8) (hdg : decode cc pc = .ok (.invokestatic 170, 3)) (kk : ∀ r h1, XG fh QQ RX0 mn cc nL ret d Z (pc + 3) lv ((0, r) :: st) h1 (g r h1)) : XG fh QQ RX0 mn cc nL ret d Z pc lv ((0, a1) :: (0, a0) :: st) h (mb (F_X0_isTerm a0 a1 h) g) :=
  x_callSi [(0, a0), (0, a1)] 2 (WF_X0_isTerm (Z := (Z.1, Z.2.1, ((0, h), h))) (Nat.le_refl 2) a0 a1 h).1 (fun hok ho fin hf => SF_X0_isTerm (yL Z) (Nat.le_refl 2) a0 a1 h hok ho fin hf) (lw_S q519 q520 q124 q521) ⟨by decide +kernel, by decide +kernel, by decide +kernel⟩ rfl (by omega) (by decide) rfl hcat hdg kk
theorem xg_X0_174 {ρ : Type} {fh : ρ → XH} {QQ : XZ ρ → State → Prop} {mn : String} {cc : ByteArray} {nL : Nat} {ret : Option FieldType} {d : Nat} {Z : XZ ρ} {pc : Nat} {lv : List (Nat × AV)} {st : List AV} {h : XH} {res : Option ρ} {a : Int} (hd : decode cc pc = .ok (.getfield 174, 3)) (kk : XG fh QQ RX0 mn cc nL ret d Z (pc + 3) lv ((2, xv h a 3) :: st) h res) : XG fh QQ RX0 mn cc nL ret d Z pc lv ((2, a) :: st) h (ob h a 2 res) := x_getN (C := RX1) (ref := RX1) 2 3 rfl in_X1 (by decide) rfl (by decide) (Or.inl rfl) q225 hd kk
noncomputable def F_X0_terms (x0 : Int) (x1 : Int) (x2 : Int) (h : XH) : Option XR := mb (F_X0_isTerm x1 x2 h) fun r1 h2 => if r1 = 0 then (ob h2 x0 1 <| mb (F_X0_tell x0 (-1) h2) fun r7 h8 => some (r7, h8)) else (ob h2 x0 1 <| ob h2 (xv h2 x0 0) 2 <| ai h2 (xv h2 (xv h2 x0 0) 3) 0 x1 <| nm (α := Int) (xv h2 (xv h2 (xv h2 x0 0) 3) x1) fun v3 => ob h2 x0 1 <| ob h2 (xv h2 x0 0) 2 <| ai h2 (xv h2 (xv h2 x0 0) 3) 0 x1 <| nm (hset h2 (xv h2 (xv h2 x0 0) 3) x1 x2) fun h4 => ob h4 x0 1 <| mb (F_X0_was x0 v3 h4) fun r5 h6 => some (r5, h6))
theorem WF_X0_terms {d : Nat} {Z : XZ XR} (hdd : 3 ≤ d) : ∀ x0 x1 x2 h, XG xfh (xQ 0) RX0 "terms" cX0_terms 4 (some .int) d Z 0 [(0, (2, x0)), (1, (0, x1)), (2, (0, x2))] [] h (F_X0_terms x0 x1 x2 h) := by
  intro x0 x1 x2 h
  unfold F_X0_terms
  refine x_iload_n 1 dX0_terms_0 rfl rfl ?_
  refine x_iload_n 2 dX0_terms_1 rfl rfl ?_
  refine cl_X0_170 (by omega) (Nat.le_of_ble_eq_true rfl) dX0_terms_2 fun r1 h2 => ?_
  refine x_if_ne 14 dX0_terms_5 (by decide) (fun _ => ?_) (fun _ => ?_)
  · refine x_aload_n 0 dX0_terms_14 rfl rfl ?_
    refine xg_X0_17 dX0_terms_15 ?_
    refine xg_X0_174 dX0_terms_18 ?_
    refine x_iload_n 1 dX0_terms_21 rfl rfl ?_
    refine x_iald dX0_terms_22 ?_
    refine x_nmT fun v3 => ?_
    refine x_istore_n (lv' := [(3, (0, v3)), (0, (2, x0)), (1, (0, x1)), (2, (0, x2))]) dX0_terms_23 rfl (by decide) rfl ?_
    refine x_aload_n 1 dX0_terms_24 rfl rfl ?_
    refine xg_X0_17 dX0_terms_25 ?_
    refine xg_X0_174 dX0_terms_28 ?_
    refine x_iload_n 2 dX0_terms_31 rfl rfl ?_
    refine x_iload_n 3 dX0_terms_32 rfl rfl ?_
    refine x_iast dX0_terms_33 fun h4 => ?_
    refine x_aload_n 1 dX0_terms_34 rfl rfl ?_
    refine x_iload_n 0 dX0_terms_35 rfl rfl ?_
    refine cl_X0_142 (by omega) (Nat.le_of_ble_eq_true rfl) dX0_terms_36 fun r5 h6 => ?_
    exact x_iret rfl dX0_terms_39
  · refine x_aload_n 0 dX0_terms_8 rfl rfl ?_
    refine x_ic dX0_terms_9 (by decide) (by decide) ?_
    refine cl_X0_133 (by omega) (Nat.le_of_ble_eq_true rfl) dX0_terms_10 fun r7 h8 => ?_
    exact x_iret rfl dX0_terms_13
theorem SF_X0_terms (l : Launch) {d : Nat} (hdd : 3 ≤ d) (x0 : Int) (x1 : Int) (x2 : Int) (h : XH) (hok : okH h) (ho : okXs (xn h) [(2, x0), (0, x1), (0, x2)]) (fin : XR) (hf : F_X0_terms x0 x1 x2 h = some fin) : xSpec l yX0_terms cX0_terms 4 (some .int) d 0 [(2, x0), (0, x1), (0, x2)] h fin := x_enter (lv := [(0, (2, x0)), (1, (0, x1)), (2, (0, x2))]) (by decide) rfl rfl (Nat.le_of_ble_eq_true rfl) rfl (fun Z _ => WF_X0_terms hdd x0 x1 x2 h) hok ho fin hf
theorem xg_X0_82 {ρ : Type} {fh : ρ → XH} {QQ : XZ ρ → State → Prop} {mn : String} {cc : ByteArray} {nL : Nat} {ret : Option FieldType} {d : Nat} {Z : XZ ρ} {pc : Nat} {lv : List (Nat × AV)} {st : List AV} {h : XH} {res : Option ρ} {a : Int} (hd : decode cc pc = .ok (.getfield 82, 3)) (kk : XG fh QQ RX0 mn cc nL ret d Z (pc + 3) lv ((0, xv h a 6) :: st) h res) : XG fh QQ RX0 mn cc nL ret d Z pc lv ((2, a) :: st) h (ob h a 1 res) := x_get (C := RX0) (ref := RX0) 1 6 rfl in_X0 (by decide) rfl (by decide) (Or.inl rfl) q300 hd kk
noncomputable def F_X0_fault (x0 : Int) (h : XH) : Option XR := ob h x0 1 <| some (xv h x0 6, h)
theorem WF_X0_fault {d : Nat} {Z : XZ XR} (hdd : 1 ≤ d) : ∀ x0 h, XG xfh (xQ 0) RX0 "fault" cX0_fault 1 (some .int) d Z 0 [(0, (2, x0))] [] h (F_X0_fault x0 h) := by
  intro x0 h
  unfold F_X0_fault
  refine x_aload_n 0 dX0_fault_0 rfl rfl ?_
  refine xg_X0_82 dX0_fault_1 ?_
  exact x_iret rfl dX0_fault_4
theorem SF_X0_fault (l : Launch) {d : Nat} (hdd : 1 ≤ d) (x0 : Int) (h : XH) (hok : okH h) (ho : okXs (xn h) [(2, x0)]) (fin : XR) (hf : F_X0_fault x0 h = some fin) : xSpec l yX0_fault cX0_fault 1 (some .int) d 0 [(2, x0)] h fin := x_enter (lv := [(0, (2, x0))]) (by decide) rfl rfl (Nat.le_of_ble_eq_true rfl) rfl (fun Z _ => WF_X0_fault hdd x0 h) hok ho fin hf
theorem cl_X0_189 {ρ : Type} {fh : ρ → XH} {QQ : XZ ρ → State → Prop} {mn : String} {cc : ByteArray} {nL : Nat} {ret : Option FieldType} {d : Nat} {Z : XZ ρ} {pc : Nat} {lv : List (Nat × AV)} {st : List AV} {h : XH} {g : Int → XH → Option ρ} {b a0 : Int} (hdd : 3 ≤ d) (hcat : (st.map fun v => if v.1 = 1 then 2 else 1).sum ≤ 8) (hdg : decode cc pc = .ok (.invokevirtual 189, 3)) (kk : ∀ r h1, XG fh QQ RX0 mn cc nL ret d Z (pc + 3) lv ((0, r) :: st) h1 (g r h1)) : XG fh QQ RX0 mn cc nL ret d Z pc lv ((0, a0) :: (2, b) :: st) h (ob h b 1 (mb (F_X0_isPaper b a0 h) g)) :=
  x_callVi [(0, a0)] 1 (WF_X0_isPaper (Z := (Z.1, Z.2.1, ((0, h), h))) (Nat.le_refl 2) b a0 h).1 (fun hok ho fin hf => SF_X0_isPaper (yL Z) (Nat.le_refl 2) b a0 h hok ho fin hf) RX0 1 rfl (by decide) (lw_V q901 q903 qs27 q124 q904) ⟨rfl, by decide +kernel, by decide +kernel, by decide +kernel⟩ rfl (by omega) (by decide) rfl hcat hdg kk
theorem xp_X0_116 {ρ : Type} {fh : ρ → XH} {QQ : XZ ρ → State → Prop} {mn : String} {cc : ByteArray} {nL : Nat} {ret : Option FieldType} {d : Nat} {Z : XZ ρ} {pc : Nat} {lv : List (Nat × AV)} {st : List AV} {h : XH} {f : XH → Option ρ} {a x : Int} (hd : decode cc pc = .ok (.putfield 116, 3)) (kk : ∀ h1, XG fh QQ RX0 mn cc nL ret d Z (pc + 3) lv st h1 (f h1)) : XG fh QQ RX0 mn cc nL ret d Z pc lv ((0, x) :: (2, a) :: st) h (ob h a 2 (nm (hset h a 7 x) f)) := x_putN (C := RX1) (ref := RX1) 2 7 rfl in_X1 tyX1_ok nmX1 (by decide) rfl (by decide) (Or.inl rfl) (by decide) (xfit_X1 7 (by decide)) 0 rfl q234 hd kk
noncomputable def F_X0_use_20 (x0 : Int) (x1 : Int) (h : XH) : Option XR := ob h x0 1 <| ob h (xv h x0 0) 2 <| nm (α := Int) (xv h (xv h x0 0) 7) fun v1 => ob h x0 1 <| ob h (xv h x0 0) 2 <| nm (hset h (xv h x0 0) 7 x1) fun h2 => ob h2 x0 1 <| mb (F_X0_was x0 v1 h2) fun r3 h4 => some (r3, h4)
theorem WF_X0_use_20 {d : Nat} {Z : XZ XR} (hdd : 3 ≤ d) : ∀ x0 x1 h, XG xfh (xQ 0) RX0 "use" cX0_use 3 (some .int) d Z 20 [(0, (2, x0)), (1, (0, x1))] [] h (F_X0_use_20 x0 x1 h) := by
  intro x0 x1 h
  unfold F_X0_use_20
  refine x_aload_n 0 dX0_use_20 rfl rfl ?_
  refine xg_X0_17 dX0_use_21 ?_
  refine xg_X0_116 dX0_use_24 ?_
  refine x_nmT fun v1 => ?_
  refine x_istore_n (lv' := [(2, (0, v1)), (0, (2, x0)), (1, (0, x1))]) dX0_use_27 rfl (by decide) rfl ?_
  refine x_aload_n 1 dX0_use_28 rfl rfl ?_
  refine xg_X0_17 dX0_use_29 ?_
  refine x_iload_n 2 dX0_use_32 rfl rfl ?_
  refine xp_X0_116 dX0_use_33 fun h2 => ?_
  refine x_aload_n 1 dX0_use_36 rfl rfl ?_
  refine x_iload_n 0 dX0_use_37 rfl rfl ?_
  refine cl_X0_142 (by omega) (Nat.le_of_ble_eq_true rfl) dX0_use_38 fun r3 h4 => ?_
  exact x_iret rfl dX0_use_41
noncomputable def F_X0_use (x0 : Int) (x1 : Int) (h : XH) : Option XR := if x1 = (-1) then (F_X0_use_20 x0 x1 h) else (ob h x0 1 <| mb (F_X0_isPaper x0 x1 h) fun r1 h2 => if r1 = 0 then (ob h2 x0 1 <| mb (F_X0_tell x0 (-2) h2) fun r3 h4 => some (r3, h4)) else (F_X0_use_20 x0 x1 h2))
theorem WF_X0_use {d : Nat} {Z : XZ XR} (hdd : 3 ≤ d) : ∀ x0 x1 h, XG xfh (xQ 0) RX0 "use" cX0_use 3 (some .int) d Z 0 [(0, (2, x0)), (1, (0, x1))] [] h (F_X0_use x0 x1 h) := by
  intro x0 x1 h
  unfold F_X0_use
  refine x_iload_n 1 dX0_use_0 rfl rfl ?_
  refine x_ic dX0_use_1 (by decide) (by decide) ?_
  refine x_icmp_eq 20 dX0_use_2 (by decide) (fun _ => ?_) (fun _ => ?_)
  · exact x_sub [0, 1] rfl (WF_X0_use_20 hdd x0 x1 h)
  · refine x_aload_n 0 dX0_use_5 rfl rfl ?_
    refine x_iload_n 1 dX0_use_6 rfl rfl ?_
    refine cl_X0_189 (by omega) (Nat.le_of_ble_eq_true rfl) dX0_use_7 fun r1 h2 => ?_
    refine x_if_ne 20 dX0_use_10 (by decide) (fun _ => ?_) (fun _ => ?_)
    · exact x_sub [0, 1] rfl (WF_X0_use_20 hdd x0 x1 h2)
    · refine x_aload_n 0 dX0_use_13 rfl rfl ?_
      refine x_bp dX0_use_14 (by decide) (by decide) ?_
      refine cl_X0_133 (by omega) (Nat.le_of_ble_eq_true rfl) dX0_use_16 fun r3 h4 => ?_
      exact x_iret rfl dX0_use_19
theorem SF_X0_use (l : Launch) {d : Nat} (hdd : 3 ≤ d) (x0 : Int) (x1 : Int) (h : XH) (hok : okH h) (ho : okXs (xn h) [(2, x0), (0, x1)]) (fin : XR) (hf : F_X0_use x0 x1 h = some fin) : xSpec l yX0_use cX0_use 3 (some .int) d 0 [(2, x0), (0, x1)] h fin := x_enter (lv := [(0, (2, x0)), (1, (0, x1))]) (by decide) rfl rfl (Nat.le_of_ble_eq_true rfl) rfl (fun Z _ => WF_X0_use hdd x0 x1 h) hok ho fin hf
noncomputable def F_X0_keepsOf (x0 : Int) (x1 : Int) (x2 : Int) (h : XH) : Option XR := ob h x0 1 <| mb (F_X0_inUse x0 h) fun r1 h2 => ob h2 x0 1 <| ob h2 x1 5 <| mb (F_X5_ask x1 (xv h2 x0 2) x2 h2) fun r3 h4 => ob h4 r1 4 <| mb (F_X3_tells r1 1 r3 10 1 30 h4) fun r5 h6 => some (r5, h6)
theorem WF_X0_keepsOf {d : Nat} {Z : XZ XR} (hdd : 126 ≤ d) : ∀ x0 x1 x2 h, XG xfh (xQ 0) RX0 "keepsOf" cX0_keepsOf 3 (some .int) d Z 0 [(0, (2, x0)), (1, (2, x1)), (2, (0, x2))] [] h (F_X0_keepsOf x0 x1 x2 h) := by
  intro x0 x1 x2 h
  unfold F_X0_keepsOf
  refine x_aload_n 0 dX0_keepsOf_0 rfl rfl ?_
  refine cl_X0_201 (by omega) (Nat.le_of_ble_eq_true rfl) dX0_keepsOf_1 fun r1 h2 => ?_
  refine x_ic dX0_keepsOf_4 (by decide) (by decide) ?_
  refine x_aload_n 1 dX0_keepsOf_5 rfl rfl ?_
  refine x_aload_n 0 dX0_keepsOf_6 rfl rfl ?_
  refine xg_X0_63 dX0_keepsOf_7 ?_
  refine x_iload_n 2 dX0_keepsOf_10 rfl rfl ?_
  refine cl_X0_193 (by omega) (Nat.le_of_ble_eq_true rfl) dX0_keepsOf_11 fun r3 h4 => ?_
  refine x_bp dX0_keepsOf_14 (by decide) (by decide) ?_
  refine x_ic dX0_keepsOf_16 (by decide) (by decide) ?_
  refine x_bp dX0_keepsOf_17 (by decide) (by decide) ?_
  refine cl_X0_204 (by omega) (Nat.le_of_ble_eq_true rfl) dX0_keepsOf_19 fun r5 h6 => ?_
  exact x_iret rfl dX0_keepsOf_22
theorem SF_X0_keepsOf (l : Launch) {d : Nat} (hdd : 126 ≤ d) (x0 : Int) (x1 : Int) (x2 : Int) (h : XH) (hok : okH h) (ho : okXs (xn h) [(2, x0), (2, x1), (0, x2)]) (fin : XR) (hf : F_X0_keepsOf x0 x1 x2 h = some fin) : xSpec l yX0_keepsOf cX0_keepsOf 3 (some .int) d 0 [(2, x0), (2, x1), (0, x2)] h fin := x_enter (lv := [(0, (2, x0)), (1, (2, x1)), (2, (0, x2))]) (by decide) rfl rfl (Nat.le_of_ble_eq_true rfl) rfl (fun Z _ => WF_X0_keepsOf hdd x0 x1 x2 h) hok ho fin hf
