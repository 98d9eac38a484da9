/-! printed by tools/genx.py: the system's methods as pure functions over named cells, and their walks -/
set_option maxRecDepth 100000
set_option maxHeartbeats 4000000
theorem cl_X0_208 {ρ : Type} {fh : ρ → XH} {QQ : XZ ρ → State → Prop} {mn : String} {cc : ByteArray} {nL : Nat} {ret : Option FieldType} {d : Nat} {Z : XZ ρ} {pc : Nat} {lv : List (Nat × AV)} {st : List AV} {h : XH} {g : Int → XH → Option ρ} {b a0 a1 a2 a3 : Int} (hdd : 127 ≤ d) (hcat : (st.map fun v => if v.1 = 1 then 2 else 1).sum ≤ 8) (hdg : decode cc pc = .ok (.invokevirtual 208, 3)) (kk : ∀ r h1, XG fh QQ RX0 mn cc nL ret d Z (pc + 3) lv ((0, r) :: st) h1 (g r h1)) : XG fh QQ RX0 mn cc nL ret d Z pc lv ((0, a3) :: (0, a2) :: (0, a1) :: (2, a0) :: (2, b) :: st) h (ob h b 1 (mb (F_X0_takes_2 b a0 a1 a2 a3 h) g)) :=
  x_callVi [(2, a0), (0, a1), (0, a2), (0, a3)] 4 (WF_X0_takes_2 (Z := (Z.1, Z.2.1, ((0, h), h))) (Nat.le_refl 126) b a0 a1 a2 a3 h).1 (fun hok ho fin hf => SF_X0_takes_2 (yL Z) (Nat.le_refl 126) b a0 a1 a2 a3 h hok ho fin hf) RX0 1 rfl (by decide) (lw_V q909 q911 qs28 q124 q912) ⟨rfl, by decide +kernel, by decide +kernel, by decide +kernel⟩ rfl (by omega) (by decide) rfl hcat hdg kk
noncomputable def F_X0_takes (x0 : Int) (x1 : Int) (x2 : Int) (x3 : Int) (h : XH) : Option XR := ob h x0 1 <| mb (F_X0_questionOf x0 x1 h) fun r1 h2 => if r1 = 0 then (some ((-1), h2)) else (mb (F_X0_in x2 1 3 h2) fun r3 h4 => if r3 = 0 then (some ((-1), h4)) else (mb (F_X0_in x3 0 1 h4) fun r5 h6 => if r5 = 0 then (some ((-1), h6)) else (ob h6 x0 1 <| mb (F_X0_takes_2 x0 r1 x2 x3 0 h6) fun r7 h8 => some (r7, h8))))
theorem WF_X0_takes {d : Nat} {Z : XZ XR} (hdd : 127 ≤ d) : ∀ x0 x1 x2 x3 h, XG xfh (xQ 0) RX0 "takes" cX0_takes 5 (some .int) d Z 0 [(0, (2, x0)), (1, (0, x1)), (2, (0, x2)), (3, (0, x3))] [] h (F_X0_takes x0 x1 x2 x3 h) := by
  intro x0 x1 x2 x3 h
  unfold F_X0_takes
  refine x_aload_n 0 dX0_takes_0 rfl rfl ?_
  refine x_iload_n 1 dX0_takes_1 rfl rfl ?_
  refine cl_X0_147 (by omega) (Nat.le_of_ble_eq_true rfl) dX0_takes_2 fun r1 h2 => ?_
  refine x_astore (lv' := [(4, (2, r1)), (0, (2, x0)), (1, (0, x1)), (2, (0, x2)), (3, (0, x3))]) dX0_takes_5 (by decide) rfl ?_
  refine x_aload 0 dX0_takes_7 rfl ?_
  refine x_ifnull 34 dX0_takes_9 (by decide) (fun _ => ?_) (fun _ => ?_)
  · refine x_ic dX0_takes_34 (by decide) (by decide) ?_
    refine x_goto 47 dX0_takes_35 (by decide) ?_
    exact x_iret rfl dX0_takes_47
  · refine x_iload_n 3 dX0_takes_12 rfl rfl ?_
    refine x_i2l dX0_takes_13 ?_
    refine x_l1 dX0_takes_14 ?_
    refine x_ldc2 (n := 3) q523 dX0_takes_15 (by decide +kernel) ⟨by decide, by decide⟩ ?_
    refine cl_X0_109 (by omega) (Nat.le_of_ble_eq_true rfl) dX0_takes_18 fun r3 h4 => ?_
    refine x_if_eq 34 dX0_takes_21 (by decide) (fun _ => ?_) (fun _ => ?_)
    · refine x_ic dX0_takes_34 (by decide) (by decide) ?_
      refine x_goto 47 dX0_takes_35 (by decide) ?_
      exact x_iret rfl dX0_takes_47
    · refine x_iload_n 4 dX0_takes_24 rfl rfl ?_
      refine x_i2l dX0_takes_25 ?_
      refine x_l0 dX0_takes_26 ?_
      refine x_l1 dX0_takes_27 ?_
      refine cl_X0_109 (by omega) (Nat.le_of_ble_eq_true rfl) dX0_takes_28 fun r5 h6 => ?_
      refine x_if_ne 38 dX0_takes_31 (by decide) (fun _ => ?_) (fun _ => ?_)
      · refine x_aload_n 1 dX0_takes_38 rfl rfl ?_
        refine x_aload 0 dX0_takes_39 rfl ?_
        refine x_iload_n 3 dX0_takes_41 rfl rfl ?_
        refine x_iload_n 4 dX0_takes_42 rfl rfl ?_
        refine x_ic dX0_takes_43 (by decide) (by decide) ?_
        refine cl_X0_208 (by omega) (Nat.le_of_ble_eq_true rfl) dX0_takes_44 fun r7 h8 => ?_
        exact x_iret rfl dX0_takes_47
      · refine x_ic dX0_takes_34 (by decide) (by decide) ?_
        refine x_goto 47 dX0_takes_35 (by decide) ?_
        exact x_iret rfl dX0_takes_47
theorem SF_X0_takes (l : Launch) {d : Nat} (hdd : 127 ≤ d) (x0 : Int) (x1 : Int) (x2 : Int) (x3 : Int) (h : XH) (hok : okH h) (ho : okXs (xn h) [(2, x0), (0, x1), (0, x2), (0, x3)]) (fin : XR) (hf : F_X0_takes x0 x1 x2 x3 h = some fin) : xSpec l yX0_takes cX0_takes 5 (some .int) d 0 [(2, x0), (0, x1), (0, x2), (0, x3)] h fin := x_enter (lv := [(0, (2, x0)), (1, (0, x1)), (2, (0, x2)), (3, (0, x3))]) (by decide) rfl rfl (Nat.le_of_ble_eq_true rfl) rfl (fun Z _ => WF_X0_takes hdd x0 x1 x2 x3 h) hok ho fin hf
theorem cl_X0_212 {ρ : Type} {fh : ρ → XH} {QQ : XZ ρ → State → Prop} {mn : String} {cc : ByteArray} {nL : Nat} {ret : Option FieldType} {d : Nat} {Z : XZ ρ} {pc : Nat} {lv : List (Nat × AV)} {st : List AV} {h : XH} {g : Int → XH → Option ρ} {b a0 a1 : Int} (hdd : 127 ≤ d) (hcat : (st.map fun v => if v.1 = 1 then 2 else 1).sum ≤ 8) (hdg : decode cc pc = .ok (.invokevirtual 212, 3)) (kk : ∀ r h1, XG fh QQ RX0 mn cc nL ret d Z (pc + 3) lv ((0, r) :: st) h1 (g r h1)) : XG fh QQ RX0 mn cc nL ret d Z pc lv ((0, a1) :: (2, a0) :: (2, b) :: st) h (ob h b 1 (mb (F_X0_keepsOf b a0 a1 h) g)) :=
  x_callVi [(2, a0), (0, a1)] 2 (WF_X0_keepsOf (Z := (Z.1, Z.2.1, ((0, h), h))) (Nat.le_refl 126) b a0 a1 h).1 (fun hok ho fin hf => SF_X0_keepsOf (yL Z) (Nat.le_refl 126) b a0 a1 h hok ho fin hf) RX0 1 rfl (by decide) (lw_V q977 q979 qs30 q124 q980) ⟨rfl, by decide +kernel, by decide +kernel, by decide +kernel⟩ rfl (by omega) (by decide) rfl hcat hdg kk
noncomputable def F_X0_keeps (x0 : Int) (x1 : Int) (x2 : Int) (h : XH) : Option XR := ob h x0 1 <| mb (F_X0_questionOf x0 x1 h) fun r1 h2 => if r1 = 0 then (some ((-1), h2)) else (mb (F_X0_in x2 1 2 h2) fun r3 h4 => if r3 = 0 then (some ((-1), h4)) else (ob h4 x0 1 <| mb (F_X0_keepsOf x0 r1 x2 h4) fun r5 h6 => some (r5, h6)))
theorem WF_X0_keeps {d : Nat} {Z : XZ XR} (hdd : 127 ≤ d) : ∀ x0 x1 x2 h, XG xfh (xQ 0) RX0 "keeps" cX0_keeps 4 (some .int) d Z 0 [(0, (2, x0)), (1, (0, x1)), (2, (0, x2))] [] h (F_X0_keeps x0 x1 x2 h) := by
  intro x0 x1 x2 h
  unfold F_X0_keeps
  refine x_aload_n 0 dX0_keeps_0 rfl rfl ?_
  refine x_iload_n 1 dX0_keeps_1 rfl rfl ?_
  refine cl_X0_147 (by omega) (Nat.le_of_ble_eq_true rfl) dX0_keeps_2 fun r1 h2 => ?_
  refine x_astore_n (lv' := [(3, (2, r1)), (0, (2, x0)), (1, (0, x1)), (2, (0, x2))]) dX0_keeps_5 rfl (by decide) rfl ?_
  refine x_aload_n 0 dX0_keeps_6 rfl rfl ?_
  refine x_ifnull 22 dX0_keeps_7 (by decide) (fun _ => ?_) (fun _ => ?_)
  · refine x_ic dX0_keeps_22 (by decide) (by decide) ?_
    refine x_goto 32 dX0_keeps_23 (by decide) ?_
    exact x_iret rfl dX0_keeps_32
  · refine x_iload_n 3 dX0_keeps_10 rfl rfl ?_
    refine x_i2l dX0_keeps_11 ?_
    refine x_l1 dX0_keeps_12 ?_
    refine x_ldc2 (n := 2) q491 dX0_keeps_13 (by decide +kernel) ⟨by decide, by decide⟩ ?_
    refine cl_X0_109 (by omega) (Nat.le_of_ble_eq_true rfl) dX0_keeps_16 fun r3 h4 => ?_
    refine x_if_ne 26 dX0_keeps_19 (by decide) (fun _ => ?_) (fun _ => ?_)
    · refine x_aload_n 1 dX0_keeps_26 rfl rfl ?_
      refine x_aload_n 0 dX0_keeps_27 rfl rfl ?_
      refine x_iload_n 3 dX0_keeps_28 rfl rfl ?_
      refine cl_X0_212 (by omega) (Nat.le_of_ble_eq_true rfl) dX0_keeps_29 fun r5 h6 => ?_
      exact x_iret rfl dX0_keeps_32
    · refine x_ic dX0_keeps_22 (by decide) (by decide) ?_
      refine x_goto 32 dX0_keeps_23 (by decide) ?_
      exact x_iret rfl dX0_keeps_32
theorem SF_X0_keeps (l : Launch) {d : Nat} (hdd : 127 ≤ d) (x0 : Int) (x1 : Int) (x2 : Int) (h : XH) (hok : okH h) (ho : okXs (xn h) [(2, x0), (0, x1), (0, x2)]) (fin : XR) (hf : F_X0_keeps x0 x1 x2 h = some fin) : xSpec l yX0_keeps cX0_keeps 4 (some .int) d 0 [(2, x0), (0, x1), (0, x2)] h fin := x_enter (lv := [(0, (2, x0)), (1, (0, x1)), (2, (0, x2))]) (by decide) rfl rfl (Nat.le_of_ble_eq_true rfl) rfl (fun Z _ => WF_X0_keeps hdd x0 x1 x2 h) hok ho fin hf
noncomputable def F_X0_isPart (x0 : Int) (h : XH) : Option XR := mb (F_X0_in x0 0 1 h) fun r1 h2 => cb r1 (some (r1, h2))
theorem WF_X0_isPart {d : Nat} {Z : XZ XR} (hdd : 2 ≤ d) : ∀ x0 h, XG xfh (xQ 0) RX0 "isPart" cX0_isPart 1 (some .boolean) d Z 0 [(0, (0, x0))] [] h (F_X0_isPart x0 h) := by
  intro x0 h
  unfold F_X0_isPart
  refine x_iload_n 0 dX0_isPart_0 rfl rfl ?_
  refine x_i2l dX0_isPart_1 ?_
  refine x_l0 dX0_isPart_2 ?_
  refine x_l1 dX0_isPart_3 ?_
  refine cl_X0_109 (by omega) (Nat.le_of_ble_eq_true rfl) dX0_isPart_4 fun r1 h2 => ?_
  exact x_zret rfl dX0_isPart_7
theorem SF_X0_isPart (l : Launch) {d : Nat} (hdd : 2 ≤ d) (x0 : Int) (h : XH) (hok : okH h) (ho : okXs (xn h) [(0, x0)]) (fin : XR) (hf : F_X0_isPart x0 h = some fin) : xSpec l yX0_isPart cX0_isPart 1 (some .boolean) d 0 [(0, x0)] h fin := x_enter (lv := [(0, (0, x0))]) (by decide) rfl rfl (Nat.le_of_ble_eq_true rfl) rfl (fun Z _ => WF_X0_isPart hdd x0 h) hok ho fin hf
theorem xg_X17_40 {ρ : Type} {fh : ρ → XH} {QQ : XZ ρ → State → Prop} {mn : String} {cc : ByteArray} {nL : Nat} {ret : Option FieldType} {d : Nat} {Z : XZ ρ} {pc : Nat} {lv : List (Nat × AV)} {st : List AV} {h : XH} {res : Option ρ} {a : Int} (hd : decode cc pc = .ok (.getfield 40, 3)) (kk : XG fh QQ RX17 mn cc nL ret d Z (pc + 3) lv ((2, xv h a 2) :: st) h res) : XG fh QQ RX17 mn cc nL ret d Z pc lv ((2, a) :: st) h (ob h a 15 res) := x_get (C := RX17) (ref := RX17) 15 2 rfl in_X17 (by decide) rfl (by decide) (Or.inl rfl) q1026 hd kk
theorem xg_X17_65 {ρ : Type} {fh : ρ → XH} {QQ : XZ ρ → State → Prop} {mn : String} {cc : ByteArray} {nL : Nat} {ret : Option FieldType} {d : Nat} {Z : XZ ρ} {pc : Nat} {lv : List (Nat × AV)} {st : List AV} {h : XH} {res : Option ρ} {a : Int} (hd : decode cc pc = .ok (.getfield 65, 3)) (kk : XG fh QQ RX17 mn cc nL ret d Z (pc + 3) lv ((0, xv h a 1) :: st) h res) : XG fh QQ RX17 mn cc nL ret d Z pc lv ((2, a) :: st) h (ob h a 16 res) := x_getN (C := RX18) (ref := RX18) 16 1 rfl in_X18 (by decide) rfl (by decide) (Or.inl rfl) q1017 hd kk
noncomputable def F_X17_passes_5 : Nat → Int → Int → Int → Int → XH → Option XR
  | 0, _, _, _, _, _ => none
  | n + 1, x0, x1, x3, x5, h => ob h x0 15 <| ob h (xv h x0 2) 16 <| if xv h (xv h x0 2) 1 < x5 then (some (x3, h)) else (ai h x1 1 x5 <| nm (α := Int) (w64 (x3 + (xv h x1 x5))) fun v1 => nm (w32 (x5 + 1)) fun v2 => F_X17_passes_5 n x0 x1 v1 v2 h)
theorem WF_X17_passes_5 {d : Nat} {Z : XZ XR} (hdd : 1 ≤ d) : ∀ n x0 x1 x3 x5 h, XG xfh (xQ 1) RX17 "passes" cX17_passes 6 (some .long) d Z 5 [(0, (2, x0)), (1, (2, x1)), (3, (1, x3)), (5, (0, x5))] [] h (F_X17_passes_5 n x0 x1 x3 x5 h) := by
  intro n
  induction n with
  | zero => intro x0 x1 x3 x5 h; exact x_none
  | succ n ih =>
    intro x0 x1 x3 x5 h
    rw [F_X17_passes_5]
    refine x_iload 3 dX17_passes_5 rfl ?_
    refine x_aload_n 0 dX17_passes_7 rfl rfl ?_
    refine xg_X17_40 dX17_passes_8 ?_
    refine xg_X17_65 dX17_passes_11 ?_
    refine x_icmp_gt 30 dX17_passes_14 (by decide) (fun _ => ?_) (fun _ => ?_)
    · refine x_lload_n 2 dX17_passes_30 rfl rfl ?_
      exact x_lret rfl dX17_passes_31
    · refine x_lload_n 2 dX17_passes_17 rfl rfl ?_
      refine x_aload_n 1 dX17_passes_18 rfl rfl ?_
      refine x_iload 3 dX17_passes_19 rfl ?_
      refine x_lald dX17_passes_21 ?_
      refine x_ladd dX17_passes_22 ?_
      refine x_nmT fun v1 => ?_
      refine x_lstore_n (lv' := [(3, (1, v1)), (0, (2, x0)), (1, (2, x1)), (5, (0, x5))]) dX17_passes_23 rfl (by decide) rfl ?_
      refine x_iinc 3 dX17_passes_24 rfl (by decide) fun v2 => x_lv (lv' := [(5, (0, v2)), (3, (1, v1)), (0, (2, x0)), (1, (2, x1))]) rfl ?_
      refine x_goto 5 dX17_passes_27 (by decide) ?_
      exact x_sub [2, 3, 1, 0] rfl (ih x0 x1 v1 v2 h)
noncomputable def F_X17_passes (x0 : Int) (x1 : Int) (x2 : Int) (h : XH) : Option XR := F_X17_passes_5 FU x0 x1 0 x2 h
theorem WF_X17_passes {d : Nat} {Z : XZ XR} (hdd : 1 ≤ d) : ∀ x0 x1 x2 h, XG xfh (xQ 1) RX17 "passes" cX17_passes 6 (some .long) d Z 0 [(0, (2, x0)), (1, (2, x1)), (2, (0, x2))] [] h (F_X17_passes x0 x1 x2 h) := by
  intro x0 x1 x2 h
  unfold F_X17_passes
  refine x_l0 dX17_passes_0 ?_
  refine x_lstore_n (lv' := [(3, (1, 0)), (0, (2, x0)), (1, (2, x1)), (2, (0, x2))]) dX17_passes_1 rfl (by decide) rfl ?_
  refine x_iload_n 3 dX17_passes_2 rfl rfl ?_
  refine x_istore (lv' := [(5, (0, x2)), (3, (1, 0)), (0, (2, x0)), (1, (2, x1)), (2, (0, x2))]) dX17_passes_3 (by decide) rfl ?_
  exact x_sub [2, 3, 1, 0] rfl (WF_X17_passes_5 hdd FU x0 x1 0 x2 h)
theorem SF_X17_passes (l : Launch) {d : Nat} (hdd : 1 ≤ d) (x0 : Int) (x1 : Int) (x2 : Int) (h : XH) (hok : okH h) (ho : okXs (xn h) [(2, x0), (2, x1), (0, x2)]) (fin : XR) (hf : F_X17_passes x0 x1 x2 h = some fin) : xSpec l yX17_passes cX17_passes 6 (some .long) d 1 [(2, x0), (2, x1), (0, x2)] h fin := x_enter (lv := [(0, (2, x0)), (1, (2, x1)), (2, (0, x2))]) (by decide) rfl rfl (Nat.le_of_ble_eq_true rfl) rfl (fun Z _ => WF_X17_passes hdd x0 x1 x2 h) hok ho fin hf
theorem cl_X17_57 {ρ : Type} {fh : ρ → XH} {QQ : XZ ρ → State → Prop} {mn : String} {cc : ByteArray} {nL : Nat} {ret : Option FieldType} {d : Nat} {Z : XZ ρ} {pc : Nat} {lv : List (Nat × AV)} {st : List AV} {h : XH} {g : Int → XH → Option ρ} {a0 a1 : Int} (hdd : 2 ≤ d) (hcat : (st.map fun v => if v.1 = 1 then 2 else 1).sum ≤ 8) (hdg : decode cc pc = .ok (.invokestatic 57, 3)) (kk : ∀ r h1, XG fh QQ RX17 mn cc nL ret d Z (pc + 3) lv ((1, r) :: st) h1 (g r h1)) : XG fh QQ RX17 mn cc nL ret d Z pc lv ((0, a1) :: (0, a0) :: st) h (mb (F_X0_over a0 a1 h) g) :=
  x_callQl [(0, a0), (0, a1)] 2 (WF_X0_over (Z := (Z.1, Z.2.1, ((0, h), h))) (Nat.le_refl 1) a0 a1 h).1 (fun hok ho fin hf => SF_X0_over (yL Z) (Nat.le_refl 1) a0 a1 h hok ho fin hf) q1067 q124 q1068 (lw_meth q1069) ⟨by decide +kernel, by decide +kernel, by decide +kernel⟩ rfl (by omega) (by decide) rfl hcat hdg kk
theorem cl_X17_61 {ρ : Type} {fh : ρ → XH} {QQ : XZ ρ → State → Prop} {mn : String} {cc : ByteArray} {nL : Nat} {ret : Option FieldType} {d : Nat} {Z : XZ ρ} {pc : Nat} {lv : List (Nat × AV)} {st : List AV} {h : XH} {g : Int → XH → Option ρ} {b a0 : Int} (hdd : 3 ≤ d) (hcat : (st.map fun v => if v.1 = 1 then 2 else 1).sum ≤ 8) (hdg : decode cc pc = .ok (.invokevirtual 61, 3)) (kk : ∀ r h1, XG fh QQ RX17 mn cc nL ret d Z (pc + 3) lv ((2, r) :: st) h1 (g r h1)) : XG fh QQ RX17 mn cc nL ret d Z pc lv ((2, a0) :: (2, b) :: st) h (ob h b 16 (mb (F_X18_of b a0 h) g)) :=
  x_callVr [(2, a0)] 1 (WF_X18_of (Z := (Z.1, Z.2.1, ((0, h), h))) (Nat.le_refl 2) b a0 h).1 (fun hok ho fin hf => SF_X18_of (yL Z) (Nat.le_refl 2) b a0 h hok ho fin hf) RX18 16 rfl (by decide) (lw_V q1070 q1071 q1072 q156 q1073) ⟨rfl, by decide +kernel, by decide +kernel, by decide +kernel⟩ rfl (by omega) (by decide) rfl hcat hdg kk
noncomputable def F_X17_count_149 (K3 : Int → Int → Int → Int → Int → Int → Int → XH → Option XR) (K12 : Int → Int → Int → Int → Int → Int → Int → Int → XH → Option XR) (x0 : Int) (x1 : Int) (x2 : Int) (x3 : Int) (x4 : Int) (x6 : Int) (x7 : Int) (x8 : Int) (h : XH) : Option XR := nm (w32 (x8 + 1)) fun v1 => K12 x0 x1 x2 x3 x4 x6 x7 v1 h
theorem WF_X17_count_149 {d : Nat} {Z : XZ XR} (hdd : 3 ≤ d) {K3 : Int → Int → Int → Int → Int → Int → Int → XH → Option XR} (hK3 : ∀ x0 x1 x2 x3 x4 x6 x7 h, XG xfh (xQ 2) RX17 "count" cX17_count 14 none d Z 3 [(0, (2, x0)), (1, (2, x1)), (2, (0, x2)), (3, (0, x3)), (4, (1, x4)), (6, (2, x6)), (7, (0, x7))] [] h (K3 x0 x1 x2 x3 x4 x6 x7 h)) {K12 : Int → Int → Int → Int → Int → Int → Int → Int → XH → Option XR} (hK12 : ∀ x0 x1 x2 x3 x4 x6 x7 x8 h, XG xfh (xQ 2) RX17 "count" cX17_count 14 none d Z 12 [(0, (2, x0)), (1, (2, x1)), (2, (0, x2)), (3, (0, x3)), (4, (1, x4)), (6, (2, x6)), (7, (0, x7)), (8, (0, x8))] [] h (K12 x0 x1 x2 x3 x4 x6 x7 x8 h)) : ∀ x0 x1 x2 x3 x4 x6 x7 x8 h, XG xfh (xQ 2) RX17 "count" cX17_count 14 none d Z 149 [(0, (2, x0)), (1, (2, x1)), (2, (0, x2)), (3, (0, x3)), (4, (1, x4)), (6, (2, x6)), (7, (0, x7)), (8, (0, x8))] [] h (F_X17_count_149 K3 K12 x0 x1 x2 x3 x4 x6 x7 x8 h) := by
  intro x0 x1 x2 x3 x4 x6 x7 x8 h
  unfold F_X17_count_149
  refine x_iinc 7 dX17_count_149 rfl (by decide) fun v1 => x_lv (lv' := [(8, (0, v1)), (0, (2, x0)), (1, (2, x1)), (2, (0, x2)), (3, (0, x3)), (4, (1, x4)), (6, (2, x6)), (7, (0, x7))]) rfl ?_
  refine x_goto 12 dX17_count_152 (by decide) ?_
  exact x_sub [1, 2, 3, 4, 5, 6, 7, 0] rfl (hK12 x0 x1 x2 x3 x4 x6 x7 v1 h)
noncomputable def F_X17_count_116 (K3 : Int → Int → Int → Int → Int → Int → Int → XH → Option XR) (K12 : Int → Int → Int → Int → Int → Int → Int → Int → XH → Option XR) : Nat → Int → Int → Int → Int → Int → Int → Int → Int → Int → Int → Int → XH → Option XR
  | 0, _, _, _, _, _, _, _, _, _, _, _, _ => none
  | n + 1, x0, x1, x2, x3, x4, x6, x7, x8, x9, x12, x13, h => al h x12 1 <| if (xl h x12 : Int) ≤ x13 then (F_X17_count_149 K3 K12 x0 x1 x2 x3 x4 x6 x7 x8 h) else (ai h x6 1 x13 <| ai h x12 1 x13 <| ai h x6 1 x13 <| nm (hset h x6 x13 (w64 ((xv h x6 x13) + (w64 ((w64 (x9 * x4)) * (xv h x12 x13)))))) fun h1 => nm (w32 (x13 + 1)) fun v2 => F_X17_count_116 K3 K12 n x0 x1 x2 x3 x4 x6 x7 x8 x9 x12 v2 h1)
theorem WF_X17_count_116 {d : Nat} {Z : XZ XR} (hdd : 3 ≤ d) {K3 : Int → Int → Int → Int → Int → Int → Int → XH → Option XR} (hK3 : ∀ x0 x1 x2 x3 x4 x6 x7 h, XG xfh (xQ 2) RX17 "count" cX17_count 14 none d Z 3 [(0, (2, x0)), (1, (2, x1)), (2, (0, x2)), (3, (0, x3)), (4, (1, x4)), (6, (2, x6)), (7, (0, x7))] [] h (K3 x0 x1 x2 x3 x4 x6 x7 h)) {K12 : Int → Int → Int → Int → Int → Int → Int → Int → XH → Option XR} (hK12 : ∀ x0 x1 x2 x3 x4 x6 x7 x8 h, XG xfh (xQ 2) RX17 "count" cX17_count 14 none d Z 12 [(0, (2, x0)), (1, (2, x1)), (2, (0, x2)), (3, (0, x3)), (4, (1, x4)), (6, (2, x6)), (7, (0, x7)), (8, (0, x8))] [] h (K12 x0 x1 x2 x3 x4 x6 x7 x8 h)) : ∀ n x0 x1 x2 x3 x4 x6 x7 x8 x9 x12 x13 h, XG xfh (xQ 2) RX17 "count" cX17_count 14 none d Z 116 [(0, (2, x0)), (1, (2, x1)), (2, (0, x2)), (3, (0, x3)), (4, (1, x4)), (6, (2, x6)), (7, (0, x7)), (8, (0, x8)), (9, (1, x9)), (12, (2, x12)), (13, (0, x13))] [] h (F_X17_count_116 K3 K12 n x0 x1 x2 x3 x4 x6 x7 x8 x9 x12 x13 h) := by
  intro n
  induction n with
  | zero => intro x0 x1 x2 x3 x4 x6 x7 x8 x9 x12 x13 h; exact x_none
  | succ n ih =>
    intro x0 x1 x2 x3 x4 x6 x7 x8 x9 x12 x13 h
    rw [F_X17_count_116]
    refine x_iload 10 dX17_count_116 rfl ?_
    refine x_aload 9 dX17_count_118 rfl ?_
    refine x_alen 1 (by decide) dX17_count_120 ?_
    refine x_icmp_ge 149 dX17_count_121 (by decide) (fun _ => ?_) (fun _ => ?_)
    · exact x_sub [0, 1, 2, 3, 4, 5, 6, 7] rfl (WF_X17_count_149 hdd hK3 hK12 x0 x1 x2 x3 x4 x6 x7 x8 h)
    · refine x_aload 5 dX17_count_124 rfl ?_
      refine x_iload 10 dX17_count_126 rfl ?_
      refine x_dup2 dX17_count_128 rfl rfl ?_
      refine x_lald dX17_count_129 ?_
      refine x_lload 8 dX17_count_130 rfl ?_
      refine x_lload 4 dX17_count_132 rfl ?_
      refine x_lmul dX17_count_134 ?_
      refine x_aload 9 dX17_count_135 rfl ?_
      refine x_iload 10 dX17_count_137 rfl ?_
      refine x_lald dX17_count_139 ?_
      refine x_lmul dX17_count_140 ?_
      refine x_ladd dX17_count_141 ?_
      refine x_last dX17_count_142 fun h1 => ?_
      refine x_iinc 10 dX17_count_143 rfl (by decide) fun v2 => x_lv (lv' := [(13, (0, v2)), (0, (2, x0)), (1, (2, x1)), (2, (0, x2)), (3, (0, x3)), (4, (1, x4)), (6, (2, x6)), (7, (0, x7)), (8, (0, x8)), (9, (1, x9)), (12, (2, x12))]) rfl ?_
      refine x_goto 116 dX17_count_146 (by decide) ?_
      exact x_sub [1, 2, 3, 4, 5, 6, 7, 8, 9, 10, 0] rfl (ih x0 x1 x2 x3 x4 x6 x7 x8 x9 x12 v2 h1)
noncomputable def F_X17_count_102 (K3 : Int → Int → Int → Int → Int → Int → Int → XH → Option XR) (K12 : Int → Int → Int → Int → Int → Int → Int → Int → XH → Option XR) (x0 : Int) (x1 : Int) (x2 : Int) (x3 : Int) (x4 : Int) (x6 : Int) (x7 : Int) (x8 : Int) (x9 : Int) (x11 : Int) (h : XH) : Option XR := ob h x0 15 <| ob h (xv h x0 2) 16 <| mb (F_X18_of (xv h x0 2) x11 h) fun r1 h2 => F_X17_count_116 K3 K12 FU x0 x1 x2 x3 x4 x6 x7 x8 x9 r1 0 h2
theorem WF_X17_count_102 {d : Nat} {Z : XZ XR} (hdd : 3 ≤ d) {K3 : Int → Int → Int → Int → Int → Int → Int → XH → Option XR} (hK3 : ∀ x0 x1 x2 x3 x4 x6 x7 h, XG xfh (xQ 2) RX17 "count" cX17_count 14 none d Z 3 [(0, (2, x0)), (1, (2, x1)), (2, (0, x2)), (3, (0, x3)), (4, (1, x4)), (6, (2, x6)), (7, (0, x7))] [] h (K3 x0 x1 x2 x3 x4 x6 x7 h)) {K12 : Int → Int → Int → Int → Int → Int → Int → Int → XH → Option XR} (hK12 : ∀ x0 x1 x2 x3 x4 x6 x7 x8 h, XG xfh (xQ 2) RX17 "count" cX17_count 14 none d Z 12 [(0, (2, x0)), (1, (2, x1)), (2, (0, x2)), (3, (0, x3)), (4, (1, x4)), (6, (2, x6)), (7, (0, x7)), (8, (0, x8))] [] h (K12 x0 x1 x2 x3 x4 x6 x7 x8 h)) : ∀ x0 x1 x2 x3 x4 x6 x7 x8 x9 x11 h, XG xfh (xQ 2) RX17 "count" cX17_count 14 none d Z 102 [(0, (2, x0)), (1, (2, x1)), (2, (0, x2)), (3, (0, x3)), (4, (1, x4)), (6, (2, x6)), (7, (0, x7)), (8, (0, x8)), (9, (1, x9)), (11, (2, x11))] [] h (F_X17_count_102 K3 K12 x0 x1 x2 x3 x4 x6 x7 x8 x9 x11 h) := by
  intro x0 x1 x2 x3 x4 x6 x7 x8 x9 x11 h
  unfold F_X17_count_102
  refine x_aload_n 0 dX17_count_102 rfl rfl ?_
  refine xg_X17_40 dX17_count_103 ?_
  refine x_aload 9 dX17_count_106 rfl ?_
  refine cl_X17_61 (by omega) (Nat.le_of_ble_eq_true rfl) dX17_count_108 fun r1 h2 => ?_
  refine x_astore (lv' := [(12, (2, r1)), (0, (2, x0)), (1, (2, x1)), (2, (0, x2)), (3, (0, x3)), (4, (1, x4)), (6, (2, x6)), (7, (0, x7)), (8, (0, x8)), (9, (1, x9)), (11, (2, x11))]) dX17_count_111 (by decide) rfl ?_
  refine x_ic dX17_count_113 (by decide) (by decide) ?_
  refine x_istore (lv' := [(13, (0, 0)), (12, (2, r1)), (0, (2, x0)), (1, (2, x1)), (2, (0, x2)), (3, (0, x3)), (4, (1, x4)), (6, (2, x6)), (7, (0, x7)), (8, (0, x8)), (9, (1, x9)), (11, (2, x11))]) dX17_count_114 (by decide) rfl ?_
  exact x_sub [2, 3, 4, 5, 6, 7, 8, 9, 10, 1, 0] rfl (WF_X17_count_116 hdd hK3 hK12 FU x0 x1 x2 x3 x4 x6 x7 x8 x9 r1 0 h2)
noncomputable def F_X17_count_155 (K3 : Int → Int → Int → Int → Int → Int → Int → XH → Option XR) (x0 : Int) (x1 : Int) (x2 : Int) (x3 : Int) (x4 : Int) (x6 : Int) (x7 : Int) (h : XH) : Option XR := nm (w32 (x7 + 1)) fun v1 => K3 x0 x1 x2 x3 x4 x6 v1 h
theorem WF_X17_count_155 {d : Nat} {Z : XZ XR} (hdd : 3 ≤ d) {K3 : Int → Int → Int → Int → Int → Int → Int → XH → Option XR} (hK3 : ∀ x0 x1 x2 x3 x4 x6 x7 h, XG xfh (xQ 2) RX17 "count" cX17_count 14 none d Z 3 [(0, (2, x0)), (1, (2, x1)), (2, (0, x2)), (3, (0, x3)), (4, (1, x4)), (6, (2, x6)), (7, (0, x7))] [] h (K3 x0 x1 x2 x3 x4 x6 x7 h)) : ∀ x0 x1 x2 x3 x4 x6 x7 h, XG xfh (xQ 2) RX17 "count" cX17_count 14 none d Z 155 [(0, (2, x0)), (1, (2, x1)), (2, (0, x2)), (3, (0, x3)), (4, (1, x4)), (6, (2, x6)), (7, (0, x7))] [] h (F_X17_count_155 K3 x0 x1 x2 x3 x4 x6 x7 h) := by
  intro x0 x1 x2 x3 x4 x6 x7 h
  unfold F_X17_count_155
  refine x_iinc 6 dX17_count_155 rfl (by decide) fun v1 => x_lv (lv' := [(7, (0, v1)), (0, (2, x0)), (1, (2, x1)), (2, (0, x2)), (3, (0, x3)), (4, (1, x4)), (6, (2, x6))]) rfl ?_
  refine x_goto 3 dX17_count_158 (by decide) ?_
  exact x_sub [1, 2, 3, 4, 5, 6, 0] rfl (hK3 x0 x1 x2 x3 x4 x6 v1 h)
noncomputable def F_X17_count_12 (K3 : Int → Int → Int → Int → Int → Int → Int → XH → Option XR) : Nat → Int → Int → Int → Int → Int → Int → Int → Int → XH → Option XR
  | 0, _, _, _, _, _, _, _, _, _ => none
  | n + 1, x0, x1, x2, x3, x4, x6, x7, x8, h => if x2 < w32 (x7 + x8) then (F_X17_count_155 K3 x0 x1 x2 x3 x4 x6 x7 h) else (ai h x1 0 0 <| mb (F_X0_over (xv h x1 0) x7 h) fun r1 h2 => ai h2 x1 0 1 <| mb (F_X0_over (xv h2 x1 1) x8 h2) fun r3 h4 => ai h4 x1 0 2 <| mb (F_X0_over (xv h4 x1 2) (w32 ((w32 (x2 - x7)) - x8)) h4) fun r5 h6 => nm (α := Int) (w64 ((w64 (r1 * r3)) * r5)) fun v7 => if v7 = 0 then (F_X17_count_149 K3 (F_X17_count_12 K3 n) x0 x1 x2 x3 x4 x6 x7 x8 h6) else (na h6 0 3 fun r8 h9 => ai h9 r8 0 0 <| nm (hset h9 r8 0 x7) fun h10 => ai h10 r8 0 1 <| nm (hset h10 r8 1 x8) fun h11 => ai h11 r8 0 2 <| nm (hset h11 r8 2 (w32 ((w32 (x2 - x7)) - x8))) fun h12 => if x3 = (-1) then (F_X17_count_102 K3 (F_X17_count_12 K3 n) x0 x1 x2 x3 x4 x6 x7 x8 v7 r8 h12) else (ai h12 r8 0 x3 <| ai h12 r8 0 x3 <| nm (hset h12 r8 x3 (w32 ((xv h12 r8 x3) + 1))) fun h13 => F_X17_count_102 K3 (F_X17_count_12 K3 n) x0 x1 x2 x3 x4 x6 x7 x8 v7 r8 h13)))
theorem WF_X17_count_12 {d : Nat} {Z : XZ XR} (hdd : 3 ≤ d) {K3 : Int → Int → Int → Int → Int → Int → Int → XH → Option XR} (hK3 : ∀ x0 x1 x2 x3 x4 x6 x7 h, XG xfh (xQ 2) RX17 "count" cX17_count 14 none d Z 3 [(0, (2, x0)), (1, (2, x1)), (2, (0, x2)), (3, (0, x3)), (4, (1, x4)), (6, (2, x6)), (7, (0, x7))] [] h (K3 x0 x1 x2 x3 x4 x6 x7 h)) : ∀ n x0 x1 x2 x3 x4 x6 x7 x8 h, XG xfh (xQ 2) RX17 "count" cX17_count 14 none d Z 12 [(0, (2, x0)), (1, (2, x1)), (2, (0, x2)), (3, (0, x3)), (4, (1, x4)), (6, (2, x6)), (7, (0, x7)), (8, (0, x8))] [] h (F_X17_count_12 K3 n x0 x1 x2 x3 x4 x6 x7 x8 h) := by
  intro n
  induction n with
  | zero => intro x0 x1 x2 x3 x4 x6 x7 x8 h; exact x_none
  | succ n ih =>
    intro x0 x1 x2 x3 x4 x6 x7 x8 h
    rw [F_X17_count_12]
    refine x_iload 6 dX17_count_12 rfl ?_
    refine x_iload 7 dX17_count_14 rfl ?_
    refine x_iadd dX17_count_16 ?_
    refine x_iload_n 2 dX17_count_17 rfl rfl ?_
    refine x_icmp_gt 155 dX17_count_18 (by decide) (fun _ => ?_) (fun _ => ?_)
    · exact x_sub [0, 1, 2, 3, 4, 5, 6] rfl (WF_X17_count_155 hdd hK3 x0 x1 x2 x3 x4 x6 x7 h)
    · refine x_aload_n 1 dX17_count_21 rfl rfl ?_
      refine x_ic dX17_count_22 (by decide) (by decide) ?_
      refine x_iald dX17_count_23 ?_
      refine x_iload 6 dX17_count_24 rfl ?_
      refine cl_X17_57 (by omega) (Nat.le_of_ble_eq_true rfl) dX17_count_26 fun r1 h2 => ?_
      refine x_aload_n 1 dX17_count_29 rfl rfl ?_
      refine x_ic dX17_count_30 (by decide) (by decide) ?_
      refine x_iald dX17_count_31 ?_
      refine x_iload 7 dX17_count_32 rfl ?_
      refine cl_X17_57 (by omega) (Nat.le_of_ble_eq_true rfl) dX17_count_34 fun r3 h4 => ?_
      refine x_lmul dX17_count_37 ?_
      refine x_aload_n 1 dX17_count_38 rfl rfl ?_
      refine x_ic dX17_count_39 (by decide) (by decide) ?_
      refine x_iald dX17_count_40 ?_
      refine x_iload_n 2 dX17_count_41 rfl rfl ?_
      refine x_iload 6 dX17_count_42 rfl ?_
      refine x_isub dX17_count_44 ?_
      refine x_iload 7 dX17_count_45 rfl ?_
      refine x_isub dX17_count_47 ?_
      refine cl_X17_57 (by omega) (Nat.le_of_ble_eq_true rfl) dX17_count_48 fun r5 h6 => ?_
      refine x_lmul dX17_count_51 ?_
      refine x_nmT fun v7 => ?_
      refine x_lstore (lv' := [(9, (1, v7)), (0, (2, x0)), (1, (2, x1)), (2, (0, x2)), (3, (0, x3)), (4, (1, x4)), (6, (2, x6)), (7, (0, x7)), (8, (0, x8))]) dX17_count_52 (by decide) rfl ?_
      refine x_lload 0 dX17_count_54 rfl ?_
      refine x_l0 dX17_count_56 ?_
      refine x_lcmp_ne 64 dX17_count_57 dX17_count_58 (by decide) (fun _ => ?_) (fun _ => ?_)
      · refine x_ic dX17_count_64 (by decide) (by decide) ?_
        refine x_newarr (atype := .int) 0 (by decide) rfl rfl q252 dX17_count_65 fun r8 h9 => ?_
        refine x_dup dX17_count_67 rfl ?_
        refine x_ic dX17_count_68 (by decide) (by decide) ?_
        refine x_iload 7 dX17_count_69 rfl ?_
        refine x_iast dX17_count_71 fun h10 => ?_
        refine x_dup dX17_count_72 rfl ?_
        refine x_ic dX17_count_73 (by decide) (by decide) ?_
        refine x_iload 8 dX17_count_74 rfl ?_
        refine x_iast dX17_count_76 fun h11 => ?_
        refine x_dup dX17_count_77 rfl ?_
        refine x_ic dX17_count_78 (by decide) (by decide) ?_
        refine x_iload_n 3 dX17_count_79 rfl rfl ?_
        refine x_iload 7 dX17_count_80 rfl ?_
        refine x_isub dX17_count_82 ?_
        refine x_iload 8 dX17_count_83 rfl ?_
        refine x_isub dX17_count_85 ?_
        refine x_iast dX17_count_86 fun h12 => ?_
        refine x_astore (lv' := [(11, (2, r8)), (9, (1, v7)), (0, (2, x0)), (1, (2, x1)), (2, (0, x2)), (3, (0, x3)), (4, (1, x4)), (6, (2, x6)), (7, (0, x7)), (8, (0, x8))]) dX17_count_87 (by decide) rfl ?_
        refine x_iload_n 5 dX17_count_89 rfl rfl ?_
        refine x_ic dX17_count_90 (by decide) (by decide) ?_
        refine x_icmp_eq 102 dX17_count_91 (by decide) (fun _ => ?_) (fun _ => ?_)
        · exact x_sub [2, 3, 4, 5, 6, 7, 8, 9, 1, 0] rfl (WF_X17_count_102 hdd hK3 ih x0 x1 x2 x3 x4 x6 x7 x8 v7 r8 h12)
        · refine x_aload 0 dX17_count_94 rfl ?_
          refine x_iload_n 5 dX17_count_96 rfl rfl ?_
          refine x_dup2 dX17_count_97 rfl rfl ?_
          refine x_iald dX17_count_98 ?_
          refine x_ic dX17_count_99 (by decide) (by decide) ?_
          refine x_iadd dX17_count_100 ?_
          refine x_iast dX17_count_101 fun h13 => ?_
          exact x_sub [2, 3, 4, 5, 6, 7, 8, 9, 1, 0] rfl (WF_X17_count_102 hdd hK3 ih x0 x1 x2 x3 x4 x6 x7 x8 v7 r8 h13)
      · refine x_goto 149 dX17_count_61 (by decide) ?_
        exact x_sub [1, 2, 3, 4, 5, 6, 7, 8] rfl (WF_X17_count_149 hdd hK3 ih x0 x1 x2 x3 x4 x6 x7 x8 h6)
noncomputable def F_X17_count_3 : Nat → Int → Int → Int → Int → Int → Int → Int → XH → Option XR
  | 0, _, _, _, _, _, _, _, _ => none
  | n + 1, x0, x1, x2, x3, x4, x6, x7, h => if x2 < x7 then (some (0, h)) else (F_X17_count_12 (F_X17_count_3 n) FU x0 x1 x2 x3 x4 x6 x7 0 h)
theorem WF_X17_count_3 {d : Nat} {Z : XZ XR} (hdd : 3 ≤ d) : ∀ n x0 x1 x2 x3 x4 x6 x7 h, XG xfh (xQ 2) RX17 "count" cX17_count 14 none d Z 3 [(0, (2, x0)), (1, (2, x1)), (2, (0, x2)), (3, (0, x3)), (4, (1, x4)), (6, (2, x6)), (7, (0, x7))] [] h (F_X17_count_3 n x0 x1 x2 x3 x4 x6 x7 h) := by
  intro n
  induction n with
  | zero => intro x0 x1 x2 x3 x4 x6 x7 h; exact x_none
  | succ n ih =>
    intro x0 x1 x2 x3 x4 x6 x7 h
    rw [F_X17_count_3]
    refine x_iload 6 dX17_count_3 rfl ?_
    refine x_iload_n 2 dX17_count_5 rfl rfl ?_
    refine x_icmp_gt 161 dX17_count_6 (by decide) (fun _ => ?_) (fun _ => ?_)
    · exact x_vret rfl dX17_count_161
    · refine x_ic dX17_count_9 (by decide) (by decide) ?_
      refine x_istore (lv' := [(8, (0, 0)), (0, (2, x0)), (1, (2, x1)), (2, (0, x2)), (3, (0, x3)), (4, (1, x4)), (6, (2, x6)), (7, (0, x7))]) dX17_count_10 (by decide) rfl ?_
      exact x_sub [1, 2, 3, 4, 5, 6, 7, 0] rfl (WF_X17_count_12 hdd ih FU x0 x1 x2 x3 x4 x6 x7 0 h)
noncomputable def F_X17_count (x0 : Int) (x1 : Int) (x2 : Int) (x3 : Int) (x4 : Int) (x6 : Int) (h : XH) : Option XR := F_X17_count_3 FU x0 x1 x2 x3 x4 x6 0 h
theorem WF_X17_count {d : Nat} {Z : XZ XR} (hdd : 3 ≤ d) : ∀ x0 x1 x2 x3 x4 x6 h, XG xfh (xQ 2) RX17 "count" cX17_count 14 none d Z 0 [(0, (2, x0)), (1, (2, x1)), (2, (0, x2)), (3, (0, x3)), (4, (1, x4)), (6, (2, x6))] [] h (F_X17_count x0 x1 x2 x3 x4 x6 h) := by
  intro x0 x1 x2 x3 x4 x6 h
  unfold F_X17_count
  refine x_ic dX17_count_0 (by decide) (by decide) ?_
  refine x_istore (lv' := [(7, (0, 0)), (0, (2, x0)), (1, (2, x1)), (2, (0, x2)), (3, (0, x3)), (4, (1, x4)), (6, (2, x6))]) dX17_count_1 (by decide) rfl ?_
  exact x_sub [1, 2, 3, 4, 5, 6, 0] rfl (WF_X17_count_3 hdd FU x0 x1 x2 x3 x4 x6 0 h)
theorem SF_X17_count (l : Launch) {d : Nat} (hdd : 3 ≤ d) (x0 : Int) (x1 : Int) (x2 : Int) (x3 : Int) (x4 : Int) (x6 : Int) (h : XH) (hok : okH h) (ho : okXs (xn h) [(2, x0), (2, x1), (0, x2), (0, x3), (1, x4), (2, x6)]) (fin : XR) (hf : F_X17_count x0 x1 x2 x3 x4 x6 h = some fin) : xSpec l yX17_count cX17_count 14 none d 2 [(2, x0), (2, x1), (0, x2), (0, x3), (1, x4), (2, x6)] h fin := x_enter (lv := [(0, (2, x0)), (1, (2, x1)), (2, (0, x2)), (3, (0, x3)), (4, (1, x4)), (6, (2, x6))]) (by decide) rfl rfl (Nat.le_of_ble_eq_true rfl) rfl (fun Z _ => WF_X17_count hdd x0 x1 x2 x3 x4 x6 h) hok ho fin hf
noncomputable def F_X17_size (x0 : Int) (h : XH) : Option XR := ob h x0 15 <| ai h (xv h x0 0) 0 0 <| ob h x0 15 <| ai h (xv h x0 0) 0 1 <| ob h x0 15 <| ai h (xv h x0 0) 0 2 <| some (w32 ((w32 ((xv h (xv h x0 0) 0) + (xv h (xv h x0 0) 1))) + (xv h (xv h x0 0) 2)), h)
theorem WF_X17_size {d : Nat} {Z : XZ XR} (hdd : 1 ≤ d) : ∀ x0 h, XG xfh (xQ 0) RX17 "size" cX17_size 1 (some .int) d Z 0 [(0, (2, x0))] [] h (F_X17_size x0 h) := by
  intro x0 h
  unfold F_X17_size
  refine x_aload_n 0 dX17_size_0 rfl rfl ?_
  refine xg_X17_15 dX17_size_1 ?_
  refine x_ic dX17_size_4 (by decide) (by decide) ?_
  refine x_iald dX17_size_5 ?_
  refine x_aload_n 0 dX17_size_6 rfl rfl ?_
  refine xg_X17_15 dX17_size_7 ?_
  refine x_ic dX17_size_10 (by decide) (by decide) ?_
  refine x_iald dX17_size_11 ?_
  refine x_iadd dX17_size_12 ?_
  refine x_aload_n 0 dX17_size_13 rfl rfl ?_
  refine xg_X17_15 dX17_size_14 ?_
  refine x_ic dX17_size_17 (by decide) (by decide) ?_
  refine x_iald dX17_size_18 ?_
  refine x_iadd dX17_size_19 ?_
  exact x_iret rfl dX17_size_20
theorem SF_X17_size (l : Launch) {d : Nat} (hdd : 1 ≤ d) (x0 : Int) (h : XH) (hok : okH h) (ho : okXs (xn h) [(2, x0)]) (fin : XR) (hf : F_X17_size x0 h = some fin) : xSpec l yX17_size cX17_size 1 (some .int) d 0 [(2, x0)] h fin := x_enter (lv := [(0, (2, x0))]) (by decide) rfl rfl (Nat.le_of_ble_eq_true rfl) rfl (fun Z _ => WF_X17_size hdd x0 h) hok ho fin hf
theorem cl_X17_44 {ρ : Type} {fh : ρ → XH} {QQ : XZ ρ → State → Prop} {mn : String} {cc : ByteArray} {nL : Nat} {ret : Option FieldType} {d : Nat} {Z : XZ ρ} {pc : Nat} {lv : List (Nat × AV)} {st : List AV} {h : XH} {g : Int → XH → Option ρ} {b : Int} (hdd : 2 ≤ d) (hcat : (st.map fun v => if v.1 = 1 then 2 else 1).sum ≤ 8) (hdg : decode cc pc = .ok (.invokevirtual 44, 3)) (kk : ∀ r h1, XG fh QQ RX17 mn cc nL ret d Z (pc + 3) lv ((0, r) :: st) h1 (g r h1)) : XG fh QQ RX17 mn cc nL ret d Z pc lv ((2, b) :: st) h (ob h b 15 (mb (F_X17_size b h) g)) :=
  x_callVi [] 0 (WF_X17_size (Z := (Z.1, Z.2.1, ((0, h), h))) (Nat.le_refl 1) b h).1 (fun hok ho fin hf => SF_X17_size (yL Z) (Nat.le_refl 1) b h hok ho fin hf) RX17 15 rfl (by decide) (lw_V q1050 q1051 q1052 q155 q1053) ⟨rfl, by decide +kernel, by decide +kernel, by decide +kernel⟩ rfl (by omega) (by decide) rfl hcat hdg kk
noncomputable def F_X17_lying (x0 : Int) (h : XH) : Option XR := ob h x0 15 <| mb (F_X17_size x0 h) fun r1 h2 => ob h2 x0 15 <| ob h2 (xv h2 x0 3) 1 <| ob h2 (xv h2 (xv h2 x0 3) 0) 2 <| ai h2 (xv h2 (xv h2 (xv h2 x0 3) 0) 3) 0 0 <| nm (α := Int) (if (xv h2 (xv h2 (xv h2 (xv h2 x0 3) 0) 3) 0) < r1 then (xv h2 (xv h2 (xv h2 (xv h2 x0 3) 0) 3) 0) else r1) fun v3 => some (v3, h2)
theorem WF_X17_lying {d : Nat} {Z : XZ XR} (hdd : 2 ≤ d) : ∀ x0 h, XG xfh (xQ 0) RX17 "lying" cX17_lying 1 (some .int) d Z 0 [(0, (2, x0))] [] h (F_X17_lying x0 h) := by
  intro x0 h
  unfold F_X17_lying
  refine x_aload_n 0 dX17_lying_0 rfl rfl ?_
  refine cl_X17_44 (by omega) (Nat.le_of_ble_eq_true rfl) dX17_lying_1 fun r1 h2 => ?_
  refine x_aload_n 0 dX17_lying_4 rfl rfl ?_
  refine xg_X17_3 dX17_lying_5 ?_
  refine xg_X17_28 dX17_lying_8 ?_
  refine xg_X17_32 dX17_lying_11 ?_
  refine x_ic dX17_lying_14 (by decide) (by decide) ?_
  refine x_iald dX17_lying_15 ?_
  refine x_mmin q1058 q364 q132 q365 (by omega) (Nat.le_of_ble_eq_true rfl) dX17_lying_16 ?_
  refine x_nmT fun v3 => ?_
  exact x_iret rfl dX17_lying_19
theorem SF_X17_lying (l : Launch) {d : Nat} (hdd : 2 ≤ d) (x0 : Int) (h : XH) (hok : okH h) (ho : okXs (xn h) [(2, x0)]) (fin : XR) (hf : F_X17_lying x0 h = some fin) : xSpec l yX17_lying cX17_lying 1 (some .int) d 0 [(2, x0)] h fin := x_enter (lv := [(0, (2, x0))]) (by decide) rfl rfl (Nat.le_of_ble_eq_true rfl) rfl (fun Z _ => WF_X17_lying hdd x0 h) hok ho fin hf
theorem cl_X17_54 {ρ : Type} {fh : ρ → XH} {QQ : XZ ρ → State → Prop} {mn : String} {cc : ByteArray} {nL : Nat} {ret : Option FieldType} {d : Nat} {Z : XZ ρ} {pc : Nat} {lv : List (Nat × AV)} {st : List AV} {h : XH} {g : Int → XH → Option ρ} {b : Int} (hdd : 3 ≤ d) (hcat : (st.map fun v => if v.1 = 1 then 2 else 1).sum ≤ 8) (hdg : decode cc pc = .ok (.invokevirtual 54, 3)) (kk : ∀ r h1, XG fh QQ RX17 mn cc nL ret d Z (pc + 3) lv ((0, r) :: st) h1 (g r h1)) : XG fh QQ RX17 mn cc nL ret d Z pc lv ((2, b) :: st) h (ob h b 15 (mb (F_X17_lying b h) g)) :=
  x_callVi [] 0 (WF_X17_lying (Z := (Z.1, Z.2.1, ((0, h), h))) (Nat.le_refl 2) b h).1 (fun hok ho fin hf => SF_X17_lying (yL Z) (Nat.le_refl 2) b h hok ho fin hf) RX17 15 rfl (by decide) (lw_V q1054 q1055 q1056 q155 q1057) ⟨rfl, by decide +kernel, by decide +kernel, by decide +kernel⟩ rfl (by omega) (by decide) rfl hcat hdg kk
noncomputable def F_X17_leans (x0 : Int) (h : XH) : Option XR := ob h x0 15 <| ai h (xv h x0 1) 0 0 <| ob h x0 15 <| ai h (xv h x0 1) 0 1 <| ob h x0 15 <| ai h (xv h x0 1) 0 2 <| if w32 ((w32 ((xv h (xv h x0 1) 0) + (xv h (xv h x0 1) 1))) + (xv h (xv h x0 1) 2)) ≤ 0 then (some (0, h)) else (ob h x0 15 <| mb (F_X17_lying x0 h) fun r1 h2 => ob h2 x0 15 <| mb (F_X17_size x0 h2) fun r3 h4 => if r3 ≤ r1 then (some (0, h4)) else (some (1, h4)))
theorem WF_X17_leans {d : Nat} {Z : XZ XR} (hdd : 3 ≤ d) : ∀ x0 h, XG xfh (xQ 0) RX17 "leans" cX17_leans 1 (some .boolean) d Z 0 [(0, (2, x0))] [] h (F_X17_leans x0 h) := by
  intro x0 h
  unfold F_X17_leans
  refine x_aload_n 0 dX17_leans_0 rfl rfl ?_
  refine xg_X17_19 dX17_leans_1 ?_
  refine x_ic dX17_leans_4 (by decide) (by decide) ?_
  refine x_iald dX17_leans_5 ?_
  refine x_aload_n 0 dX17_leans_6 rfl rfl ?_
  refine xg_X17_19 dX17_leans_7 ?_
  refine x_ic dX17_leans_10 (by decide) (by decide) ?_
  refine x_iald dX17_leans_11 ?_
  refine x_iadd dX17_leans_12 ?_
  refine x_aload_n 0 dX17_leans_13 rfl rfl ?_
  refine xg_X17_19 dX17_leans_14 ?_
  refine x_ic dX17_leans_17 (by decide) (by decide) ?_
  refine x_iald dX17_leans_18 ?_
  refine x_iadd dX17_leans_19 ?_
  refine x_if_le 38 dX17_leans_20 (by decide) (fun _ => ?_) (fun _ => ?_)
  · refine x_ic dX17_leans_38 (by decide) (by decide) ?_
    exact x_cb (by decide) (x_zret rfl dX17_leans_39)
  · refine x_aload_n 0 dX17_leans_23 rfl rfl ?_
    refine cl_X17_54 (by omega) (Nat.le_of_ble_eq_true rfl) dX17_leans_24 fun r1 h2 => ?_
    refine x_aload_n 0 dX17_leans_27 rfl rfl ?_
    refine cl_X17_44 (by omega) (Nat.le_of_ble_eq_true rfl) dX17_leans_28 fun r3 h4 => ?_
    refine x_icmp_ge 38 dX17_leans_31 (by decide) (fun _ => ?_) (fun _ => ?_)
    · refine x_ic dX17_leans_38 (by decide) (by decide) ?_
      exact x_cb (by decide) (x_zret rfl dX17_leans_39)
    · refine x_ic dX17_leans_34 (by decide) (by decide) ?_
      refine x_goto 39 dX17_leans_35 (by decide) ?_
      exact x_cb (by decide) (x_zret rfl dX17_leans_39)
theorem SF_X17_leans (l : Launch) {d : Nat} (hdd : 3 ≤ d) (x0 : Int) (h : XH) (hok : okH h) (ho : okXs (xn h) [(2, x0)]) (fin : XR) (hf : F_X17_leans x0 h = some fin) : xSpec l yX17_leans cX17_leans 1 (some .boolean) d 0 [(2, x0)] h fin := x_enter (lv := [(0, (2, x0))]) (by decide) rfl rfl (Nat.le_of_ble_eq_true rfl) rfl (fun Z _ => WF_X17_leans hdd x0 h) hok ho fin hf
theorem cl_X17_69 {ρ : Type} {fh : ρ → XH} {QQ : XZ ρ → State → Prop} {mn : String} {cc : ByteArray} {nL : Nat} {ret : Option FieldType} {d : Nat} {Z : XZ ρ} {pc : Nat} {lv : List (Nat × AV)} {st : List AV} {h : XH} {g : Int → XH → Option ρ} {b : Int} (hdd : 4 ≤ d) (hcat : (st.map fun v => if v.1 = 1 then 2 else 1).sum ≤ 8) (hdg : decode cc pc = .ok (.invokevirtual 69, 3)) (kk : ∀ r h1, XG fh QQ RX17 mn cc nL ret d Z (pc + 3) lv ((0, r) :: st) h1 (g r h1)) : XG fh QQ RX17 mn cc nL ret d Z pc lv ((2, b) :: st) h (ob h b 15 (mb (F_X17_leans b h) g)) :=
  x_callVi [] 0 (WF_X17_leans (Z := (Z.1, Z.2.1, ((0, h), h))) (Nat.le_refl 3) b h).1 (fun hok ho fin hf => SF_X17_leans (yL Z) (Nat.le_refl 3) b h hok ho fin hf) RX17 15 rfl (by decide) (lw_V q1059 q1061 qs33 q155 q1062) ⟨rfl, by decide +kernel, by decide +kernel, by decide +kernel⟩ rfl (by omega) (by decide) rfl hcat hdg kk
theorem cl_X17_73 {ρ : Type} {fh : ρ → XH} {QQ : XZ ρ → State → Prop} {mn : String} {cc : ByteArray} {nL : Nat} {ret : Option FieldType} {d : Nat} {Z : XZ ρ} {pc : Nat} {lv : List (Nat × AV)} {st : List AV} {h : XH} {g : Int → XH → Option ρ} {b a0 a1 a2 a3 a4 : Int} (hdd : 4 ≤ d) (hcat : (st.map fun v => if v.1 = 1 then 2 else 1).sum ≤ 8) (hdg : decode cc pc = .ok (.invokevirtual 73, 3)) (kk : ∀ r h1, XG fh QQ RX17 mn cc nL ret d Z (pc + 3) lv st h1 (g r h1)) : XG fh QQ RX17 mn cc nL ret d Z pc lv ((2, a4) :: (1, a3) :: (0, a2) :: (0, a1) :: (2, a0) :: (2, b) :: st) h (ob h b 15 (mb (F_X17_count b a0 a1 a2 a3 a4 h) g)) :=
  x_callVv [(2, a0), (0, a1), (0, a2), (1, a3), (2, a4)] 5 (WF_X17_count (Z := (Z.1, Z.2.1, ((0, h), h))) (Nat.le_refl 3) b a0 a1 a2 a3 a4 h).1 (fun hok ho fin hf => SF_X17_count (yL Z) (Nat.le_refl 3) b a0 a1 a2 a3 a4 h hok ho fin hf) RX17 15 rfl (by decide) (lw_V q1063 q1065 qs34 q155 q1066) ⟨rfl, by decide +kernel, by decide +kernel, by decide +kernel⟩ rfl (by omega) (by decide) rfl hcat hdg kk
noncomputable def F_X17_ways_196 : Nat → Int → Int → Int → XH → Option XR
  | 0, _, _, _, _ => none
  | n + 1, x0, x2, x5, h => ob h x0 15 <| ob h (xv h x0 2) 16 <| if xv h (xv h x0 2) 1 < x5 then (some (x2, h)) else (ob h x0 15 <| ob h (xv h x0 2) 16 <| ai h x2 1 (w32 ((xv h (xv h x0 2) 1) + 1)) <| ai h x2 1 x5 <| ai h x2 1 (w32 ((xv h (xv h x0 2) 1) + 1)) <| nm (hset h x2 (w32 ((xv h (xv h x0 2) 1) + 1)) (w64 ((xv h x2 (w32 ((xv h (xv h x0 2) 1) + 1))) + (xv h x2 x5)))) fun h1 => nm (w32 (x5 + 1)) fun v2 => F_X17_ways_196 n x0 x2 v2 h1)
theorem WF_X17_ways_196 {d : Nat} {Z : XZ XR} (hdd : 4 ≤ d) : ∀ n x0 x2 x5 h, XG xfh (xQ 3) RX17 "ways" cX17_ways 8 (some (.array .long)) d Z 196 [(0, (2, x0)), (2, (2, x2)), (5, (0, x5))] [] h (F_X17_ways_196 n x0 x2 x5 h) := by
  intro n
  induction n with
  | zero => intro x0 x2 x5 h; exact x_none
  | succ n ih =>
    intro x0 x2 x5 h
    rw [F_X17_ways_196]
    refine x_iload 2 dX17_ways_196 rfl ?_
    refine x_aload_n 0 dX17_ways_198 rfl rfl ?_
    refine xg_X17_40 dX17_ways_199 ?_
    refine xg_X17_65 dX17_ways_202 ?_
    refine x_icmp_gt 232 dX17_ways_205 (by decide) (fun _ => ?_) (fun _ => ?_)
    · refine x_aload_n 1 dX17_ways_232 rfl rfl ?_
      exact x_aret rfl (Or.inr ⟨_, rfl⟩) dX17_ways_233
    · refine x_aload_n 1 dX17_ways_208 rfl rfl ?_
      refine x_aload_n 0 dX17_ways_209 rfl rfl ?_
      refine xg_X17_40 dX17_ways_210 ?_
      refine xg_X17_65 dX17_ways_213 ?_
      refine x_ic dX17_ways_216 (by decide) (by decide) ?_
      refine x_iadd dX17_ways_217 ?_
      refine x_dup2 dX17_ways_218 rfl rfl ?_
      refine x_lald dX17_ways_219 ?_
      refine x_aload_n 1 dX17_ways_220 rfl rfl ?_
      refine x_iload 2 dX17_ways_221 rfl ?_
      refine x_lald dX17_ways_223 ?_
      refine x_ladd dX17_ways_224 ?_
      refine x_last dX17_ways_225 fun h1 => ?_
      refine x_iinc 2 dX17_ways_226 rfl (by decide) fun v2 => x_lv (lv' := [(5, (0, v2)), (0, (2, x0)), (2, (2, x2))]) rfl ?_
      refine x_goto 196 dX17_ways_229 (by decide) ?_
      exact x_sub [1, 2, 0] rfl (ih x0 x2 v2 h1)
noncomputable def F_X17_ways_193 (x0 : Int) (x2 : Int) (h : XH) : Option XR := F_X17_ways_196 FU x0 x2 0 h
theorem WF_X17_ways_193 {d : Nat} {Z : XZ XR} (hdd : 4 ≤ d) : ∀ x0 x2 h, XG xfh (xQ 3) RX17 "ways" cX17_ways 8 (some (.array .long)) d Z 193 [(0, (2, x0)), (2, (2, x2))] [] h (F_X17_ways_193 x0 x2 h) := by
  intro x0 x2 h
  unfold F_X17_ways_193
  refine x_ic dX17_ways_193 (by decide) (by decide) ?_
  refine x_istore (lv' := [(5, (0, 0)), (0, (2, x0)), (2, (2, x2))]) dX17_ways_194 (by decide) rfl ?_
  exact x_sub [1, 2, 0] rfl (WF_X17_ways_196 hdd FU x0 x2 0 h)
noncomputable def F_X17_ways_34 (x0 : Int) (x2 : Int) (x4 : Int) (h : XH) : Option XR := ob h x0 15 <| ob h x0 15 <| mb (F_X17_count x0 (xv h x0 0) x4 (-1) 1 x2 h) fun r1 h2 => F_X17_ways_193 x0 x2 h2
theorem WF_X17_ways_34 {d : Nat} {Z : XZ XR} (hdd : 4 ≤ d) : ∀ x0 x2 x4 h, XG xfh (xQ 3) RX17 "ways" cX17_ways 8 (some (.array .long)) d Z 34 [(0, (2, x0)), (2, (2, x2)), (4, (0, x4))] [] h (F_X17_ways_34 x0 x2 x4 h) := by
  intro x0 x2 x4 h
  unfold F_X17_ways_34
  refine x_aload_n 0 dX17_ways_34 rfl rfl ?_
  refine x_aload_n 0 dX17_ways_35 rfl rfl ?_
  refine xg_X17_15 dX17_ways_36 ?_
  refine x_iload 2 dX17_ways_39 rfl ?_
  refine x_ic dX17_ways_41 (by decide) (by decide) ?_
  refine x_l1 dX17_ways_42 ?_
  refine x_aload_n 1 dX17_ways_43 rfl rfl ?_
  refine cl_X17_73 (by omega) (Nat.le_of_ble_eq_true rfl) dX17_ways_44 fun r1 h2 => ?_
  refine x_goto 193 dX17_ways_47 (by decide) ?_
  exact x_sub [0, 1] rfl (WF_X17_ways_193 hdd x0 x2 h2)
noncomputable def F_X17_ways_187 (K100 : Int → Int → Int → Int → Int → Int → XH → Option XR) (x0 : Int) (x1 : Int) (x2 : Int) (x3 : Int) (x4 : Int) (x6 : Int) (h : XH) : Option XR := nm (w32 (x6 + 1)) fun v1 => K100 x0 x1 x2 x3 x4 v1 h
theorem WF_X17_ways_187 {d : Nat} {Z : XZ XR} (hdd : 4 ≤ d) {K100 : Int → Int → Int → Int → Int → Int → XH → Option XR} (hK100 : ∀ x0 x1 x2 x3 x4 x6 h, XG xfh (xQ 3) RX17 "ways" cX17_ways 8 (some (.array .long)) d Z 100 [(0, (2, x0)), (1, (0, x1)), (2, (2, x2)), (3, (0, x3)), (4, (0, x4)), (6, (0, x6))] [] h (K100 x0 x1 x2 x3 x4 x6 h)) : ∀ x0 x1 x2 x3 x4 x6 h, XG xfh (xQ 3) RX17 "ways" cX17_ways 8 (some (.array .long)) d Z 187 [(0, (2, x0)), (1, (0, x1)), (2, (2, x2)), (3, (0, x3)), (4, (0, x4)), (6, (0, x6))] [] h (F_X17_ways_187 K100 x0 x1 x2 x3 x4 x6 h) := by
  intro x0 x1 x2 x3 x4 x6 h
  unfold F_X17_ways_187
  refine x_iinc 5 dX17_ways_187 rfl (by decide) fun v1 => x_lv (lv' := [(6, (0, v1)), (0, (2, x0)), (1, (0, x1)), (2, (2, x2)), (3, (0, x3)), (4, (0, x4))]) rfl ?_
  refine x_goto 100 dX17_ways_190 (by decide) ?_
  exact x_sub [1, 2, 3, 4, 5, 0] rfl (hK100 x0 x1 x2 x3 x4 v1 h)
noncomputable def F_X17_ways_100 : Nat → Int → Int → Int → Int → Int → Int → XH → Option XR
  | 0, _, _, _, _, _, _, _ => none
  | n + 1, x0, x1, x2, x3, x4, x6, h => if 3 ≤ x6 then (F_X17_ways_193 x0 x2 h) else (ob h x0 15 <| ai h (xv h x0 1) 0 x6 <| if xv h (xv h x0 1) x6 = 0 then (F_X17_ways_187 (F_X17_ways_100 n) x0 x1 x2 x3 x4 x6 h) else (na h 0 3 fun r1 h2 => ob h2 x0 15 <| ai h2 (xv h2 x0 0) 0 0 <| ai h2 r1 0 0 <| nm (hset h2 r1 0 (xv h2 (xv h2 x0 0) 0)) fun h3 => ob h3 x0 15 <| ai h3 (xv h3 x0 0) 0 1 <| ai h3 r1 0 1 <| nm (hset h3 r1 1 (xv h3 (xv h3 x0 0) 1)) fun h4 => ob h4 x0 15 <| ai h4 (xv h4 x0 0) 0 2 <| ai h4 r1 0 2 <| nm (hset h4 r1 2 (xv h4 (xv h4 x0 0) 2)) fun h5 => ai h5 r1 0 x6 <| ai h5 r1 0 x6 <| nm (hset h5 r1 x6 (w32 ((xv h5 r1 x6) - 1))) fun h6 => ob h6 x0 15 <| ai h6 (xv h6 x0 1) 0 x6 <| ob h6 x0 15 <| mb (F_X17_count x0 r1 (w32 (x4 - 1)) x6 (w64 ((w64 (x1 * x3)) * (xv h6 (xv h6 x0 1) x6))) x2 h6) fun r7 h8 => F_X17_ways_187 (F_X17_ways_100 n) x0 x1 x2 x3 x4 x6 h8))
theorem WF_X17_ways_100 {d : Nat} {Z : XZ XR} (hdd : 4 ≤ d) : ∀ n x0 x1 x2 x3 x4 x6 h, XG xfh (xQ 3) RX17 "ways" cX17_ways 8 (some (.array .long)) d Z 100 [(0, (2, x0)), (1, (0, x1)), (2, (2, x2)), (3, (0, x3)), (4, (0, x4)), (6, (0, x6))] [] h (F_X17_ways_100 n x0 x1 x2 x3 x4 x6 h) := by
  intro n
  induction n with
  | zero => intro x0 x1 x2 x3 x4 x6 h; exact x_none
  | succ n ih =>
    intro x0 x1 x2 x3 x4 x6 h
    rw [F_X17_ways_100]
    refine x_iload 5 dX17_ways_100 rfl ?_
    refine x_ic dX17_ways_102 (by decide) (by decide) ?_
    refine x_icmp_ge 193 dX17_ways_103 (by decide) (fun _ => ?_) (fun _ => ?_)
    · exact x_sub [0, 2] rfl (WF_X17_ways_193 hdd x0 x2 h)
    · refine x_aload_n 0 dX17_ways_106 rfl rfl ?_
      refine xg_X17_19 dX17_ways_107 ?_
      refine x_iload 5 dX17_ways_110 rfl ?_
      refine x_iald dX17_ways_112 ?_
      refine x_if_ne 119 dX17_ways_113 (by decide) (fun _ => ?_) (fun _ => ?_)
      · refine x_ic dX17_ways_119 (by decide) (by decide) ?_
        refine x_newarr (atype := .int) 0 (by decide) rfl rfl q252 dX17_ways_120 fun r1 h2 => ?_
        refine x_dup dX17_ways_122 rfl ?_
        refine x_ic dX17_ways_123 (by decide) (by decide) ?_
        refine x_aload_n 0 dX17_ways_124 rfl rfl ?_
        refine xg_X17_15 dX17_ways_125 ?_
        refine x_ic dX17_ways_128 (by decide) (by decide) ?_
        refine x_iald dX17_ways_129 ?_
        refine x_iast dX17_ways_130 fun h3 => ?_
        refine x_dup dX17_ways_131 rfl ?_
        refine x_ic dX17_ways_132 (by decide) (by decide) ?_
        refine x_aload_n 0 dX17_ways_133 rfl rfl ?_
        refine xg_X17_15 dX17_ways_134 ?_
        refine x_ic dX17_ways_137 (by decide) (by decide) ?_
        refine x_iald dX17_ways_138 ?_
        refine x_iast dX17_ways_139 fun h4 => ?_
        refine x_dup dX17_ways_140 rfl ?_
        refine x_ic dX17_ways_141 (by decide) (by decide) ?_
        refine x_aload_n 0 dX17_ways_142 rfl rfl ?_
        refine xg_X17_15 dX17_ways_143 ?_
        refine x_ic dX17_ways_146 (by decide) (by decide) ?_
        refine x_iald dX17_ways_147 ?_
        refine x_iast dX17_ways_148 fun h5 => ?_
        refine x_astore (lv' := [(7, (2, r1)), (0, (2, x0)), (1, (0, x1)), (2, (2, x2)), (3, (0, x3)), (4, (0, x4)), (6, (0, x6))]) dX17_ways_149 (by decide) rfl ?_
        refine x_aload 0 dX17_ways_151 rfl ?_
        refine x_iload 6 dX17_ways_153 rfl ?_
        refine x_dup2 dX17_ways_155 rfl rfl ?_
        refine x_iald dX17_ways_156 ?_
        refine x_ic dX17_ways_157 (by decide) (by decide) ?_
        refine x_isub dX17_ways_158 ?_
        refine x_iast dX17_ways_159 fun h6 => ?_
        refine x_aload_n 1 dX17_ways_160 rfl rfl ?_
        refine x_aload 0 dX17_ways_161 rfl ?_
        refine x_iload 5 dX17_ways_163 rfl ?_
        refine x_ic dX17_ways_165 (by decide) (by decide) ?_
        refine x_isub dX17_ways_166 ?_
        refine x_iload 6 dX17_ways_167 rfl ?_
        refine x_iload_n 2 dX17_ways_169 rfl rfl ?_
        refine x_i2l dX17_ways_170 ?_
        refine x_iload_n 4 dX17_ways_171 rfl rfl ?_
        refine x_i2l dX17_ways_172 ?_
        refine x_lmul dX17_ways_173 ?_
        refine x_aload_n 1 dX17_ways_174 rfl rfl ?_
        refine xg_X17_19 dX17_ways_175 ?_
        refine x_iload 6 dX17_ways_178 rfl ?_
        refine x_iald dX17_ways_180 ?_
        refine x_i2l dX17_ways_181 ?_
        refine x_lmul dX17_ways_182 ?_
        refine x_aload_n 3 dX17_ways_183 rfl rfl ?_
        refine cl_X17_73 (by omega) (Nat.le_of_ble_eq_true rfl) dX17_ways_184 fun r7 h8 => ?_
        exact x_sub [1, 2, 3, 4, 5, 6] rfl (WF_X17_ways_187 hdd ih x0 x1 x2 x3 x4 x6 h8)
      · refine x_goto 187 dX17_ways_116 (by decide) ?_
        exact x_sub [0, 1, 2, 3, 4, 5] rfl (WF_X17_ways_187 hdd ih x0 x1 x2 x3 x4 x6 h)
noncomputable def F_X17_ways (x0 : Int) (x1 : Int) (h : XH) : Option XR := ob h x0 15 <| ob h (xv h x0 2) 16 <| na h 1 (w32 ((xv h (xv h x0 2) 1) + 2)) fun r1 h2 => ob h2 x0 15 <| mb (F_X17_size x0 h2) fun r3 h4 => ob h4 x0 15 <| mb (F_X17_lying x0 h4) fun r5 h6 => if x1 = 0 then (F_X17_ways_34 x0 r1 r5 h6) else (ob h6 x0 15 <| mb (F_X17_leans x0 h6) fun r7 h8 => if r7 = 0 then (F_X17_ways_34 x0 r1 r5 h8) else (ob h8 x0 15 <| ai h8 (xv h8 x0 1) 0 0 <| ob h8 x0 15 <| ai h8 (xv h8 x0 1) 0 1 <| ob h8 x0 15 <| ai h8 (xv h8 x0 1) 0 2 <| nm (α := Int) (w32 ((w32 ((xv h8 (xv h8 x0 1) 0) + (xv h8 (xv h8 x0 1) 1))) + (xv h8 (xv h8 x0 1) 2))) fun v9 => ob h8 x0 15 <| ob h8 x0 15 <| mb (F_X17_count x0 (xv h8 x0 0) r5 (-1) (w64 ((w64 ((w32 (100 - x1)) * v9)) * r5)) r1 h8) fun r10 h11 => F_X17_ways_100 FU x0 x1 r1 r3 r5 0 h11))
theorem WF_X17_ways {d : Nat} {Z : XZ XR} (hdd : 4 ≤ d) : ∀ x0 x1 h, XG xfh (xQ 3) RX17 "ways" cX17_ways 8 (some (.array .long)) d Z 0 [(0, (2, x0)), (1, (0, x1))] [] h (F_X17_ways x0 x1 h) := by
  intro x0 x1 h
  unfold F_X17_ways
  refine x_aload_n 0 dX17_ways_0 rfl rfl ?_
  refine xg_X17_40 dX17_ways_1 ?_
  refine xg_X17_65 dX17_ways_4 ?_
  refine x_ic dX17_ways_7 (by decide) (by decide) ?_
  refine x_iadd dX17_ways_8 ?_
  refine x_newarr (atype := .long) 1 (by decide) rfl rfl q275 dX17_ways_9 fun r1 h2 => ?_
  refine x_astore_n (lv' := [(2, (2, r1)), (0, (2, x0)), (1, (0, x1))]) dX17_ways_11 rfl (by decide) rfl ?_
  refine x_aload_n 1 dX17_ways_12 rfl rfl ?_
  refine cl_X17_44 (by omega) (Nat.le_of_ble_eq_true rfl) dX17_ways_13 fun r3 h4 => ?_
  refine x_istore_n (lv' := [(3, (0, r3)), (2, (2, r1)), (0, (2, x0)), (1, (0, x1))]) dX17_ways_16 rfl (by decide) rfl ?_
  refine x_aload_n 2 dX17_ways_17 rfl rfl ?_
  refine cl_X17_54 (by omega) (Nat.le_of_ble_eq_true rfl) dX17_ways_18 fun r5 h6 => ?_
  refine x_istore (lv' := [(4, (0, r5)), (3, (0, r3)), (2, (2, r1)), (0, (2, x0)), (1, (0, x1))]) dX17_ways_21 (by decide) rfl ?_
  refine x_iload_n 4 dX17_ways_23 rfl rfl ?_
  refine x_if_eq 34 dX17_ways_24 (by decide) (fun _ => ?_) (fun _ => ?_)
  · exact x_sub [3, 2, 0] rfl (WF_X17_ways_34 hdd x0 r1 r5 h6)
  · refine x_aload_n 3 dX17_ways_27 rfl rfl ?_
    refine cl_X17_69 (by omega) (Nat.le_of_ble_eq_true rfl) dX17_ways_28 fun r7 h8 => ?_
    refine x_if_ne 50 dX17_ways_31 (by decide) (fun _ => ?_) (fun _ => ?_)
    · refine x_aload_n 3 dX17_ways_50 rfl rfl ?_
      refine xg_X17_19 dX17_ways_51 ?_
      refine x_ic dX17_ways_54 (by decide) (by decide) ?_
      refine x_iald dX17_ways_55 ?_
      refine x_aload_n 3 dX17_ways_56 rfl rfl ?_
      refine xg_X17_19 dX17_ways_57 ?_
      refine x_ic dX17_ways_60 (by decide) (by decide) ?_
      refine x_iald dX17_ways_61 ?_
      refine x_iadd dX17_ways_62 ?_
      refine x_aload_n 3 dX17_ways_63 rfl rfl ?_
      refine xg_X17_19 dX17_ways_64 ?_
      refine x_ic dX17_ways_67 (by decide) (by decide) ?_
      refine x_iald dX17_ways_68 ?_
      refine x_iadd dX17_ways_69 ?_
      refine x_nmT fun v9 => ?_
      refine x_istore (lv' := [(5, (0, v9)), (4, (0, r5)), (3, (0, r3)), (2, (2, r1)), (0, (2, x0)), (1, (0, x1))]) dX17_ways_70 (by decide) rfl ?_
      refine x_aload_n 4 dX17_ways_72 rfl rfl ?_
      refine x_aload_n 4 dX17_ways_73 rfl rfl ?_
      refine xg_X17_15 dX17_ways_74 ?_
      refine x_iload 1 dX17_ways_77 rfl ?_
      refine x_ic dX17_ways_79 (by decide) (by decide) ?_
      refine x_bp dX17_ways_80 (by decide) (by decide) ?_
      refine x_iload_n 5 dX17_ways_82 rfl rfl ?_
      refine x_isub dX17_ways_83 ?_
      refine x_i2l dX17_ways_84 ?_
      refine x_iload 0 dX17_ways_85 rfl ?_
      refine x_i2l dX17_ways_87 ?_
      refine x_lmul dX17_ways_88 ?_
      refine x_iload 1 dX17_ways_89 rfl ?_
      refine x_i2l dX17_ways_91 ?_
      refine x_lmul dX17_ways_92 ?_
      refine x_aload_n 3 dX17_ways_93 rfl rfl ?_
      refine cl_X17_73 (by omega) (Nat.le_of_ble_eq_true rfl) dX17_ways_94 fun r10 h11 => ?_
      refine x_ic dX17_ways_97 (by decide) (by decide) ?_
      refine x_istore (lv' := [(6, (0, 0)), (5, (0, v9)), (4, (0, r5)), (3, (0, r3)), (2, (2, r1)), (0, (2, x0)), (1, (0, x1))]) dX17_ways_98 (by decide) rfl ?_
      exact x_sub [5, 6, 4, 3, 2, 0] rfl (WF_X17_ways_100 hdd FU x0 x1 r1 r3 r5 0 h11)
    · exact x_sub [3, 2, 0] rfl (WF_X17_ways_34 hdd x0 r1 r5 h8)
theorem SF_X17_ways (l : Launch) {d : Nat} (hdd : 4 ≤ d) (x0 : Int) (x1 : Int) (h : XH) (hok : okH h) (ho : okXs (xn h) [(2, x0), (0, x1)]) (fin : XR) (hf : F_X17_ways x0 x1 h = some fin) : xSpec l yX17_ways cX17_ways 8 (some (.array .long)) d 3 [(2, x0), (0, x1)] h fin := x_enter (lv := [(0, (2, x0)), (1, (0, x1))]) (by decide) rfl rfl (Nat.le_of_ble_eq_true rfl) rfl (fun Z _ => WF_X17_ways hdd x0 x1 h) hok ho fin hf
theorem cl_X19_7 {ρ : Type} {fh : ρ → XH} {QQ : XZ ρ → State → Prop} {mn : String} {cc : ByteArray} {nL : Nat} {ret : Option FieldType} {d : Nat} {Z : XZ ρ} {pc : Nat} {lv : List (Nat × AV)} {st : List AV} {h : XH} {g : Int → XH → Option ρ} {a0 a1 : Int} (hdd : 2 ≤ d) (hcat : (st.map fun v => if v.1 = 1 then 2 else 1).sum ≤ 8) (hdg : decode cc pc = .ok (.invokestatic 7, 3)) (kk : ∀ r h1, XG fh QQ RX19 mn cc nL ret d Z (pc + 3) lv ((1, r) :: st) h1 (g r h1)) : XG fh QQ RX19 mn cc nL ret d Z pc lv ((1, a1) :: (1, a0) :: st) h (mb (F_X0_common a0 a1 h) g) :=
  x_callQl [(1, a0), (1, a1)] 2 (WF_X0_common (Z := (Z.1, Z.2.1, ((0, h), h))) (Nat.le_refl 1) a0 a1 h).1 (fun hok ho fin hf => SF_X0_common (yL Z) (Nat.le_refl 1) a0 a1 h hok ho fin hf) q1088 q124 q1089 (lw_meth q1090) ⟨by decide +kernel, by decide +kernel, by decide +kernel⟩ rfl (by omega) (by decide) rfl hcat hdg kk
theorem xpF_X19_13 {ρ : Type} {fh : ρ → XH} {QQ : XZ ρ → State → Prop} {cc : ByteArray} {nL : Nat} {ret : Option FieldType} {d : Nat} {Z : XZ ρ} {pc : Nat} {lv : List (Nat × AV)} {st : List AV} {h : XH} {f : XH → Option ρ} {a x : Int} (hd : decode cc pc = .ok (.putfield 13, 3)) (kk : ∀ h1, XG fh QQ RX19 "<init>" cc nL ret d Z (pc + 3) lv st h1 (f h1)) : XG fh QQ RX19 "<init>" cc nL ret d Z pc lv ((1, x) :: (2, a) :: st) h (ob h a 17 (nm (hset h a 0 x) f)) := x_putF (C := RX19) (ref := RX19) 17 0 rfl in_X19 tyX19_ok nmX19 (by decide) rfl (by decide) (Or.inl rfl) rfl rfl rfl (xfit_X19 0 (by decide)) 1 rfl q1091 hd kk
theorem xpF_X19_19 {ρ : Type} {fh : ρ → XH} {QQ : XZ ρ → State → Prop} {cc : ByteArray} {nL : Nat} {ret : Option FieldType} {d : Nat} {Z : XZ ρ} {pc : Nat} {lv : List (Nat × AV)} {st : List AV} {h : XH} {f : XH → Option ρ} {a x : Int} (hd : decode cc pc = .ok (.putfield 19, 3)) (kk : ∀ h1, XG fh QQ RX19 "<init>" cc nL ret d Z (pc + 3) lv st h1 (f h1)) : XG fh QQ RX19 "<init>" cc nL ret d Z pc lv ((1, x) :: (2, a) :: st) h (ob h a 17 (nm (hset h a 1 x) f)) := x_putF (C := RX19) (ref := RX19) 17 1 rfl in_X19 tyX19_ok nmX19 (by decide) rfl (by decide) (Or.inl rfl) rfl rfl rfl (xfit_X19 1 (by decide)) 1 rfl q1093 hd kk
noncomputable def F_X19_init (x0 : Int) (x1 : Int) (x3 : Int) (h : XH) : Option XR := pz x0 <| mb (F_X0_common x3 x1 h) fun r1 h2 => cz r1 <| ob h2 x0 17 <| nm (hset h2 x0 0 (w64 (x1.tdiv r1))) fun h3 => cz r1 <| ob h3 x0 17 <| nm (hset h3 x0 1 (w64 (x3.tdiv r1))) fun h4 => some (0, h4)
theorem WF_X19_init {d : Nat} {Z : XZ XR} (hdd : 2 ≤ d) : ∀ x0 x1 x3 h, XG xfh (xQ 2) RX19 "<init>" cX19_init 7 none d Z 0 [(0, (2, x0)), (1, (1, x1)), (3, (1, x3))] [] h (F_X19_init x0 x1 x3 h) := by
  intro x0 x1 x3 h
  unfold F_X19_init
  refine x_aload_n 0 dX19_init_0 rfl rfl ?_
  refine x_objinit q1087 q176 q177 (by omega) (Nat.le_of_ble_eq_true rfl) dX19_init_1 ?_
  refine x_lload_n 2 dX19_init_4 rfl rfl ?_
  refine x_lload_n 1 dX19_init_5 rfl rfl ?_
  refine cl_X19_7 (by omega) (Nat.le_of_ble_eq_true rfl) dX19_init_6 fun r1 h2 => ?_
  refine x_lstore (lv' := [(5, (1, r1)), (0, (2, x0)), (1, (1, x1)), (3, (1, x3))]) dX19_init_9 (by decide) rfl ?_
  refine x_aload_n 1 dX19_init_11 rfl rfl ?_
  refine x_lload_n 2 dX19_init_12 rfl rfl ?_
  refine x_lload 0 dX19_init_13 rfl ?_
  refine x_ldiv dX19_init_15 ?_
  refine xpF_X19_13 dX19_init_16 fun h3 => ?_
  refine x_aload_n 1 dX19_init_19 rfl rfl ?_
  refine x_lload_n 3 dX19_init_20 rfl rfl ?_
  refine x_lload 0 dX19_init_21 rfl ?_
  refine x_ldiv dX19_init_23 ?_
  refine xpF_X19_19 dX19_init_24 fun h4 => ?_
  exact x_vret rfl dX19_init_27
theorem SF_X19_init (l : Launch) {d : Nat} (hdd : 2 ≤ d) (x0 : Int) (x1 : Int) (x3 : Int) (h : XH) (hok : okH h) (ho : okXs (xn h) [(2, x0), (1, x1), (1, x3)]) (fin : XR) (hf : F_X19_init x0 x1 x3 h = some fin) : xSpec l yX19_init cX19_init 7 none d 2 [(2, x0), (1, x1), (1, x3)] h fin := x_enter (lv := [(0, (2, x0)), (1, (1, x1)), (3, (1, x3))]) (by decide) rfl rfl (Nat.le_of_ble_eq_true rfl) rfl (fun Z _ => WF_X19_init hdd x0 x1 x3 h) hok ho fin hf
theorem cl_X17_77 {ρ : Type} {fh : ρ → XH} {QQ : XZ ρ → State → Prop} {mn : String} {cc : ByteArray} {nL : Nat} {ret : Option FieldType} {d : Nat} {Z : XZ ρ} {pc : Nat} {lv : List (Nat × AV)} {st : List AV} {h : XH} {g : Int → XH → Option ρ} {b a0 : Int} (hdd : 5 ≤ d) (hcat : (st.map fun v => if v.1 = 1 then 2 else 1).sum ≤ 8) (hdg : decode cc pc = .ok (.invokevirtual 77, 3)) (kk : ∀ r h1, XG fh QQ RX17 mn cc nL ret d Z (pc + 3) lv ((2, r) :: st) h1 (g r h1)) : XG fh QQ RX17 mn cc nL ret d Z pc lv ((0, a0) :: (2, b) :: st) h (ob h b 15 (mb (F_X17_ways b a0 h) g)) :=
  x_callVr [(0, a0)] 1 (WF_X17_ways (Z := (Z.1, Z.2.1, ((0, h), h))) (Nat.le_refl 4) b a0 h).1 (fun hok ho fin hf => SF_X17_ways (yL Z) (Nat.le_refl 4) b a0 h hok ho fin hf) RX17 15 rfl (by decide) (lw_V q1046 q1047 q1048 q155 q1049) ⟨rfl, by decide +kernel, by decide +kernel, by decide +kernel⟩ rfl (by omega) (by decide) rfl hcat hdg kk
theorem cl_X17_83 {ρ : Type} {fh : ρ → XH} {QQ : XZ ρ → State → Prop} {mn : String} {cc : ByteArray} {nL : Nat} {ret : Option FieldType} {d : Nat} {Z : XZ ρ} {pc : Nat} {lv : List (Nat × AV)} {st : List AV} {h : XH} {g : Int → XH → Option ρ} {b a0 a1 : Int} (hdd : 2 ≤ d) (hcat : (st.map fun v => if v.1 = 1 then 2 else 1).sum ≤ 8) (hdg : decode cc pc = .ok (.invokevirtual 83, 3)) (kk : ∀ r h1, XG fh QQ RX17 mn cc nL ret d Z (pc + 3) lv ((1, r) :: st) h1 (g r h1)) : XG fh QQ RX17 mn cc nL ret d Z pc lv ((0, a1) :: (2, a0) :: (2, b) :: st) h (ob h b 15 (mb (F_X17_passes b a0 a1 h) g)) :=
  x_callVl [(2, a0), (0, a1)] 2 (WF_X17_passes (Z := (Z.1, Z.2.1, ((0, h), h))) (Nat.le_refl 1) b a0 a1 h).1 (fun hok ho fin hf => SF_X17_passes (yL Z) (Nat.le_refl 1) b a0 a1 h hok ho fin hf) RX17 15 rfl (by decide) (lw_V q1080 q1081 q1082 q155 q1083) ⟨rfl, by decide +kernel, by decide +kernel, by decide +kernel⟩ rfl (by omega) (by decide) rfl hcat hdg kk
theorem cl_X17_87 {ρ : Type} {fh : ρ → XH} {QQ : XZ ρ → State → Prop} {mn : String} {cc : ByteArray} {nL : Nat} {ret : Option FieldType} {d : Nat} {Z : XZ ρ} {pc : Nat} {lv : List (Nat × AV)} {st : List AV} {h : XH} {g : Int → XH → Option ρ} {b a0 a1 : Int} (hdd : 3 ≤ d) (hcat : (st.map fun v => if v.1 = 1 then 2 else 1).sum ≤ 8) (hdg : decode cc pc = .ok (.invokespecial 87, 3)) (kk : ∀ r h1, XG fh QQ RX17 mn cc nL ret d Z (pc + 3) lv st h1 (g r h1)) : XG fh QQ RX17 mn cc nL ret d Z pc lv ((1, a1) :: (1, a0) :: (2, b) :: st) h (pz b (mb (F_X19_init b a0 a1 h) g)) :=
  x_callIv [(1, a0), (1, a1)] 2 (WF_X19_init (Z := (Z.1, Z.2.1, ((0, h), h))) (Nat.le_refl 2) b a0 a1 h).1 (fun hok ho fin hf => SF_X19_init (yL Z) (Nat.le_refl 2) b a0 a1 h hok ho fin hf) (lw_meth q1086) q157 q1084 q1085 rfl ⟨by decide +kernel, by decide +kernel, by decide +kernel⟩ rfl (by omega) (by decide) rfl hcat hdg kk
theorem xn_X17_81 {ρ : Type} {fh : ρ → XH} {QQ : XZ ρ → State → Prop} {mn : String} {cc : ByteArray} {nL : Nat} {ret : Option FieldType} {d : Nat} {Z : XZ ρ} {pc : Nat} {lv : List (Nat × AV)} {st : List AV} {h : XH} {f : Int → XH → Option ρ} (hd : decode cc pc = .ok (.new 81, 3)) (kk : ∀ r h1, XG fh QQ RX17 mn cc nL ret d Z (pc + 3) lv ((2, r) :: st) h1 (f r h1)) : XG fh QQ RX17 mn cc nL ret d Z pc lv st h (nw h 17 2 f) := x_new (C := RX19) 17 rfl in_X19 tyX19_ok (by decide) rfl (by decide) xfit_X19 q1078 q1079 q157 hd kk
noncomputable def F_X17_pass (x0 : Int) (x1 : Int) (h : XH) : Option XR := ob h x0 15 <| mb (F_X17_ways x0 x1 h) fun r1 h2 => nw h2 17 2 fun r3 h4 => ob h4 x0 15 <| ob h4 (xv h4 x0 3) 1 <| ob h4 (xv h4 (xv h4 x0 3) 0) 2 <| ai h4 (xv h4 (xv h4 (xv h4 x0 3) 0) 3) 0 2 <| ob h4 x0 15 <| mb (F_X17_passes x0 r1 (xv h4 (xv h4 (xv h4 (xv h4 x0 3) 0) 3) 2) h4) fun r5 h6 => ob h6 x0 15 <| ob h6 (xv h6 x0 2) 16 <| ai h6 r1 1 (w32 ((xv h6 (xv h6 x0 2) 1) + 1)) <| pz r3 <| mb (F_X19_init r3 r5 (xv h6 r1 (w32 ((xv h6 (xv h6 x0 2) 1) + 1))) h6) fun r7 h8 => some (r3, h8)
theorem WF_X17_pass {d : Nat} {Z : XZ XR} (hdd : 5 ≤ d) : ∀ x0 x1 h, XG xfh (xQ 3) RX17 "pass" cX17_pass 3 (some (.object "ExamSlips$Share")) d Z 0 [(0, (2, x0)), (1, (0, x1))] [] h (F_X17_pass x0 x1 h) := by
  intro x0 x1 h
  unfold F_X17_pass
  refine x_aload_n 0 dX17_pass_0 rfl rfl ?_
  refine x_iload_n 1 dX17_pass_1 rfl rfl ?_
  refine cl_X17_77 (by omega) (Nat.le_of_ble_eq_true rfl) dX17_pass_2 fun r1 h2 => ?_
  refine x_astore_n (lv' := [(2, (2, r1)), (0, (2, x0)), (1, (0, x1))]) dX17_pass_5 rfl (by decide) rfl ?_
  refine xn_X17_81 dX17_pass_6 fun r3 h4 => ?_
  refine x_dup dX17_pass_9 rfl ?_
  refine x_aload_n 1 dX17_pass_10 rfl rfl ?_
  refine x_aload_n 0 dX17_pass_11 rfl rfl ?_
  refine x_aload_n 1 dX17_pass_12 rfl rfl ?_
  refine xg_X17_3 dX17_pass_13 ?_
  refine xg_X17_28 dX17_pass_16 ?_
  refine xg_X17_32 dX17_pass_19 ?_
  refine x_ic dX17_pass_22 (by decide) (by decide) ?_
  refine x_iald dX17_pass_23 ?_
  refine cl_X17_83 (by omega) (Nat.le_of_ble_eq_true rfl) dX17_pass_24 fun r5 h6 => ?_
  refine x_aload_n 0 dX17_pass_27 rfl rfl ?_
  refine x_aload_n 1 dX17_pass_28 rfl rfl ?_
  refine xg_X17_40 dX17_pass_29 ?_
  refine xg_X17_65 dX17_pass_32 ?_
  refine x_ic dX17_pass_35 (by decide) (by decide) ?_
  refine x_iadd dX17_pass_36 ?_
  refine x_lald dX17_pass_37 ?_
  refine cl_X17_87 (by omega) (Nat.le_of_ble_eq_true rfl) dX17_pass_38 fun r7 h8 => ?_
  exact x_aret rfl (Or.inl ⟨_, rfl⟩) dX17_pass_41
theorem SF_X17_pass (l : Launch) {d : Nat} (hdd : 5 ≤ d) (x0 : Int) (x1 : Int) (h : XH) (hok : okH h) (ho : okXs (xn h) [(2, x0), (0, x1)]) (fin : XR) (hf : F_X17_pass x0 x1 h = some fin) : xSpec l yX17_pass cX17_pass 3 (some (.object "ExamSlips$Share")) d 3 [(2, x0), (0, x1)] h fin := x_enter (lv := [(0, (2, x0)), (1, (0, x1))]) (by decide) rfl rfl (Nat.le_of_ble_eq_true rfl) rfl (fun Z _ => WF_X17_pass hdd x0 x1 h) hok ho fin hf
theorem xg_X19_13 {ρ : Type} {fh : ρ → XH} {QQ : XZ ρ → State → Prop} {mn : String} {cc : ByteArray} {nL : Nat} {ret : Option FieldType} {d : Nat} {Z : XZ ρ} {pc : Nat} {lv : List (Nat × AV)} {st : List AV} {h : XH} {res : Option ρ} {a : Int} (hd : decode cc pc = .ok (.getfield 13, 3)) (kk : XG fh QQ RX19 mn cc nL ret d Z (pc + 3) lv ((1, xv h a 0) :: st) h res) : XG fh QQ RX19 mn cc nL ret d Z pc lv ((2, a) :: st) h (ob h a 17 res) := x_get (C := RX19) (ref := RX19) 17 0 rfl in_X19 (by decide) rfl (by decide) (Or.inl rfl) q1091 hd kk
theorem xg_X19_19 {ρ : Type} {fh : ρ → XH} {QQ : XZ ρ → State → Prop} {mn : String} {cc : ByteArray} {nL : Nat} {ret : Option FieldType} {d : Nat} {Z : XZ ρ} {pc : Nat} {lv : List (Nat × AV)} {st : List AV} {h : XH} {res : Option ρ} {a : Int} (hd : decode cc pc = .ok (.getfield 19, 3)) (kk : XG fh QQ RX19 mn cc nL ret d Z (pc + 3) lv ((1, xv h a 1) :: st) h res) : XG fh QQ RX19 mn cc nL ret d Z pc lv ((2, a) :: st) h (ob h a 17 res) := x_get (C := RX19) (ref := RX19) 17 1 rfl in_X19 (by decide) rfl (by decide) (Or.inl rfl) q1093 hd kk
noncomputable def F_X19_part (x0 : Int) (x1 : Int) (h : XH) : Option XR := if x1 = 0 then (ob h x0 17 <| some (xv h x0 0, h)) else (ob h x0 17 <| some (xv h x0 1, h))
theorem WF_X19_part {d : Nat} {Z : XZ XR} (hdd : 1 ≤ d) : ∀ x0 x1 h, XG xfh (xQ 1) RX19 "part" cX19_part 2 (some .long) d Z 0 [(0, (2, x0)), (1, (0, x1))] [] h (F_X19_part x0 x1 h) := by
  intro x0 x1 h
  unfold F_X19_part
  refine x_iload_n 1 dX19_part_0 rfl rfl ?_
  refine x_if_ne 11 dX19_part_1 (by decide) (fun _ => ?_) (fun _ => ?_)
  · refine x_aload_n 0 dX19_part_11 rfl rfl ?_
    refine xg_X19_19 dX19_part_12 ?_
    exact x_lret rfl dX19_part_15
  · refine x_aload_n 0 dX19_part_4 rfl rfl ?_
    refine xg_X19_13 dX19_part_5 ?_
    refine x_goto 15 dX19_part_8 (by decide) ?_
    exact x_lret rfl dX19_part_15
theorem SF_X19_part (l : Launch) {d : Nat} (hdd : 1 ≤ d) (x0 : Int) (x1 : Int) (h : XH) (hok : okH h) (ho : okXs (xn h) [(2, x0), (0, x1)]) (fin : XR) (hf : F_X19_part x0 x1 h = some fin) : xSpec l yX19_part cX19_part 2 (some .long) d 1 [(2, x0), (0, x1)] h fin := x_enter (lv := [(0, (2, x0)), (1, (0, x1))]) (by decide) rfl rfl (Nat.le_of_ble_eq_true rfl) rfl (fun Z _ => WF_X19_part hdd x0 x1 h) hok ho fin hf
theorem cl_X0_220 {ρ : Type} {fh : ρ → XH} {QQ : XZ ρ → State → Prop} {mn : String} {cc : ByteArray} {nL : Nat} {ret : Option FieldType} {d : Nat} {Z : XZ ρ} {pc : Nat} {lv : List (Nat × AV)} {st : List AV} {h : XH} {g : Int → XH → Option ρ} {a0 : Int} (hdd : 3 ≤ d) (hcat : (st.map fun v => if v.1 = 1 then 2 else 1).sum ≤ 8) (hdg : decode cc pc = .ok (.invokestatic 220, 3)) (kk : ∀ r h1, XG fh QQ RX0 mn cc nL ret d Z (pc + 3) lv ((0, r) :: st) h1 (g r h1)) : XG fh QQ RX0 mn cc nL ret d Z pc lv ((0, a0) :: st) h (mb (F_X0_isPart a0 h) g) :=
  x_callSi [(0, a0)] 1 (WF_X0_isPart (Z := (Z.1, Z.2.1, ((0, h), h))) (Nat.le_refl 2) a0 h).1 (fun hok ho fin hf => SF_X0_isPart (yL Z) (Nat.le_refl 2) a0 h hok ho fin hf) (lw_S q990 q991 q124 q992) ⟨by decide +kernel, by decide +kernel, by decide +kernel⟩ rfl (by omega) (by decide) rfl hcat hdg kk
theorem cl_X0_223 {ρ : Type} {fh : ρ → XH} {QQ : XZ ρ → State → Prop} {mn : String} {cc : ByteArray} {nL : Nat} {ret : Option FieldType} {d : Nat} {Z : XZ ρ} {pc : Nat} {lv : List (Nat × AV)} {st : List AV} {h : XH} {g : Int → XH → Option ρ} {b a0 a1 : Int} (hdd : 130 ≤ d) (hcat : (st.map fun v => if v.1 = 1 then 2 else 1).sum ≤ 8) (hdg : decode cc pc = .ok (.invokevirtual 223, 3)) (kk : ∀ r h1, XG fh QQ RX0 mn cc nL ret d Z (pc + 3) lv ((2, r) :: st) h1 (g r h1)) : XG fh QQ RX0 mn cc nL ret d Z pc lv ((0, a1) :: (0, a0) :: (2, b) :: st) h (ob h b 1 (mb (F_X0_bowl b a0 a1 h) g)) :=
  x_callVr [(0, a0), (0, a1)] 2 (WF_X0_bowl (Z := (Z.1, Z.2.1, ((0, h), h))) (Nat.le_refl 129) b a0 a1 h).1 (fun hok ho fin hf => SF_X0_bowl (yL Z) (Nat.le_refl 129) b a0 a1 h hok ho fin hf) RX0 1 rfl (by decide) (lw_V q993 q995 qs31 q124 q996) ⟨rfl, by decide +kernel, by decide +kernel, by decide +kernel⟩ rfl (by omega) (by decide) rfl hcat hdg kk
theorem cl_X0_227 {ρ : Type} {fh : ρ → XH} {QQ : XZ ρ → State → Prop} {mn : String} {cc : ByteArray} {nL : Nat} {ret : Option FieldType} {d : Nat} {Z : XZ ρ} {pc : Nat} {lv : List (Nat × AV)} {st : List AV} {h : XH} {g : Int → XH → Option ρ} {b a0 : Int} (hdd : 6 ≤ d) (hcat : (st.map fun v => if v.1 = 1 then 2 else 1).sum ≤ 8) (hdg : decode cc pc = .ok (.invokevirtual 227, 3)) (kk : ∀ r h1, XG fh QQ RX0 mn cc nL ret d Z (pc + 3) lv ((2, r) :: st) h1 (g r h1)) : XG fh QQ RX0 mn cc nL ret d Z pc lv ((0, a0) :: (2, b) :: st) h (ob h b 15 (mb (F_X17_pass b a0 h) g)) :=
  x_callVr [(0, a0)] 1 (WF_X17_pass (Z := (Z.1, Z.2.1, ((0, h), h))) (Nat.le_refl 5) b a0 h).1 (fun hok ho fin hf => SF_X17_pass (yL Z) (Nat.le_refl 5) b a0 h hok ho fin hf) RX17 15 rfl (by decide) (lw_V q1042 q1043 q1044 q155 q1045) ⟨rfl, by decide +kernel, by decide +kernel, by decide +kernel⟩ rfl (by omega) (by decide) rfl hcat hdg kk
theorem cl_X0_231 {ρ : Type} {fh : ρ → XH} {QQ : XZ ρ → State → Prop} {mn : String} {cc : ByteArray} {nL : Nat} {ret : Option FieldType} {d : Nat} {Z : XZ ρ} {pc : Nat} {lv : List (Nat × AV)} {st : List AV} {h : XH} {g : Int → XH → Option ρ} {b a0 : Int} (hdd : 2 ≤ d) (hcat : (st.map fun v => if v.1 = 1 then 2 else 1).sum ≤ 8) (hdg : decode cc pc = .ok (.invokevirtual 231, 3)) (kk : ∀ r h1, XG fh QQ RX0 mn cc nL ret d Z (pc + 3) lv ((1, r) :: st) h1 (g r h1)) : XG fh QQ RX0 mn cc nL ret d Z pc lv ((0, a0) :: (2, b) :: st) h (ob h b 17 (mb (F_X19_part b a0 h) g)) :=
  x_callVl [(0, a0)] 1 (WF_X19_part (Z := (Z.1, Z.2.1, ((0, h), h))) (Nat.le_refl 1) b a0 h).1 (fun hok ho fin hf => SF_X19_part (yL Z) (Nat.le_refl 1) b a0 h hok ho fin hf) RX19 17 rfl (by decide) (lw_V q1100 q1101 q1102 q157 q1103) ⟨rfl, by decide +kernel, by decide +kernel, by decide +kernel⟩ rfl (by omega) (by decide) rfl hcat hdg kk
noncomputable def F_X0_pass (x0 : Int) (x1 : Int) (h : XH) : Option XR := mb (F_X0_isPart x1 h) fun r1 h2 => if r1 = 0 then (some ((-1), h2)) else (ob h2 x0 1 <| mb (F_X0_bowl x0 (-1) 0 h2) fun r3 h4 => ob h4 x0 1 <| ob h4 (xv h4 x0 0) 2 <| ai h4 (xv h4 (xv h4 x0 0) 3) 0 3 <| ob h4 r3 15 <| mb (F_X17_pass r3 (xv h4 (xv h4 (xv h4 x0 0) 3) 3) h4) fun r5 h6 => ob h6 r5 17 <| mb (F_X19_part r5 x1 h6) fun r7 h8 => some (r7, h8))
theorem WF_X0_pass {d : Nat} {Z : XZ XR} (hdd : 130 ≤ d) : ∀ x0 x1 h, XG xfh (xQ 1) RX0 "pass" cX0_pass 2 (some .long) d Z 0 [(0, (2, x0)), (1, (0, x1))] [] h (F_X0_pass x0 x1 h) := by
  intro x0 x1 h
  unfold F_X0_pass
  refine x_iload_n 1 dX0_pass_0 rfl rfl ?_
  refine cl_X0_220 (by omega) (Nat.le_of_ble_eq_true rfl) dX0_pass_1 fun r1 h2 => ?_
  refine x_if_eq 32 dX0_pass_4 (by decide) (fun _ => ?_) (fun _ => ?_)
  · refine x_ldc2 (n := -1) q1104 dX0_pass_32 (by decide +kernel) ⟨by decide, by decide⟩ ?_
    exact x_lret rfl dX0_pass_35
  · refine x_aload_n 0 dX0_pass_7 rfl rfl ?_
    refine x_ic dX0_pass_8 (by decide) (by decide) ?_
    refine x_ic dX0_pass_9 (by decide) (by decide) ?_
    refine cl_X0_223 (by omega) (Nat.le_of_ble_eq_true rfl) dX0_pass_10 fun r3 h4 => ?_
    refine x_aload_n 0 dX0_pass_13 rfl rfl ?_
    refine xg_X0_17 dX0_pass_14 ?_
    refine xg_X0_174 dX0_pass_17 ?_
    refine x_ic dX0_pass_20 (by decide) (by decide) ?_
    refine x_iald dX0_pass_21 ?_
    refine cl_X0_227 (by omega) (Nat.le_of_ble_eq_true rfl) dX0_pass_22 fun r5 h6 => ?_
    refine x_iload_n 1 dX0_pass_25 rfl rfl ?_
    refine cl_X0_231 (by omega) (Nat.le_of_ble_eq_true rfl) dX0_pass_26 fun r7 h8 => ?_
    refine x_goto 35 dX0_pass_29 (by decide) ?_
    exact x_lret rfl dX0_pass_35
theorem SF_X0_pass (l : Launch) {d : Nat} (hdd : 130 ≤ d) (x0 : Int) (x1 : Int) (h : XH) (hok : okH h) (ho : okXs (xn h) [(2, x0), (0, x1)]) (fin : XR) (hf : F_X0_pass x0 x1 h = some fin) : xSpec l yX0_pass cX0_pass 2 (some .long) d 1 [(2, x0), (0, x1)] h fin := x_enter (lv := [(0, (2, x0)), (1, (0, x1))]) (by decide) rfl rfl (Nat.le_of_ble_eq_true rfl) rfl (fun Z _ => WF_X0_pass hdd x0 x1 h) hok ho fin hf
theorem cl_X0_239 {ρ : Type} {fh : ρ → XH} {QQ : XZ ρ → State → Prop} {mn : String} {cc : ByteArray} {nL : Nat} {ret : Option FieldType} {d : Nat} {Z : XZ ρ} {pc : Nat} {lv : List (Nat × AV)} {st : List AV} {h : XH} {g : Int → XH → Option ρ} {b a0 : Int} (hdd : 5 ≤ d) (hcat : (st.map fun v => if v.1 = 1 then 2 else 1).sum ≤ 8) (hdg : decode cc pc = .ok (.invokevirtual 239, 3)) (kk : ∀ r h1, XG fh QQ RX0 mn cc nL ret d Z (pc + 3) lv ((2, r) :: st) h1 (g r h1)) : XG fh QQ RX0 mn cc nL ret d Z pc lv ((0, a0) :: (2, b) :: st) h (ob h b 15 (mb (F_X17_ways b a0 h) g)) :=
  x_callVr [(0, a0)] 1 (WF_X17_ways (Z := (Z.1, Z.2.1, ((0, h), h))) (Nat.le_refl 4) b a0 h).1 (fun hok ho fin hf => SF_X17_ways (yL Z) (Nat.le_refl 4) b a0 h hok ho fin hf) RX17 15 rfl (by decide) (lw_V q1109 q1047 q1048 q155 q1049) ⟨rfl, by decide +kernel, by decide +kernel, by decide +kernel⟩ rfl (by omega) (by decide) rfl hcat hdg kk
theorem cl_X0_252 {ρ : Type} {fh : ρ → XH} {QQ : XZ ρ → State → Prop} {mn : String} {cc : ByteArray} {nL : Nat} {ret : Option FieldType} {d : Nat} {Z : XZ ρ} {pc : Nat} {lv : List (Nat × AV)} {st : List AV} {h : XH} {g : Int → XH → Option ρ} {b a0 a1 : Int} (hdd : 3 ≤ d) (hcat : (st.map fun v => if v.1 = 1 then 2 else 1).sum ≤ 8) (hdg : decode cc pc = .ok (.invokespecial 252, 3)) (kk : ∀ r h1, XG fh QQ RX0 mn cc nL ret d Z (pc + 3) lv st h1 (g r h1)) : XG fh QQ RX0 mn cc nL ret d Z pc lv ((1, a1) :: (1, a0) :: (2, b) :: st) h (pz b (mb (F_X19_init b a0 a1 h) g)) :=
  x_callIv [(1, a0), (1, a1)] 2 (WF_X19_init (Z := (Z.1, Z.2.1, ((0, h), h))) (Nat.le_refl 2) b a0 a1 h).1 (fun hok ho fin hf => SF_X19_init (yL Z) (Nat.le_refl 2) b a0 a1 h hok ho fin hf) (lw_meth q1086) q157 q1111 q1085 rfl ⟨by decide +kernel, by decide +kernel, by decide +kernel⟩ rfl (by omega) (by decide) rfl hcat hdg kk
theorem xg_X0_243 {ρ : Type} {fh : ρ → XH} {QQ : XZ ρ → State → Prop} {mn : String} {cc : ByteArray} {nL : Nat} {ret : Option FieldType} {d : Nat} {Z : XZ ρ} {pc : Nat} {lv : List (Nat × AV)} {st : List AV} {h : XH} {res : Option ρ} {a : Int} (hd : decode cc pc = .ok (.getfield 243, 3)) (kk : XG fh QQ RX0 mn cc nL ret d Z (pc + 3) lv ((2, xv h a 2) :: st) h res) : XG fh QQ RX0 mn cc nL ret d Z pc lv ((2, a) :: st) h (ob h a 15 res) := x_getN (C := RX17) (ref := RX17) 15 2 rfl in_X17 (by decide) rfl (by decide) (Or.inl rfl) q1027 hd kk
theorem xg_X0_247 {ρ : Type} {fh : ρ → XH} {QQ : XZ ρ → State → Prop} {mn : String} {cc : ByteArray} {nL : Nat} {ret : Option FieldType} {d : Nat} {Z : XZ ρ} {pc : Nat} {lv : List (Nat × AV)} {st : List AV} {h : XH} {res : Option ρ} {a : Int} (hd : decode cc pc = .ok (.getfield 247, 3)) (kk : XG fh QQ RX0 mn cc nL ret d Z (pc + 3) lv ((0, xv h a 1) :: st) h res) : XG fh QQ RX0 mn cc nL ret d Z pc lv ((2, a) :: st) h (ob h a 16 res) := x_getN (C := RX18) (ref := RX18) 16 1 rfl in_X18 (by decide) rfl (by decide) (Or.inl rfl) q1018 hd kk
theorem xn_X0_232 {ρ : Type} {fh : ρ → XH} {QQ : XZ ρ → State → Prop} {mn : String} {cc : ByteArray} {nL : Nat} {ret : Option FieldType} {d : Nat} {Z : XZ ρ} {pc : Nat} {lv : List (Nat × AV)} {st : List AV} {h : XH} {f : Int → XH → Option ρ} (hd : decode cc pc = .ok (.new 232, 3)) (kk : ∀ r h1, XG fh QQ RX0 mn cc nL ret d Z (pc + 3) lv ((2, r) :: st) h1 (f r h1)) : XG fh QQ RX0 mn cc nL ret d Z pc lv st h (nw h 17 2 f) := x_new (C := RX19) 17 rfl in_X19 tyX19_ok (by decide) rfl (by decide) xfit_X19 q1110 q1079 q157 hd kk
noncomputable def F_X0_right_19 (h : XH) : Option XR := some ((-1), h)
theorem WF_X0_right_19 {d : Nat} {Z : XZ XR} (hdd : 130 ≤ d) : ∀ h, XG xfh (xQ 1) RX0 "right" cX0_right 5 (some .long) d Z 19 [] [] h (F_X0_right_19 h) := by
  intro h
  unfold F_X0_right_19
  refine x_ldc2 (n := -1) q1104 dX0_right_19 (by decide +kernel) ⟨by decide, by decide⟩ ?_
  exact x_lret rfl dX0_right_22
noncomputable def F_X0_right_68 (s0 : Int) (s1 : Int) (s2 : Int) (x2 : Int) (x3 : Int) (x4 : Int) (h : XH) : Option XR := ob h x3 15 <| ob h (xv h x3 2) 16 <| ai h x4 1 (w32 ((xv h (xv h x3 2) 1) + 1)) <| pz s1 <| mb (F_X19_init s1 s2 (xv h x4 (w32 ((xv h (xv h x3 2) 1) + 1))) h) fun r1 h2 => ob h2 s0 17 <| mb (F_X19_part s0 x2 h2) fun r3 h4 => some (r3, h4)
theorem WF_X0_right_68 {d : Nat} {Z : XZ XR} (hdd : 130 ≤ d) : ∀ s0 s1 s2 x2 x3 x4 h, XG xfh (xQ 1) RX0 "right" cX0_right 5 (some .long) d Z 68 [(2, (0, x2)), (3, (2, x3)), (4, (2, x4))] [(1, s2), (2, s1), (2, s0)] h (F_X0_right_68 s0 s1 s2 x2 x3 x4 h) := by
  intro s0 s1 s2 x2 x3 x4 h
  unfold F_X0_right_68
  refine x_aload 2 dX0_right_68 rfl ?_
  refine x_aload_n 1 dX0_right_70 rfl rfl ?_
  refine xg_X0_243 dX0_right_71 ?_
  refine xg_X0_247 dX0_right_74 ?_
  refine x_ic dX0_right_77 (by decide) (by decide) ?_
  refine x_iadd dX0_right_78 ?_
  refine x_lald dX0_right_79 ?_
  refine cl_X0_252 (by omega) (Nat.le_of_ble_eq_true rfl) dX0_right_80 fun r1 h2 => ?_
  refine x_iload_n 0 dX0_right_83 rfl rfl ?_
  refine cl_X0_231 (by omega) (Nat.le_of_ble_eq_true rfl) dX0_right_84 fun r3 h4 => ?_
  exact x_lret rfl dX0_right_87
noncomputable def F_X0_right (x0 : Int) (x1 : Int) (x2 : Int) (h : XH) : Option XR := mb (F_X0_in x1 0 3 h) fun r1 h2 => if r1 = 0 then (F_X0_right_19 h2) else (mb (F_X0_isPart x2 h2) fun r3 h4 => if r3 = 0 then (F_X0_right_19 h4) else (ob h4 x0 1 <| mb (F_X0_bowl x0 (-1) 0 h4) fun r5 h6 => ob h6 x0 1 <| ob h6 (xv h6 x0 0) 2 <| ai h6 (xv h6 (xv h6 x0 0) 3) 0 3 <| ob h6 r5 15 <| mb (F_X17_ways r5 (xv h6 (xv h6 (xv h6 x0 0) 3) 3) h6) fun r7 h8 => nw h8 17 2 fun r9 h10 => ob h10 r5 15 <| ob h10 (xv h10 r5 2) 16 <| if x1 ≤ xv h10 (xv h10 r5 2) 1 then (ai h10 r7 1 x1 <| F_X0_right_68 r9 r9 (xv h10 r7 x1) x2 r5 r7 h10) else (F_X0_right_68 r9 r9 0 x2 r5 r7 h10)))
theorem WF_X0_right {d : Nat} {Z : XZ XR} (hdd : 130 ≤ d) : ∀ x0 x1 x2 h, XG xfh (xQ 1) RX0 "right" cX0_right 5 (some .long) d Z 0 [(0, (2, x0)), (1, (0, x1)), (2, (0, x2))] [] h (F_X0_right x0 x1 x2 h) := by
  intro x0 x1 x2 h
  unfold F_X0_right
  refine x_iload_n 1 dX0_right_0 rfl rfl ?_
  refine x_i2l dX0_right_1 ?_
  refine x_l0 dX0_right_2 ?_
  refine x_ldc2 (n := 3) q523 dX0_right_3 (by decide +kernel) ⟨by decide, by decide⟩ ?_
  refine cl_X0_109 (by omega) (Nat.le_of_ble_eq_true rfl) dX0_right_6 fun r1 h2 => ?_
  refine x_if_eq 19 dX0_right_9 (by decide) (fun _ => ?_) (fun _ => ?_)
  · exact x_sub [] rfl (WF_X0_right_19 hdd h2)
  · refine x_iload_n 2 dX0_right_12 rfl rfl ?_
    refine cl_X0_220 (by omega) (Nat.le_of_ble_eq_true rfl) dX0_right_13 fun r3 h4 => ?_
    refine x_if_ne 23 dX0_right_16 (by decide) (fun _ => ?_) (fun _ => ?_)
    · refine x_aload_n 0 dX0_right_23 rfl rfl ?_
      refine x_ic dX0_right_24 (by decide) (by decide) ?_
      refine x_ic dX0_right_25 (by decide) (by decide) ?_
      refine cl_X0_223 (by omega) (Nat.le_of_ble_eq_true rfl) dX0_right_26 fun r5 h6 => ?_
      refine x_astore_n (lv' := [(3, (2, r5)), (0, (2, x0)), (1, (0, x1)), (2, (0, x2))]) dX0_right_29 rfl (by decide) rfl ?_
      refine x_aload_n 0 dX0_right_30 rfl rfl ?_
      refine x_aload_n 1 dX0_right_31 rfl rfl ?_
      refine xg_X0_17 dX0_right_32 ?_
      refine xg_X0_174 dX0_right_35 ?_
      refine x_ic dX0_right_38 (by decide) (by decide) ?_
      refine x_iald dX0_right_39 ?_
      refine cl_X0_239 (by omega) (Nat.le_of_ble_eq_true rfl) dX0_right_40 fun r7 h8 => ?_
      refine x_astore (lv' := [(4, (2, r7)), (3, (2, r5)), (0, (2, x0)), (1, (0, x1)), (2, (0, x2))]) dX0_right_43 (by decide) rfl ?_
      refine xn_X0_232 dX0_right_45 fun r9 h10 => ?_
      refine x_dup dX0_right_48 rfl ?_
      refine x_iload_n 3 dX0_right_49 rfl rfl ?_
      refine x_aload_n 1 dX0_right_50 rfl rfl ?_
      refine xg_X0_243 dX0_right_51 ?_
      refine xg_X0_247 dX0_right_54 ?_
      refine x_icmp_le 64 dX0_right_57 (by decide) (fun _ => ?_) (fun _ => ?_)
      · refine x_aload 0 dX0_right_64 rfl ?_
        refine x_iload_n 3 dX0_right_66 rfl rfl ?_
        refine x_lald dX0_right_67 ?_
        exact x_sub [4, 1, 0] rfl (WF_X0_right_68 hdd r9 r9 (xv h10 r7 x1) x2 r5 r7 h10)
      · refine x_l0 dX0_right_60 ?_
        refine x_goto 68 dX0_right_61 (by decide) ?_
        exact x_sub [4, 1, 0] rfl (WF_X0_right_68 hdd r9 r9 0 x2 r5 r7 h10)
    · exact x_sub [] rfl (WF_X0_right_19 hdd h4)
theorem SF_X0_right (l : Launch) {d : Nat} (hdd : 130 ≤ d) (x0 : Int) (x1 : Int) (x2 : Int) (h : XH) (hok : okH h) (ho : okXs (xn h) [(2, x0), (0, x1), (0, x2)]) (fin : XR) (hf : F_X0_right x0 x1 x2 h = some fin) : xSpec l yX0_right cX0_right 5 (some .long) d 1 [(2, x0), (0, x1), (0, x2)] h fin := x_enter (lv := [(0, (2, x0)), (1, (0, x1)), (2, (0, x2))]) (by decide) rfl rfl (Nat.le_of_ble_eq_true rfl) rfl (fun Z _ => WF_X0_right hdd x0 x1 x2 h) hok ho fin hf
noncomputable def F_X0_mean_69 (x1 : Int) (x2 : Int) (x3 : Int) (x4 : Int) (h : XH) : Option XR := nw h 17 2 fun r1 h2 => ob h2 x2 15 <| ob h2 (xv h2 x2 2) 16 <| ai h2 x3 1 (w32 ((xv h2 (xv h2 x2 2) 1) + 1)) <| pz r1 <| mb (F_X19_init r1 x4 (xv h2 x3 (w32 ((xv h2 (xv h2 x2 2) 1) + 1))) h2) fun r3 h4 => ob h4 r1 17 <| mb (F_X19_part r1 x1 h4) fun r5 h6 => some (r5, h6)
theorem WF_X0_mean_69 {d : Nat} {Z : XZ XR} (hdd : 130 ≤ d) : ∀ x1 x2 x3 x4 h, XG xfh (xQ 1) RX0 "mean" cX0_mean 7 (some .long) d Z 69 [(1, (0, x1)), (2, (2, x2)), (3, (2, x3)), (4, (1, x4))] [] h (F_X0_mean_69 x1 x2 x3 x4 h) := by
  intro x1 x2 x3 x4 h
  unfold F_X0_mean_69
  refine xn_X0_232 dX0_mean_69 fun r1 h2 => ?_
  refine x_dup dX0_mean_72 rfl ?_
  refine x_lload 3 dX0_mean_73 rfl ?_
  refine x_aload_n 2 dX0_mean_75 rfl rfl ?_
  refine x_aload_n 1 dX0_mean_76 rfl rfl ?_
  refine xg_X0_243 dX0_mean_77 ?_
  refine xg_X0_247 dX0_mean_80 ?_
  refine x_ic dX0_mean_83 (by decide) (by decide) ?_
  refine x_iadd dX0_mean_84 ?_
  refine x_lald dX0_mean_85 ?_
  refine cl_X0_252 (by omega) (Nat.le_of_ble_eq_true rfl) dX0_mean_86 fun r3 h4 => ?_
  refine x_iload_n 0 dX0_mean_89 rfl rfl ?_
  refine cl_X0_231 (by omega) (Nat.le_of_ble_eq_true rfl) dX0_mean_90 fun r5 h6 => ?_
  exact x_lret rfl dX0_mean_93
noncomputable def F_X0_mean_38 : Nat → Int → Int → Int → Int → Int → XH → Option XR
  | 0, _, _, _, _, _, _ => none
  | n + 1, x1, x2, x3, x4, x6, h => ob h x2 15 <| ob h (xv h x2 2) 16 <| if xv h (xv h x2 2) 1 < x6 then (F_X0_mean_69 x1 x2 x3 x4 h) else (ai h x3 1 x6 <| nm (α := Int) (w64 (x4 + (w64 (x6 * (xv h x3 x6))))) fun v1 => nm (w32 (x6 + 1)) fun v2 => F_X0_mean_38 n x1 x2 x3 v1 v2 h)
theorem WF_X0_mean_38 {d : Nat} {Z : XZ XR} (hdd : 130 ≤ d) : ∀ n x1 x2 x3 x4 x6 h, XG xfh (xQ 1) RX0 "mean" cX0_mean 7 (some .long) d Z 38 [(1, (0, x1)), (2, (2, x2)), (3, (2, x3)), (4, (1, x4)), (6, (0, x6))] [] h (F_X0_mean_38 n x1 x2 x3 x4 x6 h) := by
  intro n
  induction n with
  | zero => intro x1 x2 x3 x4 x6 h; exact x_none
  | succ n ih =>
    intro x1 x2 x3 x4 x6 h
    rw [F_X0_mean_38]
    refine x_iload 4 dX0_mean_38 rfl ?_
    refine x_aload_n 1 dX0_mean_40 rfl rfl ?_
    refine xg_X0_243 dX0_mean_41 ?_
    refine xg_X0_247 dX0_mean_44 ?_
    refine x_icmp_gt 69 dX0_mean_47 (by decide) (fun _ => ?_) (fun _ => ?_)
    · exact x_sub [0, 1, 2, 3] rfl (WF_X0_mean_69 hdd x1 x2 x3 x4 h)
    · refine x_lload 3 dX0_mean_50 rfl ?_
      refine x_iload 4 dX0_mean_52 rfl ?_
      refine x_i2l dX0_mean_54 ?_
      refine x_aload_n 2 dX0_mean_55 rfl rfl ?_
      refine x_iload 4 dX0_mean_56 rfl ?_
      refine x_lald dX0_mean_58 ?_
      refine x_lmul dX0_mean_59 ?_
      refine x_ladd dX0_mean_60 ?_
      refine x_nmT fun v1 => ?_
      refine x_lstore (lv' := [(4, (1, v1)), (1, (0, x1)), (2, (2, x2)), (3, (2, x3)), (6, (0, x6))]) dX0_mean_61 (by decide) rfl ?_
      refine x_iinc 4 dX0_mean_63 rfl (by decide) fun v2 => x_lv (lv' := [(6, (0, v2)), (4, (1, v1)), (1, (0, x1)), (2, (2, x2)), (3, (2, x3))]) rfl ?_
      refine x_goto 38 dX0_mean_66 (by decide) ?_
      exact x_sub [2, 3, 4, 1, 0] rfl (ih x1 x2 x3 v1 v2 h)
noncomputable def F_X0_mean (x0 : Int) (x1 : Int) (h : XH) : Option XR := mb (F_X0_isPart x1 h) fun r1 h2 => if r1 = 0 then (some ((-1), h2)) else (ob h2 x0 1 <| mb (F_X0_bowl x0 (-1) 0 h2) fun r3 h4 => ob h4 x0 1 <| ob h4 (xv h4 x0 0) 2 <| ai h4 (xv h4 (xv h4 x0 0) 3) 0 3 <| ob h4 r3 15 <| mb (F_X17_ways r3 (xv h4 (xv h4 (xv h4 x0 0) 3) 3) h4) fun r5 h6 => F_X0_mean_38 FU x1 r3 r5 0 1 h6)
theorem WF_X0_mean {d : Nat} {Z : XZ XR} (hdd : 130 ≤ d) : ∀ x0 x1 h, XG xfh (xQ 1) RX0 "mean" cX0_mean 7 (some .long) d Z 0 [(0, (2, x0)), (1, (0, x1))] [] h (F_X0_mean x0 x1 h) := by
  intro x0 x1 h
  unfold F_X0_mean
  refine x_iload_n 1 dX0_mean_0 rfl rfl ?_
  refine cl_X0_220 (by omega) (Nat.le_of_ble_eq_true rfl) dX0_mean_1 fun r1 h2 => ?_
  refine x_if_ne 11 dX0_mean_4 (by decide) (fun _ => ?_) (fun _ => ?_)
  · refine x_aload_n 0 dX0_mean_11 rfl rfl ?_
    refine x_ic dX0_mean_12 (by decide) (by decide) ?_
    refine x_ic dX0_mean_13 (by decide) (by decide) ?_
    refine cl_X0_223 (by omega) (Nat.le_of_ble_eq_true rfl) dX0_mean_14 fun r3 h4 => ?_
    refine x_astore_n (lv' := [(2, (2, r3)), (0, (2, x0)), (1, (0, x1))]) dX0_mean_17 rfl (by decide) rfl ?_
    refine x_aload_n 0 dX0_mean_18 rfl rfl ?_
    refine x_aload_n 1 dX0_mean_19 rfl rfl ?_
    refine xg_X0_17 dX0_mean_20 ?_
    refine xg_X0_174 dX0_mean_23 ?_
    refine x_ic dX0_mean_26 (by decide) (by decide) ?_
    refine x_iald dX0_mean_27 ?_
    refine cl_X0_239 (by omega) (Nat.le_of_ble_eq_true rfl) dX0_mean_28 fun r5 h6 => ?_
    refine x_astore_n (lv' := [(3, (2, r5)), (2, (2, r3)), (0, (2, x0)), (1, (0, x1))]) dX0_mean_31 rfl (by decide) rfl ?_
    refine x_l0 dX0_mean_32 ?_
    refine x_lstore (lv' := [(4, (1, 0)), (3, (2, r5)), (2, (2, r3)), (0, (2, x0)), (1, (0, x1))]) dX0_mean_33 (by decide) rfl ?_
    refine x_ic dX0_mean_35 (by decide) (by decide) ?_
    refine x_istore (lv' := [(6, (0, 1)), (4, (1, 0)), (3, (2, r5)), (2, (2, r3)), (0, (2, x0)), (1, (0, x1))]) dX0_mean_36 (by decide) rfl ?_
    exact x_sub [5, 3, 2, 1, 0] rfl (WF_X0_mean_38 hdd FU x1 r3 r5 0 1 h6)
  · refine x_ldc2 (n := -1) q1104 dX0_mean_7 (by decide +kernel) ⟨by decide, by decide⟩ ?_
    exact x_lret rfl dX0_mean_10
theorem SF_X0_mean (l : Launch) {d : Nat} (hdd : 130 ≤ d) (x0 : Int) (x1 : Int) (h : XH) (hok : okH h) (ho : okXs (xn h) [(2, x0), (0, x1)]) (fin : XR) (hf : F_X0_mean x0 x1 h = some fin) : xSpec l yX0_mean cX0_mean 7 (some .long) d 1 [(2, x0), (0, x1)] h fin := x_enter (lv := [(0, (2, x0)), (1, (0, x1))]) (by decide) rfl rfl (Nat.le_of_ble_eq_true rfl) rfl (fun Z _ => WF_X0_mean hdd x0 x1 h) hok ho fin hf
noncomputable def F_X0_inBowl_4 : Nat → Int → Int → Int → XH → Option XR
  | 0, _, _, _, _ => none
  | n + 1, x0, x1, x2, h => ob h x0 1 <| mb (F_X0_many x0 h) fun r1 h2 => if r1 ≤ x2 then (some (x1, h2)) else (ob h2 x0 1 <| ob h2 (xv h2 x0 0) 2 <| ob h2 (xv h2 (xv h2 x0 0) 0) 26 <| mb (F_J2_get (xv h2 (xv h2 x0 0) 0) x2 h2) fun r3 h4 => ob h4 r3 5 <| ob h4 r3 5 <| nm (α := Int) (if xv h4 r3 5 = 0 then 1 else 0) fun v5 => nm (α := Int) (w32 (x1 + v5)) fun v6 => nm (w32 (x2 + 1)) fun v7 => F_X0_inBowl_4 n x0 v6 v7 h4)
theorem WF_X0_inBowl_4 {d : Nat} {Z : XZ XR} (hdd : 4 ≤ d) : ∀ n x0 x1 x2 h, XG xfh (xQ 0) RX0 "inBowl" cX0_inBowl 3 (some .int) d Z 4 [(0, (2, x0)), (1, (0, x1)), (2, (0, x2))] [] h (F_X0_inBowl_4 n x0 x1 x2 h) := by
  intro n
  induction n with
  | zero => intro x0 x1 x2 h; exact x_none
  | succ n ih =>
    intro x0 x1 x2 h
    rw [F_X0_inBowl_4]
    refine x_iload_n 2 dX0_inBowl_4 rfl rfl ?_
    refine x_aload_n 0 dX0_inBowl_5 rfl rfl ?_
    refine cl_X0_13 (by omega) (Nat.le_of_ble_eq_true rfl) dX0_inBowl_6 fun r1 h2 => ?_
    refine x_icmp_ge 46 dX0_inBowl_9 (by decide) (fun _ => ?_) (fun _ => ?_)
    · refine x_iload_n 1 dX0_inBowl_46 rfl rfl ?_
      exact x_iret rfl dX0_inBowl_47
    · refine x_iload_n 1 dX0_inBowl_12 rfl rfl ?_
      refine x_aload_n 0 dX0_inBowl_13 rfl rfl ?_
      refine xg_X0_17 dX0_inBowl_14 ?_
      refine xg_X0_21 dX0_inBowl_17 ?_
      refine x_iload_n 2 dX0_inBowl_20 rfl rfl ?_
      refine cl_X0_27 (by omega) (Nat.le_of_ble_eq_true rfl) dX0_inBowl_21 fun r3 h4 => ?_
      refine x_cast (C := RX5) 5 rfl (by decide) q374 dX0_inBowl_24 ?_
      refine xg_X0_35 dX0_inBowl_27 ?_
      refine x_join 38 (fun v5 => [(0, v5), (0, x1)]) (fun v5 => ?_) (fun hJ => ?_)
      · refine x_iadd dX0_inBowl_38 ?_
        refine x_nmT fun v6 => ?_
        refine x_istore_n (lv' := [(1, (0, v6)), (0, (2, x0)), (2, (0, x2))]) dX0_inBowl_39 rfl (by decide) rfl ?_
        refine x_iinc 2 dX0_inBowl_40 rfl (by decide) fun v7 => x_lv (lv' := [(2, (0, v7)), (1, (0, v6)), (0, (2, x0))]) rfl ?_
        refine x_goto 4 dX0_inBowl_43 (by decide) ?_
        exact x_sub [2, 1, 0] rfl (ih x0 v6 v7 h4)
      · refine x_if_eqF 37 dX0_inBowl_30 (by decide) (fun _ => ?_) (fun _ => ?_)
        · refine x_ic dX0_inBowl_37 (by decide) (by decide) ?_
          exact hJ _
        · refine x_ic dX0_inBowl_33 (by decide) (by decide) ?_
          refine x_goto 38 dX0_inBowl_34 (by decide) ?_
          exact hJ _
noncomputable def F_X0_inBowl (x0 : Int) (h : XH) : Option XR := F_X0_inBowl_4 FU x0 0 0 h
theorem WF_X0_inBowl {d : Nat} {Z : XZ XR} (hdd : 4 ≤ d) : ∀ x0 h, XG xfh (xQ 0) RX0 "inBowl" cX0_inBowl 3 (some .int) d Z 0 [(0, (2, x0))] [] h (F_X0_inBowl x0 h) := by
  intro x0 h
  unfold F_X0_inBowl
  refine x_ic dX0_inBowl_0 (by decide) (by decide) ?_
  refine x_istore_n (lv' := [(1, (0, 0)), (0, (2, x0))]) dX0_inBowl_1 rfl (by decide) rfl ?_
  refine x_ic dX0_inBowl_2 (by decide) (by decide) ?_
  refine x_istore_n (lv' := [(2, (0, 0)), (1, (0, 0)), (0, (2, x0))]) dX0_inBowl_3 rfl (by decide) rfl ?_
  exact x_sub [2, 1, 0] rfl (WF_X0_inBowl_4 hdd FU x0 0 0 h)
theorem SF_X0_inBowl (l : Launch) {d : Nat} (hdd : 4 ≤ d) (x0 : Int) (h : XH) (hok : okH h) (ho : okXs (xn h) [(2, x0)]) (fin : XR) (hf : F_X0_inBowl x0 h = some fin) : xSpec l yX0_inBowl cX0_inBowl 3 (some .int) d 0 [(2, x0)] h fin := x_enter (lv := [(0, (2, x0))]) (by decide) rfl rfl (Nat.le_of_ble_eq_true rfl) rfl (fun Z _ => WF_X0_inBowl hdd x0 h) hok ho fin hf
theorem cl_X0_255 {ρ : Type} {fh : ρ → XH} {QQ : XZ ρ → State → Prop} {mn : String} {cc : ByteArray} {nL : Nat} {ret : Option FieldType} {d : Nat} {Z : XZ ρ} {pc : Nat} {lv : List (Nat × AV)} {st : List AV} {h : XH} {g : Int → XH → Option ρ} {b : Int} (hdd : 5 ≤ d) (hcat : (st.map fun v => if v.1 = 1 then 2 else 1).sum ≤ 8) (hdg : decode cc pc = .ok (.invokevirtual 255, 3)) (kk : ∀ r h1, XG fh QQ RX0 mn cc nL ret d Z (pc + 3) lv ((0, r) :: st) h1 (g r h1)) : XG fh QQ RX0 mn cc nL ret d Z pc lv ((2, b) :: st) h (ob h b 1 (mb (F_X0_inBowl b h) g)) :=
  x_callVi [] 0 (WF_X0_inBowl (Z := (Z.1, Z.2.1, ((0, h), h))) (Nat.le_refl 4) b h).1 (fun hok ho fin hf => SF_X0_inBowl (yL Z) (Nat.le_refl 4) b h hok ho fin hf) RX0 1 rfl (by decide) (lw_V q1120 q1122 qs36 q124 q1123) ⟨rfl, by decide +kernel, by decide +kernel, by decide +kernel⟩ rfl (by omega) (by decide) rfl hcat hdg kk
noncomputable def F_X0_sureWith_45 (x2 : Int) (h : XH) : Option XR := ob h x2 15 <| mb (F_X17_pass x2 0 h) fun r1 h2 => some (r1, h2)
theorem WF_X0_sureWith_45 {d : Nat} {Z : XZ XR} (hdd : 129 ≤ d) : ∀ x2 h, XG xfh (xQ 3) RX0 "sureWith" cX0_sureWith 5 (some (.object "ExamSlips$Share")) d Z 45 [(2, (2, x2))] [] h (F_X0_sureWith_45 x2 h) := by
  intro x2 h
  unfold F_X0_sureWith_45
  refine x_aload_n 0 dX0_sureWith_45 rfl rfl ?_
  refine x_ic dX0_sureWith_46 (by decide) (by decide) ?_
  refine cl_X0_227 (by omega) (Nat.le_of_ble_eq_true rfl) dX0_sureWith_47 fun r1 h2 => ?_
  exact x_aret rfl (Or.inl ⟨_, rfl⟩) dX0_sureWith_50
noncomputable def F_X0_sureWith_17 : Nat → Int → Int → Int → Int → XH → Option XR
  | 0, _, _, _, _, _ => none
  | n + 1, x1, x2, x3, x4, h => if x3 ≤ x4 then (F_X0_sureWith_45 x2 h) else (nm (α := Int) (if x1 ≤ x4 then 0 else 2) fun v1 => ob h x2 15 <| mb (F_X17_add x2 v1 0 h) fun r2 h3 => nm (w32 (x4 + 1)) fun v4 => F_X0_sureWith_17 n x1 x2 x3 v4 h3)
theorem WF_X0_sureWith_17 {d : Nat} {Z : XZ XR} (hdd : 129 ≤ d) : ∀ n x1 x2 x3 x4 h, XG xfh (xQ 3) RX0 "sureWith" cX0_sureWith 5 (some (.object "ExamSlips$Share")) d Z 17 [(1, (0, x1)), (2, (2, x2)), (3, (0, x3)), (4, (0, x4))] [] h (F_X0_sureWith_17 n x1 x2 x3 x4 h) := by
  intro n
  induction n with
  | zero => intro x1 x2 x3 x4 h; exact x_none
  | succ n ih =>
    intro x1 x2 x3 x4 h
    rw [F_X0_sureWith_17]
    refine x_iload 3 dX0_sureWith_17 rfl ?_
    refine x_iload_n 2 dX0_sureWith_19 rfl rfl ?_
    refine x_icmp_ge 45 dX0_sureWith_20 (by decide) (fun _ => ?_) (fun _ => ?_)
    · exact x_sub [1] rfl (WF_X0_sureWith_45 hdd x2 h)
    · refine x_aload_n 1 dX0_sureWith_23 rfl rfl ?_
      refine x_iload 3 dX0_sureWith_24 rfl ?_
      refine x_iload_n 0 dX0_sureWith_26 rfl rfl ?_
      refine x_join 35 (fun v1 => [(0, v1), (2, x2)]) (fun v1 => ?_) (fun hJ => ?_)
      · refine x_ic dX0_sureWith_35 (by decide) (by decide) ?_
        refine cl_X0_46 (by omega) (Nat.le_of_ble_eq_true rfl) dX0_sureWith_36 fun r2 h3 => ?_
        refine x_iinc 3 dX0_sureWith_39 rfl (by decide) fun v4 => x_lv (lv' := [(4, (0, v4)), (1, (0, x1)), (2, (2, x2)), (3, (0, x3))]) rfl ?_
        refine x_goto 17 dX0_sureWith_42 (by decide) ?_
        exact x_sub [1, 2, 3, 0] rfl (ih x1 x2 x3 v4 h3)
      · refine x_icmp_geF 34 dX0_sureWith_27 (by decide) (fun _ => ?_) (fun _ => ?_)
        · refine x_ic dX0_sureWith_34 (by decide) (by decide) ?_
          exact hJ _
        · refine x_ic dX0_sureWith_30 (by decide) (by decide) ?_
          refine x_goto 35 dX0_sureWith_31 (by decide) ?_
          exact hJ _
noncomputable def F_X0_sureWith (x0 : Int) (x1 : Int) (h : XH) : Option XR := nw h 15 4 fun r1 h2 => pz r1 <| mb (F_X17_init r1 x0 h2) fun r3 h4 => ob h4 x0 1 <| mb (F_X0_inBowl x0 h4) fun r5 h6 => F_X0_sureWith_17 FU x1 r1 r5 0 h6
theorem WF_X0_sureWith {d : Nat} {Z : XZ XR} (hdd : 129 ≤ d) : ∀ x0 x1 h, XG xfh (xQ 3) RX0 "sureWith" cX0_sureWith 5 (some (.object "ExamSlips$Share")) d Z 0 [(0, (2, x0)), (1, (0, x1))] [] h (F_X0_sureWith x0 x1 h) := by
  intro x0 x1 h
  unfold F_X0_sureWith
  refine xn_X0_7 dX0_sureWith_0 fun r1 h2 => ?_
  refine x_dup dX0_sureWith_3 rfl ?_
  refine x_aload_n 0 dX0_sureWith_4 rfl rfl ?_
  refine cl_X0_9 (by omega) (Nat.le_of_ble_eq_true rfl) dX0_sureWith_5 fun r3 h4 => ?_
  refine x_astore_n (lv' := [(2, (2, r1)), (0, (2, x0)), (1, (0, x1))]) dX0_sureWith_8 rfl (by decide) rfl ?_
  refine x_aload_n 1 dX0_sureWith_9 rfl rfl ?_
  refine cl_X0_255 (by omega) (Nat.le_of_ble_eq_true rfl) dX0_sureWith_10 fun r5 h6 => ?_
  refine x_istore_n (lv' := [(3, (0, r5)), (2, (2, r1)), (0, (2, x0)), (1, (0, x1))]) dX0_sureWith_13 rfl (by decide) rfl ?_
  refine x_ic dX0_sureWith_14 (by decide) (by decide) ?_
  refine x_istore (lv' := [(4, (0, 0)), (3, (0, r5)), (2, (2, r1)), (0, (2, x0)), (1, (0, x1))]) dX0_sureWith_15 (by decide) rfl ?_
  exact x_sub [4, 2, 1, 0] rfl (WF_X0_sureWith_17 hdd FU x1 r1 r5 0 h6)
theorem SF_X0_sureWith (l : Launch) {d : Nat} (hdd : 129 ≤ d) (x0 : Int) (x1 : Int) (h : XH) (hok : okH h) (ho : okXs (xn h) [(2, x0), (0, x1)]) (fin : XR) (hf : F_X0_sureWith x0 x1 h = some fin) : xSpec l yX0_sureWith cX0_sureWith 5 (some (.object "ExamSlips$Share")) d 3 [(2, x0), (0, x1)] h fin := x_enter (lv := [(0, (2, x0)), (1, (0, x1))]) (by decide) rfl rfl (Nat.le_of_ble_eq_true rfl) rfl (fun Z _ => WF_X0_sureWith hdd x0 x1 h) hok ho fin hf
theorem cl_X0_258 {ρ : Type} {fh : ρ → XH} {QQ : XZ ρ → State → Prop} {mn : String} {cc : ByteArray} {nL : Nat} {ret : Option FieldType} {d : Nat} {Z : XZ ρ} {pc : Nat} {lv : List (Nat × AV)} {st : List AV} {h : XH} {g : Int → XH → Option ρ} {b a0 : Int} (hdd : 130 ≤ d) (hcat : (st.map fun v => if v.1 = 1 then 2 else 1).sum ≤ 8) (hdg : decode cc pc = .ok (.invokevirtual 258, 3)) (kk : ∀ r h1, XG fh QQ RX0 mn cc nL ret d Z (pc + 3) lv ((2, r) :: st) h1 (g r h1)) : XG fh QQ RX0 mn cc nL ret d Z pc lv ((0, a0) :: (2, b) :: st) h (ob h b 1 (mb (F_X0_sureWith b a0 h) g)) :=
  x_callVr [(0, a0)] 1 (WF_X0_sureWith (Z := (Z.1, Z.2.1, ((0, h), h))) (Nat.le_refl 129) b a0 h).1 (fun hok ho fin hf => SF_X0_sureWith (yL Z) (Nat.le_refl 129) b a0 h hok ho fin hf) RX0 1 rfl (by decide) (lw_V q1124 q1126 qs37 q124 q1127) ⟨rfl, by decide +kernel, by decide +kernel, by decide +kernel⟩ rfl (by omega) (by decide) rfl hcat hdg kk
noncomputable def F_X0_sure_33 (h : XH) : Option XR := some ((-1), h)
theorem WF_X0_sure_33 {d : Nat} {Z : XZ XR} (hdd : 130 ≤ d) : ∀ h, XG xfh (xQ 1) RX0 "sure" cX0_sure 3 (some .long) d Z 33 [] [] h (F_X0_sure_33 h) := by
  intro h
  unfold F_X0_sure_33
  refine x_ldc2 (n := -1) q1104 dX0_sure_33 (by decide +kernel) ⟨by decide, by decide⟩ ?_
  exact x_lret rfl dX0_sure_36
noncomputable def F_X0_sure (x0 : Int) (x1 : Int) (x2 : Int) (h : XH) : Option XR := ob h x0 1 <| mb (F_X0_inBowl x0 h) fun r1 h2 => mb (F_X0_in x1 0 r1 h2) fun r3 h4 => if r3 = 0 then (F_X0_sure_33 h4) else (mb (F_X0_isPart x2 h4) fun r5 h6 => if r5 = 0 then (F_X0_sure_33 h6) else (ob h6 x0 1 <| mb (F_X0_sureWith x0 x1 h6) fun r7 h8 => ob h8 r7 17 <| mb (F_X19_part r7 x2 h8) fun r9 h10 => some (r9, h10)))
theorem WF_X0_sure {d : Nat} {Z : XZ XR} (hdd : 130 ≤ d) : ∀ x0 x1 x2 h, XG xfh (xQ 1) RX0 "sure" cX0_sure 3 (some .long) d Z 0 [(0, (2, x0)), (1, (0, x1)), (2, (0, x2))] [] h (F_X0_sure x0 x1 x2 h) := by
  intro x0 x1 x2 h
  unfold F_X0_sure
  refine x_iload_n 1 dX0_sure_0 rfl rfl ?_
  refine x_i2l dX0_sure_1 ?_
  refine x_l0 dX0_sure_2 ?_
  refine x_aload_n 0 dX0_sure_3 rfl rfl ?_
  refine cl_X0_255 (by omega) (Nat.le_of_ble_eq_true rfl) dX0_sure_4 fun r1 h2 => ?_
  refine x_i2l dX0_sure_7 ?_
  refine cl_X0_109 (by omega) (Nat.le_of_ble_eq_true rfl) dX0_sure_8 fun r3 h4 => ?_
  refine x_if_eq 33 dX0_sure_11 (by decide) (fun _ => ?_) (fun _ => ?_)
  · exact x_sub [] rfl (WF_X0_sure_33 hdd h4)
  · refine x_iload_n 2 dX0_sure_14 rfl rfl ?_
    refine cl_X0_220 (by omega) (Nat.le_of_ble_eq_true rfl) dX0_sure_15 fun r5 h6 => ?_
    refine x_if_eq 33 dX0_sure_18 (by decide) (fun _ => ?_) (fun _ => ?_)
    · exact x_sub [] rfl (WF_X0_sure_33 hdd h6)
    · refine x_aload_n 0 dX0_sure_21 rfl rfl ?_
      refine x_iload_n 1 dX0_sure_22 rfl rfl ?_
      refine cl_X0_258 (by omega) (Nat.le_of_ble_eq_true rfl) dX0_sure_23 fun r7 h8 => ?_
      refine x_iload_n 2 dX0_sure_26 rfl rfl ?_
      refine cl_X0_231 (by omega) (Nat.le_of_ble_eq_true rfl) dX0_sure_27 fun r9 h10 => ?_
      refine x_goto 36 dX0_sure_30 (by decide) ?_
      exact x_lret rfl dX0_sure_36
theorem SF_X0_sure (l : Launch) {d : Nat} (hdd : 130 ≤ d) (x0 : Int) (x1 : Int) (x2 : Int) (h : XH) (hok : okH h) (ho : okXs (xn h) [(2, x0), (0, x1), (0, x2)]) (fin : XR) (hf : F_X0_sure x0 x1 x2 h = some fin) : xSpec l yX0_sure cX0_sure 3 (some .long) d 1 [(2, x0), (0, x1), (0, x2)] h fin := x_enter (lv := [(0, (2, x0)), (1, (0, x1)), (2, (0, x2))]) (by decide) rfl rfl (Nat.le_of_ble_eq_true rfl) rfl (fun Z _ => WF_X0_sure hdd x0 x1 x2 h) hok ho fin hf
theorem xg_X0_261 {ρ : Type} {fh : ρ → XH} {QQ : XZ ρ → State → Prop} {mn : String} {cc : ByteArray} {nL : Nat} {ret : Option FieldType} {d : Nat} {Z : XZ ρ} {pc : Nat} {lv : List (Nat × AV)} {st : List AV} {h : XH} {res : Option ρ} {a : Int} (hd : decode cc pc = .ok (.getfield 261, 3)) (kk : XG fh QQ RX0 mn cc nL ret d Z (pc + 3) lv ((1, xv h a 0) :: st) h res) : XG fh QQ RX0 mn cc nL ret d Z pc lv ((2, a) :: st) h (ob h a 17 res) := x_getN (C := RX19) (ref := RX19) 17 0 rfl in_X19 (by decide) rfl (by decide) (Or.inl rfl) q1092 hd kk
theorem xg_X0_265 {ρ : Type} {fh : ρ → XH} {QQ : XZ ρ → State → Prop} {mn : String} {cc : ByteArray} {nL : Nat} {ret : Option FieldType} {d : Nat} {Z : XZ ρ} {pc : Nat} {lv : List (Nat × AV)} {st : List AV} {h : XH} {res : Option ρ} {a : Int} (hd : decode cc pc = .ok (.getfield 265, 3)) (kk : XG fh QQ RX0 mn cc nL ret d Z (pc + 3) lv ((1, xv h a 1) :: st) h res) : XG fh QQ RX0 mn cc nL ret d Z pc lv ((2, a) :: st) h (ob h a 17 res) := x_getN (C := RX19) (ref := RX19) 17 1 rfl in_X19 (by decide) rfl (by decide) (Or.inl rfl) q1094 hd kk
noncomputable def F_X0_safe_7 : Nat → Int → Int → Int → XH → Option XR
  | 0, _, _, _, _ => none
  | n + 1, x0, x1, x2, h => if x1 < x2 then (some ((-1), h)) else (ob h x0 1 <| mb (F_X0_sureWith x0 x2 h) fun r1 h2 => ob h2 r1 17 <| ob h2 r1 17 <| if xv h2 r1 0 = xv h2 r1 1 then (some (x2, h2)) else (nm (w32 (x2 + 1)) fun v3 => F_X0_safe_7 n x0 x1 v3 h2))
theorem WF_X0_safe_7 {d : Nat} {Z : XZ XR} (hdd : 130 ≤ d) : ∀ n x0 x1 x2 h, XG xfh (xQ 0) RX0 "safe" cX0_safe 4 (some .int) d Z 7 [(0, (2, x0)), (1, (0, x1)), (2, (0, x2))] [] h (F_X0_safe_7 n x0 x1 x2 h) := by
  intro n
  induction n with
  | zero => intro x0 x1 x2 h; exact x_none
  | succ n ih =>
    intro x0 x1 x2 h
    rw [F_X0_safe_7]
    refine x_iload_n 2 dX0_safe_7 rfl rfl ?_
    refine x_iload_n 1 dX0_safe_8 rfl rfl ?_
    refine x_icmp_gt 38 dX0_safe_9 (by decide) (fun _ => ?_) (fun _ => ?_)
    · refine x_ic dX0_safe_38 (by decide) (by decide) ?_
      exact x_iret rfl dX0_safe_39
    · refine x_aload_n 0 dX0_safe_12 rfl rfl ?_
      refine x_iload_n 2 dX0_safe_13 rfl rfl ?_
      refine cl_X0_258 (by omega) (Nat.le_of_ble_eq_true rfl) dX0_safe_14 fun r1 h2 => ?_
      refine x_astore_n (lv' := [(3, (2, r1)), (0, (2, x0)), (1, (0, x1)), (2, (0, x2))]) dX0_safe_17 rfl (by decide) rfl ?_
      refine x_aload_n 0 dX0_safe_18 rfl rfl ?_
      refine xg_X0_261 dX0_safe_19 ?_
      refine x_aload_n 0 dX0_safe_22 rfl rfl ?_
      refine xg_X0_265 dX0_safe_23 ?_
      refine x_lcmp_ne 32 dX0_safe_26 dX0_safe_27 (by decide) (fun _ => ?_) (fun _ => ?_)
      · refine x_iinc 3 dX0_safe_32 rfl (by decide) fun v3 => x_lv (lv' := [(2, (0, v3)), (3, (2, r1)), (0, (2, x0)), (1, (0, x1))]) rfl ?_
        refine x_goto 7 dX0_safe_35 (by decide) ?_
        exact x_sub [2, 3, 0] rfl (ih x0 x1 v3 h2)
      · refine x_iload_n 3 dX0_safe_30 rfl rfl ?_
        exact x_iret rfl dX0_safe_31
noncomputable def F_X0_safe (x0 : Int) (h : XH) : Option XR := ob h x0 1 <| mb (F_X0_inBowl x0 h) fun r1 h2 => F_X0_safe_7 FU x0 r1 0 h2
theorem WF_X0_safe {d : Nat} {Z : XZ XR} (hdd : 130 ≤ d) : ∀ x0 h, XG xfh (xQ 0) RX0 "safe" cX0_safe 4 (some .int) d Z 0 [(0, (2, x0))] [] h (F_X0_safe x0 h) := by
  intro x0 h
  unfold F_X0_safe
  refine x_aload_n 0 dX0_safe_0 rfl rfl ?_
  refine cl_X0_255 (by omega) (Nat.le_of_ble_eq_true rfl) dX0_safe_1 fun r1 h2 => ?_
  refine x_istore_n (lv' := [(1, (0, r1)), (0, (2, x0))]) dX0_safe_4 rfl (by decide) rfl ?_
  refine x_ic dX0_safe_5 (by decide) (by decide) ?_
  refine x_istore_n (lv' := [(2, (0, 0)), (1, (0, r1)), (0, (2, x0))]) dX0_safe_6 rfl (by decide) rfl ?_
  exact x_sub [2, 1, 0] rfl (WF_X0_safe_7 hdd FU x0 r1 0 h2)
theorem SF_X0_safe (l : Launch) {d : Nat} (hdd : 130 ≤ d) (x0 : Int) (h : XH) (hok : okH h) (ho : okXs (xn h) [(2, x0)]) (fin : XR) (hf : F_X0_safe x0 h = some fin) : xSpec l yX0_safe cX0_safe 4 (some .int) d 0 [(2, x0)] h fin := x_enter (lv := [(0, (2, x0))]) (by decide) rfl rfl (Nat.le_of_ble_eq_true rfl) rfl (fun Z _ => WF_X0_safe hdd x0 h) hok ho fin hf
noncomputable def F_X19_millionths_24 : Nat → Int → Int → Int → Int → XH → Option XR
  | 0, _, _, _, _, _ => none
  | n + 1, x0, x1, x3, x4, h => if 6 ≤ x4 then (some (x3, h)) else (nm (α := Int) (w64 (x1 * 10)) fun v1 => ob h x0 17 <| cz (xv h x0 1) <| nm (α := Int) (w32 ((w32 (10 * x3)) + (w32 (w64 (v1.tdiv (xv h x0 1)))))) fun v2 => ob h x0 17 <| cz (xv h x0 1) <| nm (α := Int) (v1.tmod (xv h x0 1)) fun v3 => nm (w32 (x4 + 1)) fun v4 => F_X19_millionths_24 n x0 v3 v2 v4 h)
theorem WF_X19_millionths_24 {d : Nat} {Z : XZ XR} (hdd : 1 ≤ d) : ∀ n x0 x1 x3 x4 h, XG xfh (xQ 0) RX19 "millionths" cX19_millionths 5 (some .int) d Z 24 [(0, (2, x0)), (1, (1, x1)), (3, (0, x3)), (4, (0, x4))] [] h (F_X19_millionths_24 n x0 x1 x3 x4 h) := by
  intro n
  induction n with
  | zero => intro x0 x1 x3 x4 h; exact x_none
  | succ n ih =>
    intro x0 x1 x3 x4 h
    rw [F_X19_millionths_24]
    refine x_iload 3 dX19_millionths_24 rfl ?_
    refine x_bp dX19_millionths_26 (by decide) (by decide) ?_
    refine x_icmp_ge 63 dX19_millionths_28 (by decide) (fun _ => ?_) (fun _ => ?_)
    · refine x_iload_n 2 dX19_millionths_63 rfl rfl ?_
      exact x_iret rfl dX19_millionths_64
    · refine x_lload_n 1 dX19_millionths_31 rfl rfl ?_
      refine x_ldc2 (n := 10) q1141 dX19_millionths_32 (by decide +kernel) ⟨by decide, by decide⟩ ?_
      refine x_lmul dX19_millionths_35 ?_
      refine x_nmT fun v1 => ?_
      refine x_lstore_n (lv' := [(1, (1, v1)), (0, (2, x0)), (3, (0, x3)), (4, (0, x4))]) dX19_millionths_36 rfl (by decide) rfl ?_
      refine x_bp dX19_millionths_37 (by decide) (by decide) ?_
      refine x_iload_n 2 dX19_millionths_39 rfl rfl ?_
      refine x_imul dX19_millionths_40 ?_
      refine x_lload_n 0 dX19_millionths_41 rfl rfl ?_
      refine x_aload_n 1 dX19_millionths_42 rfl rfl ?_
      refine xg_X19_19 dX19_millionths_43 ?_
      refine x_ldiv dX19_millionths_46 ?_
      refine x_l2i dX19_millionths_47 ?_
      refine x_iadd dX19_millionths_48 ?_
      refine x_nmT fun v2 => ?_
      refine x_istore_n (lv' := [(3, (0, v2)), (1, (1, v1)), (0, (2, x0)), (4, (0, x4))]) dX19_millionths_49 rfl (by decide) rfl ?_
      refine x_lload_n 1 dX19_millionths_50 rfl rfl ?_
      refine x_aload_n 2 dX19_millionths_51 rfl rfl ?_
      refine xg_X19_19 dX19_millionths_52 ?_
      refine x_lrem dX19_millionths_55 ?_
      refine x_nmT fun v3 => ?_
      refine x_lstore_n (lv' := [(1, (1, v3)), (3, (0, v2)), (0, (2, x0)), (4, (0, x4))]) dX19_millionths_56 rfl (by decide) rfl ?_
      refine x_iinc 3 dX19_millionths_57 rfl (by decide) fun v4 => x_lv (lv' := [(4, (0, v4)), (1, (1, v3)), (3, (0, v2)), (0, (2, x0))]) rfl ?_
      refine x_goto 24 dX19_millionths_60 (by decide) ?_
      exact x_sub [3, 1, 2, 0] rfl (ih x0 v3 v2 v4 h)
noncomputable def F_X19_millionths (x0 : Int) (h : XH) : Option XR := ob h x0 17 <| ob h x0 17 <| cz (xv h x0 1) <| nm (α := Int) ((xv h x0 0).tmod (xv h x0 1)) fun v1 => ob h x0 17 <| ob h x0 17 <| cz (xv h x0 1) <| nm (α := Int) (w32 (w64 ((xv h x0 0).tdiv (xv h x0 1)))) fun v2 => F_X19_millionths_24 FU x0 v1 v2 0 h
theorem WF_X19_millionths {d : Nat} {Z : XZ XR} (hdd : 1 ≤ d) : ∀ x0 h, XG xfh (xQ 0) RX19 "millionths" cX19_millionths 5 (some .int) d Z 0 [(0, (2, x0))] [] h (F_X19_millionths x0 h) := by
  intro x0 h
  unfold F_X19_millionths
  refine x_aload_n 0 dX19_millionths_0 rfl rfl ?_
  refine xg_X19_13 dX19_millionths_1 ?_
  refine x_aload_n 0 dX19_millionths_4 rfl rfl ?_
  refine xg_X19_19 dX19_millionths_5 ?_
  refine x_lrem dX19_millionths_8 ?_
  refine x_nmT fun v1 => ?_
  refine x_lstore_n (lv' := [(1, (1, v1)), (0, (2, x0))]) dX19_millionths_9 rfl (by decide) rfl ?_
  refine x_aload_n 1 dX19_millionths_10 rfl rfl ?_
  refine xg_X19_13 dX19_millionths_11 ?_
  refine x_aload_n 1 dX19_millionths_14 rfl rfl ?_
  refine xg_X19_19 dX19_millionths_15 ?_
  refine x_ldiv dX19_millionths_18 ?_
  refine x_l2i dX19_millionths_19 ?_
  refine x_nmT fun v2 => ?_
  refine x_istore_n (lv' := [(3, (0, v2)), (1, (1, v1)), (0, (2, x0))]) dX19_millionths_20 rfl (by decide) rfl ?_
  refine x_ic dX19_millionths_21 (by decide) (by decide) ?_
  refine x_istore (lv' := [(4, (0, 0)), (3, (0, v2)), (1, (1, v1)), (0, (2, x0))]) dX19_millionths_22 (by decide) rfl ?_
  exact x_sub [3, 2, 1, 0] rfl (WF_X19_millionths_24 hdd FU x0 v1 v2 0 h)
theorem SF_X19_millionths (l : Launch) {d : Nat} (hdd : 1 ≤ d) (x0 : Int) (h : XH) (hok : okH h) (ho : okXs (xn h) [(2, x0)]) (fin : XR) (hf : F_X19_millionths x0 h = some fin) : xSpec l yX19_millionths cX19_millionths 5 (some .int) d 0 [(2, x0)] h fin := x_enter (lv := [(0, (2, x0))]) (by decide) rfl rfl (Nat.le_of_ble_eq_true rfl) rfl (fun Z _ => WF_X19_millionths hdd x0 h) hok ho fin hf
theorem cl_X0_269 {ρ : Type} {fh : ρ → XH} {QQ : XZ ρ → State → Prop} {mn : String} {cc : ByteArray} {nL : Nat} {ret : Option FieldType} {d : Nat} {Z : XZ ρ} {pc : Nat} {lv : List (Nat × AV)} {st : List AV} {h : XH} {g : Int → XH → Option ρ} {b : Int} (hdd : 2 ≤ d) (hcat : (st.map fun v => if v.1 = 1 then 2 else 1).sum ≤ 8) (hdg : decode cc pc = .ok (.invokevirtual 269, 3)) (kk : ∀ r h1, XG fh QQ RX0 mn cc nL ret d Z (pc + 3) lv ((0, r) :: st) h1 (g r h1)) : XG fh QQ RX0 mn cc nL ret d Z pc lv ((2, b) :: st) h (ob h b 17 (mb (F_X19_millionths b h) g)) :=
  x_callVi [] 0 (WF_X19_millionths (Z := (Z.1, Z.2.1, ((0, h), h))) (Nat.le_refl 1) b h).1 (fun hok ho fin hf => SF_X19_millionths (yL Z) (Nat.le_refl 1) b h hok ho fin hf) RX19 17 rfl (by decide) (lw_V q1137 q1138 q1139 q157 q1140) ⟨rfl, by decide +kernel, by decide +kernel, by decide +kernel⟩ rfl (by omega) (by decide) rfl hcat hdg kk
noncomputable def F_X0_worth (x0 : Int) (x1 : Int) (h : XH) : Option XR := ob h x0 1 <| mb (F_X0_questionOf x0 x1 h) fun r1 h2 => if r1 = 0 then (some ((-10000000), h2)) else (ob h2 r1 5 <| if xv h2 r1 5 = 0 then (ob h2 x0 1 <| mb (F_X0_bowl x0 x1 2 h2) fun r3 h4 => ob h4 x0 1 <| ob h4 (xv h4 x0 0) 2 <| ai h4 (xv h4 (xv h4 x0 0) 3) 0 3 <| ob h4 r3 15 <| mb (F_X17_pass r3 (xv h4 (xv h4 (xv h4 x0 0) 3) 3) h4) fun r5 h6 => ob h6 r5 17 <| mb (F_X19_millionths r5 h6) fun r7 h8 => ob h8 x0 1 <| mb (F_X0_bowl x0 x1 0 h8) fun r9 h10 => ob h10 x0 1 <| ob h10 (xv h10 x0 0) 2 <| ai h10 (xv h10 (xv h10 x0 0) 3) 0 3 <| ob h10 r9 15 <| mb (F_X17_pass r9 (xv h10 (xv h10 (xv h10 x0 0) 3) 3) h10) fun r11 h12 => ob h12 r11 17 <| mb (F_X19_millionths r11 h12) fun r13 h14 => some (w32 (r7 - r13), h14)) else (some (0, h2)))
theorem WF_X0_worth {d : Nat} {Z : XZ XR} (hdd : 130 ≤ d) : ∀ x0 x1 h, XG xfh (xQ 0) RX0 "worth" cX0_worth 3 (some .int) d Z 0 [(0, (2, x0)), (1, (0, x1))] [] h (F_X0_worth x0 x1 h) := by
  intro x0 x1 h
  unfold F_X0_worth
  refine x_aload_n 0 dX0_worth_0 rfl rfl ?_
  refine x_iload_n 1 dX0_worth_1 rfl rfl ?_
  refine cl_X0_147 (by omega) (Nat.le_of_ble_eq_true rfl) dX0_worth_2 fun r1 h2 => ?_
  refine x_astore_n (lv' := [(2, (2, r1)), (0, (2, x0)), (1, (0, x1))]) dX0_worth_5 rfl (by decide) rfl ?_
  refine x_aload_n 0 dX0_worth_6 rfl rfl ?_
  refine x_ifnonnull 14 dX0_worth_7 (by decide) (fun _ => ?_) (fun _ => ?_)
  · refine x_ldcw (n := -10000000) q1136 dX0_worth_10 (by decide +kernel) ⟨by decide, by decide⟩ ?_
    exact x_iret rfl dX0_worth_13
  · refine x_aload_n 0 dX0_worth_14 rfl rfl ?_
    refine xg_X0_35 dX0_worth_15 ?_
    refine x_if_eq 25 dX0_worth_18 (by decide) (fun _ => ?_) (fun _ => ?_)
    · refine x_aload_n 1 dX0_worth_25 rfl rfl ?_
      refine x_iload_n 2 dX0_worth_26 rfl rfl ?_
      refine x_ic dX0_worth_27 (by decide) (by decide) ?_
      refine cl_X0_223 (by omega) (Nat.le_of_ble_eq_true rfl) dX0_worth_28 fun r3 h4 => ?_
      refine x_aload_n 1 dX0_worth_31 rfl rfl ?_
      refine xg_X0_17 dX0_worth_32 ?_
      refine xg_X0_174 dX0_worth_35 ?_
      refine x_ic dX0_worth_38 (by decide) (by decide) ?_
      refine x_iald dX0_worth_39 ?_
      refine cl_X0_227 (by omega) (Nat.le_of_ble_eq_true rfl) dX0_worth_40 fun r5 h6 => ?_
      refine cl_X0_269 (by omega) (Nat.le_of_ble_eq_true rfl) dX0_worth_43 fun r7 h8 => ?_
      refine x_aload_n 1 dX0_worth_46 rfl rfl ?_
      refine x_iload_n 2 dX0_worth_47 rfl rfl ?_
      refine x_ic dX0_worth_48 (by decide) (by decide) ?_
      refine cl_X0_223 (by omega) (Nat.le_of_ble_eq_true rfl) dX0_worth_49 fun r9 h10 => ?_
      refine x_aload_n 1 dX0_worth_52 rfl rfl ?_
      refine xg_X0_17 dX0_worth_53 ?_
      refine xg_X0_174 dX0_worth_56 ?_
      refine x_ic dX0_worth_59 (by decide) (by decide) ?_
      refine x_iald dX0_worth_60 ?_
      refine cl_X0_227 (by omega) (Nat.le_of_ble_eq_true rfl) dX0_worth_61 fun r11 h12 => ?_
      refine cl_X0_269 (by omega) (Nat.le_of_ble_eq_true rfl) dX0_worth_64 fun r13 h14 => ?_
      refine x_isub dX0_worth_67 ?_
      exact x_iret rfl dX0_worth_68
    · refine x_ic dX0_worth_21 (by decide) (by decide) ?_
      refine x_goto 68 dX0_worth_22 (by decide) ?_
      exact x_iret rfl dX0_worth_68
theorem SF_X0_worth (l : Launch) {d : Nat} (hdd : 130 ≤ d) (x0 : Int) (x1 : Int) (h : XH) (hok : okH h) (ho : okXs (xn h) [(2, x0), (0, x1)]) (fin : XR) (hf : F_X0_worth x0 x1 h = some fin) : xSpec l yX0_worth cX0_worth 3 (some .int) d 0 [(2, x0), (0, x1)] h fin := x_enter (lv := [(0, (2, x0)), (1, (0, x1))]) (by decide) rfl rfl (Nat.le_of_ble_eq_true rfl) rfl (fun Z _ => WF_X0_worth hdd x0 x1 h) hok ho fin hf
noncomputable def F_X0_isHours (x0 : Int) (h : XH) : Option XR := mb (F_X0_in x0 0 400 h) fun r1 h2 => cb r1 (some (r1, h2))
theorem WF_X0_isHours {d : Nat} {Z : XZ XR} (hdd : 2 ≤ d) : ∀ x0 h, XG xfh (xQ 0) RX0 "isHours" cX0_isHours 1 (some .boolean) d Z 0 [(0, (0, x0))] [] h (F_X0_isHours x0 h) := by
  intro x0 h
  unfold F_X0_isHours
  refine x_iload_n 0 dX0_isHours_0 rfl rfl ?_
  refine x_i2l dX0_isHours_1 ?_
  refine x_l0 dX0_isHours_2 ?_
  refine x_ldc2 (n := 400) q1149 dX0_isHours_3 (by decide +kernel) ⟨by decide, by decide⟩ ?_
  refine cl_X0_109 (by omega) (Nat.le_of_ble_eq_true rfl) dX0_isHours_6 fun r1 h2 => ?_
  exact x_zret rfl dX0_isHours_9
theorem SF_X0_isHours (l : Launch) {d : Nat} (hdd : 2 ≤ d) (x0 : Int) (h : XH) (hok : okH h) (ho : okXs (xn h) [(0, x0)]) (fin : XR) (hf : F_X0_isHours x0 h = some fin) : xSpec l yX0_isHours cX0_isHours 1 (some .boolean) d 0 [(0, x0)] h fin := x_enter (lv := [(0, (0, x0))]) (by decide) rfl rfl (Nat.le_of_ble_eq_true rfl) rfl (fun Z _ => WF_X0_isHours hdd x0 h) hok ho fin hf
noncomputable def F_X20_hoursOf (x0 : Int) (x1 : Int) (x2 : Int) (h : XH) : Option XR := ob h x0 18 <| ob h (xv h x0 4) 1 <| ob h x0 18 <| mb (F_X20_at x0 0 x1 x2 0 h) fun r1 h2 => ai h2 (xv h (xv h x0 4) 10) 0 r1 <| some (xv h2 (xv h (xv h x0 4) 10) r1, h2)
theorem WF_X20_hoursOf {d : Nat} {Z : XZ XR} (hdd : 2 ≤ d) : ∀ x0 x1 x2 h, XG xfh (xQ 0) RX20 "hoursOf" cX20_hoursOf 3 (some .int) d Z 0 [(0, (2, x0)), (1, (0, x1)), (2, (0, x2))] [] h (F_X20_hoursOf x0 x1 x2 h) := by
  intro x0 x1 x2 h
  unfold F_X20_hoursOf
  refine x_aload_n 0 dX20_hoursOf_0 rfl rfl ?_
  refine xg_X20_3 dX20_hoursOf_1 ?_
  refine xg_X20_58 dX20_hoursOf_4 ?_
  refine x_aload_n 0 dX20_hoursOf_7 rfl rfl ?_
  refine x_ic dX20_hoursOf_8 (by decide) (by decide) ?_
  refine x_iload_n 1 dX20_hoursOf_9 rfl rfl ?_
  refine x_iload_n 2 dX20_hoursOf_10 rfl rfl ?_
  refine x_ic dX20_hoursOf_11 (by decide) (by decide) ?_
  refine cl_X20_62 (by omega) (Nat.le_of_ble_eq_true rfl) dX20_hoursOf_12 fun r1 h2 => ?_
  refine x_iald dX20_hoursOf_15 ?_
  exact x_iret rfl dX20_hoursOf_16
theorem SF_X20_hoursOf (l : Launch) {d : Nat} (hdd : 2 ≤ d) (x0 : Int) (x1 : Int) (x2 : Int) (h : XH) (hok : okH h) (ho : okXs (xn h) [(2, x0), (0, x1), (0, x2)]) (fin : XR) (hf : F_X20_hoursOf x0 x1 x2 h = some fin) : xSpec l yX20_hoursOf cX20_hoursOf 3 (some .int) d 0 [(2, x0), (0, x1), (0, x2)] h fin := x_enter (lv := [(0, (2, x0)), (1, (0, x1)), (2, (0, x2))]) (by decide) rfl rfl (Nat.le_of_ble_eq_true rfl) rfl (fun Z _ => WF_X20_hoursOf hdd x0 x1 x2 h) hok ho fin hf
theorem cl_X20_134 {ρ : Type} {fh : ρ → XH} {QQ : XZ ρ → State → Prop} {mn : String} {cc : ByteArray} {nL : Nat} {ret : Option FieldType} {d : Nat} {Z : XZ ρ} {pc : Nat} {lv : List (Nat × AV)} {st : List AV} {h : XH} {g : Int → XH → Option ρ} {b a0 a1 : Int} (hdd : 3 ≤ d) (hcat : (st.map fun v => if v.1 = 1 then 2 else 1).sum ≤ 8) (hdg : decode cc pc = .ok (.invokevirtual 134, 3)) (kk : ∀ r h1, XG fh QQ RX20 mn cc nL ret d Z (pc + 3) lv ((0, r) :: st) h1 (g r h1)) : XG fh QQ RX20 mn cc nL ret d Z pc lv ((0, a1) :: (0, a0) :: (2, b) :: st) h (ob h b 18 (mb (F_X20_hoursOf b a0 a1 h) g)) :=
  x_callVi [(0, a0), (0, a1)] 2 (WF_X20_hoursOf (Z := (Z.1, Z.2.1, ((0, h), h))) (Nat.le_refl 2) b a0 a1 h).1 (fun hok ho fin hf => SF_X20_hoursOf (yL Z) (Nat.le_refl 2) b a0 a1 h hok ho fin hf) RX20 18 rfl (by decide) (lw_V q1229 q1231 qs46 q158 q1232) ⟨rfl, by decide +kernel, by decide +kernel, by decide +kernel⟩ rfl (by omega) (by decide) rfl hcat hdg kk
noncomputable def F_X20_most_63 (K7 : Int → Int → Int → Int → XH → Option XR) (K20 : Int → Int → Int → Int → Int → XH → Option XR) (x0 : Int) (x1 : Int) (x2 : Int) (x4 : Int) (x5 : Int) (h : XH) : Option XR := nm (w32 (x5 + 1)) fun v1 => K20 x0 x1 x2 x4 v1 h
theorem WF_X20_most_63 {d : Nat} {Z : XZ XR} (hdd : 3 ≤ d) {K7 : Int → Int → Int → Int → XH → Option XR} (hK7 : ∀ x0 x1 x2 x4 h, XG xfh (xQ 1) RX20 "most" cX20_most 6 (some .long) d Z 7 [(0, (2, x0)), (1, (0, x1)), (2, (1, x2)), (4, (0, x4))] [] h (K7 x0 x1 x2 x4 h)) {K20 : Int → Int → Int → Int → Int → XH → Option XR} (hK20 : ∀ x0 x1 x2 x4 x5 h, XG xfh (xQ 1) RX20 "most" cX20_most 6 (some .long) d Z 20 [(0, (2, x0)), (1, (0, x1)), (2, (1, x2)), (4, (0, x4)), (5, (0, x5))] [] h (K20 x0 x1 x2 x4 x5 h)) : ∀ x0 x1 x2 x4 x5 h, XG xfh (xQ 1) RX20 "most" cX20_most 6 (some .long) d Z 63 [(0, (2, x0)), (1, (0, x1)), (2, (1, x2)), (4, (0, x4)), (5, (0, x5))] [] h (F_X20_most_63 K7 K20 x0 x1 x2 x4 x5 h) := by
  intro x0 x1 x2 x4 x5 h
  unfold F_X20_most_63
  refine x_iinc 4 dX20_most_63 rfl (by decide) fun v1 => x_lv (lv' := [(5, (0, v1)), (0, (2, x0)), (1, (0, x1)), (2, (1, x2)), (4, (0, x4))]) rfl ?_
  refine x_goto 20 dX20_most_66 (by decide) ?_
  exact x_sub [1, 2, 3, 4, 0] rfl (hK20 x0 x1 x2 x4 v1 h)
noncomputable def F_X20_most_69 (K7 : Int → Int → Int → Int → XH → Option XR) (x0 : Int) (x1 : Int) (x2 : Int) (x4 : Int) (h : XH) : Option XR := nm (w32 (x4 + 1)) fun v1 => K7 x0 x1 x2 v1 h
theorem WF_X20_most_69 {d : Nat} {Z : XZ XR} (hdd : 3 ≤ d) {K7 : Int → Int → Int → Int → XH → Option XR} (hK7 : ∀ x0 x1 x2 x4 h, XG xfh (xQ 1) RX20 "most" cX20_most 6 (some .long) d Z 7 [(0, (2, x0)), (1, (0, x1)), (2, (1, x2)), (4, (0, x4))] [] h (K7 x0 x1 x2 x4 h)) : ∀ x0 x1 x2 x4 h, XG xfh (xQ 1) RX20 "most" cX20_most 6 (some .long) d Z 69 [(0, (2, x0)), (1, (0, x1)), (2, (1, x2)), (4, (0, x4))] [] h (F_X20_most_69 K7 x0 x1 x2 x4 h) := by
  intro x0 x1 x2 x4 h
  unfold F_X20_most_69
  refine x_iinc 3 dX20_most_69 rfl (by decide) fun v1 => x_lv (lv' := [(4, (0, v1)), (0, (2, x0)), (1, (0, x1)), (2, (1, x2))]) rfl ?_
  refine x_goto 7 dX20_most_72 (by decide) ?_
  exact x_sub [1, 2, 3, 0] rfl (hK7 x0 x1 x2 v1 h)
noncomputable def F_X20_most_20 (K7 : Int → Int → Int → Int → XH → Option XR) : Nat → Int → Int → Int → Int → Int → XH → Option XR
  | 0, _, _, _, _, _, _ => none
  | n + 1, x0, x1, x2, x4, x5, h => ob h x0 18 <| al h (xv h x0 0) 7 <| if (xl h (xv h x0 0) : Int) < w32 (x4 + x5) then (F_X20_most_69 K7 x0 x1 x2 x4 h) else (ob h x0 18 <| mb (F_X20_hoursOf x0 x4 x5 h) fun r1 h2 => if x1 < r1 then (F_X20_most_63 K7 (F_X20_most_20 K7 n) x0 x1 x2 x4 x5 h2) else (ob h2 x0 18 <| ai h2 (xv h2 x0 1) 1 (w32 ((w32 (x4 * 21)) + x5)) <| nm (α := Int) (if (xv h2 (xv h2 x0 1) (w32 ((w32 (x4 * 21)) + x5))) < x2 then x2 else (xv h2 (xv h2 x0 1) (w32 ((w32 (x4 * 21)) + x5)))) fun v3 => F_X20_most_63 K7 (F_X20_most_20 K7 n) x0 x1 v3 x4 x5 h2))
theorem WF_X20_most_20 {d : Nat} {Z : XZ XR} (hdd : 3 ≤ d) {K7 : Int → Int → Int → Int → XH → Option XR} (hK7 : ∀ x0 x1 x2 x4 h, XG xfh (xQ 1) RX20 "most" cX20_most 6 (some .long) d Z 7 [(0, (2, x0)), (1, (0, x1)), (2, (1, x2)), (4, (0, x4))] [] h (K7 x0 x1 x2 x4 h)) : ∀ n x0 x1 x2 x4 x5 h, XG xfh (xQ 1) RX20 "most" cX20_most 6 (some .long) d Z 20 [(0, (2, x0)), (1, (0, x1)), (2, (1, x2)), (4, (0, x4)), (5, (0, x5))] [] h (F_X20_most_20 K7 n x0 x1 x2 x4 x5 h) := by
  intro n
  induction n with
  | zero => intro x0 x1 x2 x4 x5 h; exact x_none
  | succ n ih =>
    intro x0 x1 x2 x4 x5 h
    rw [F_X20_most_20]
    refine x_iload 3 dX20_most_20 rfl ?_
    refine x_iload 4 dX20_most_22 rfl ?_
    refine x_iadd dX20_most_24 ?_
    refine x_aload_n 0 dX20_most_25 rfl rfl ?_
    refine xg_X20_48 dX20_most_26 ?_
    refine x_alen 7 (by decide) dX20_most_29 ?_
    refine x_icmp_gt 69 dX20_most_30 (by decide) (fun _ => ?_) (fun _ => ?_)
    · exact x_sub [0, 1, 2, 3] rfl (WF_X20_most_69 hdd hK7 x0 x1 x2 x4 h)
    · refine x_aload_n 0 dX20_most_33 rfl rfl ?_
      refine x_iload 3 dX20_most_34 rfl ?_
      refine x_iload 4 dX20_most_36 rfl ?_
      refine cl_X20_134 (by omega) (Nat.le_of_ble_eq_true rfl) dX20_most_38 fun r1 h2 => ?_
      refine x_iload_n 1 dX20_most_41 rfl rfl ?_
      refine x_icmp_gt 63 dX20_most_42 (by decide) (fun _ => ?_) (fun _ => ?_)
      · exact x_sub [0, 1, 2, 3, 4] rfl (WF_X20_most_63 hdd hK7 ih x0 x1 x2 x4 x5 h2)
      · refine x_lload_n 2 dX20_most_45 rfl rfl ?_
        refine x_aload_n 0 dX20_most_46 rfl rfl ?_
        refine xg_X20_15 dX20_most_47 ?_
        refine x_iload 3 dX20_most_50 rfl ?_
        refine x_bp dX20_most_52 (by decide) (by decide) ?_
        refine x_imul dX20_most_54 ?_
        refine x_iload 4 dX20_most_55 rfl ?_
        refine x_iadd dX20_most_57 ?_
        refine x_lald dX20_most_58 ?_
        refine x_mmaxl q1233 q971 q132 q972 (by omega) (Nat.le_of_ble_eq_true rfl) dX20_most_59 ?_
        refine x_nmT fun v3 => ?_
        refine x_lstore_n (lv' := [(2, (1, v3)), (0, (2, x0)), (1, (0, x1)), (4, (0, x4)), (5, (0, x5))]) dX20_most_62 rfl (by decide) rfl ?_
        exact x_sub [1, 2, 0, 3, 4] rfl (WF_X20_most_63 hdd hK7 ih x0 x1 v3 x4 x5 h2)
noncomputable def F_X20_most_7 : Nat → Int → Int → Int → Int → XH → Option XR
  | 0, _, _, _, _, _ => none
  | n + 1, x0, x1, x2, x4, h => ob h x0 18 <| al h (xv h x0 0) 7 <| if (xl h (xv h x0 0) : Int) < x4 then (some (x2, h)) else (F_X20_most_20 (F_X20_most_7 n) FU x0 x1 x2 x4 0 h)
theorem WF_X20_most_7 {d : Nat} {Z : XZ XR} (hdd : 3 ≤ d) : ∀ n x0 x1 x2 x4 h, XG xfh (xQ 1) RX20 "most" cX20_most 6 (some .long) d Z 7 [(0, (2, x0)), (1, (0, x1)), (2, (1, x2)), (4, (0, x4))] [] h (F_X20_most_7 n x0 x1 x2 x4 h) := by
  intro n
  induction n with
  | zero => intro x0 x1 x2 x4 h; exact x_none
  | succ n ih =>
    intro x0 x1 x2 x4 h
    rw [F_X20_most_7]
    refine x_iload 3 dX20_most_7 rfl ?_
    refine x_aload_n 0 dX20_most_9 rfl rfl ?_
    refine xg_X20_48 dX20_most_10 ?_
    refine x_alen 7 (by decide) dX20_most_13 ?_
    refine x_icmp_gt 75 dX20_most_14 (by decide) (fun _ => ?_) (fun _ => ?_)
    · refine x_lload_n 2 dX20_most_75 rfl rfl ?_
      exact x_lret rfl dX20_most_76
    · refine x_ic dX20_most_17 (by decide) (by decide) ?_
      refine x_istore (lv' := [(5, (0, 0)), (0, (2, x0)), (1, (0, x1)), (2, (1, x2)), (4, (0, x4))]) dX20_most_18 (by decide) rfl ?_
      exact x_sub [1, 2, 3, 4, 0] rfl (WF_X20_most_20 hdd ih FU x0 x1 x2 x4 0 h)
noncomputable def F_X20_most (x0 : Int) (x1 : Int) (h : XH) : Option XR := F_X20_most_7 FU x0 x1 (-1) 0 h
theorem WF_X20_most {d : Nat} {Z : XZ XR} (hdd : 3 ≤ d) : ∀ x0 x1 h, XG xfh (xQ 1) RX20 "most" cX20_most 6 (some .long) d Z 0 [(0, (2, x0)), (1, (0, x1))] [] h (F_X20_most x0 x1 h) := by
  intro x0 x1 h
  unfold F_X20_most
  refine x_ldc2 (n := -1) q1228 dX20_most_0 (by decide +kernel) ⟨by decide, by decide⟩ ?_
  refine x_lstore_n (lv' := [(2, (1, (-1))), (0, (2, x0)), (1, (0, x1))]) dX20_most_3 rfl (by decide) rfl ?_
  refine x_ic dX20_most_4 (by decide) (by decide) ?_
  refine x_istore (lv' := [(4, (0, 0)), (2, (1, (-1))), (0, (2, x0)), (1, (0, x1))]) dX20_most_5 (by decide) rfl ?_
  exact x_sub [2, 3, 1, 0] rfl (WF_X20_most_7 hdd FU x0 x1 (-1) 0 h)
theorem SF_X20_most (l : Launch) {d : Nat} (hdd : 3 ≤ d) (x0 : Int) (x1 : Int) (h : XH) (hok : okH h) (ho : okXs (xn h) [(2, x0), (0, x1)]) (fin : XR) (hf : F_X20_most x0 x1 h = some fin) : xSpec l yX20_most cX20_most 6 (some .long) d 1 [(2, x0), (0, x1)] h fin := x_enter (lv := [(0, (2, x0)), (1, (0, x1))]) (by decide) rfl rfl (Nat.le_of_ble_eq_true rfl) rfl (fun Z _ => WF_X20_most hdd x0 x1 h) hok ho fin hf
theorem cl_X20_141 {ρ : Type} {fh : ρ → XH} {QQ : XZ ρ → State → Prop} {mn : String} {cc : ByteArray} {nL : Nat} {ret : Option FieldType} {d : Nat} {Z : XZ ρ} {pc : Nat} {lv : List (Nat × AV)} {st : List AV} {h : XH} {g : Int → XH → Option ρ} {b a0 : Int} (hdd : 4 ≤ d) (hcat : (st.map fun v => if v.1 = 1 then 2 else 1).sum ≤ 8) (hdg : decode cc pc = .ok (.invokevirtual 141, 3)) (kk : ∀ r h1, XG fh QQ RX20 mn cc nL ret d Z (pc + 3) lv ((1, r) :: st) h1 (g r h1)) : XG fh QQ RX20 mn cc nL ret d Z pc lv ((0, a0) :: (2, b) :: st) h (ob h b 18 (mb (F_X20_most b a0 h) g)) :=
  x_callVl [(0, a0)] 1 (WF_X20_most (Z := (Z.1, Z.2.1, ((0, h), h))) (Nat.le_refl 3) b a0 h).1 (fun hok ho fin hf => SF_X20_most (yL Z) (Nat.le_refl 3) b a0 h hok ho fin hf) RX20 18 rfl (by decide) (lw_V q1224 q1225 q1226 q158 q1227) ⟨rfl, by decide +kernel, by decide +kernel, by decide +kernel⟩ rfl (by omega) (by decide) rfl hcat hdg kk
noncomputable def F_X20_hours_72 (K13 : Int → Int → Int → Int → XH → Option XR) (K26 : Int → Int → Int → Int → Int → XH → Option XR) (x0 : Int) (x2 : Int) (x4 : Int) (x5 : Int) (x6 : Int) (h : XH) : Option XR := nm (w32 (x6 + 1)) fun v1 => K26 x0 x2 x4 x5 v1 h
theorem WF_X20_hours_72 {d : Nat} {Z : XZ XR} (hdd : 4 ≤ d) {K13 : Int → Int → Int → Int → XH → Option XR} (hK13 : ∀ x0 x2 x4 x5 h, XG xfh (xQ 0) RX20 "hours" cX20_hours 7 (some .int) d Z 13 [(0, (2, x0)), (2, (1, x2)), (4, (0, x4)), (5, (0, x5))] [] h (K13 x0 x2 x4 x5 h)) {K26 : Int → Int → Int → Int → Int → XH → Option XR} (hK26 : ∀ x0 x2 x4 x5 x6 h, XG xfh (xQ 0) RX20 "hours" cX20_hours 7 (some .int) d Z 26 [(0, (2, x0)), (2, (1, x2)), (4, (0, x4)), (5, (0, x5)), (6, (0, x6))] [] h (K26 x0 x2 x4 x5 x6 h)) : ∀ x0 x2 x4 x5 x6 h, XG xfh (xQ 0) RX20 "hours" cX20_hours 7 (some .int) d Z 72 [(0, (2, x0)), (2, (1, x2)), (4, (0, x4)), (5, (0, x5)), (6, (0, x6))] [] h (F_X20_hours_72 K13 K26 x0 x2 x4 x5 x6 h) := by
  intro x0 x2 x4 x5 x6 h
  unfold F_X20_hours_72
  refine x_iinc 4 dX20_hours_72 rfl (by decide) fun v1 => x_lv (lv' := [(6, (0, v1)), (0, (2, x0)), (2, (1, x2)), (4, (0, x4)), (5, (0, x5))]) rfl ?_
  refine x_goto 26 dX20_hours_75 (by decide) ?_
  exact x_sub [1, 2, 3, 4, 0] rfl (hK26 x0 x2 x4 x5 v1 h)
noncomputable def F_X20_hours_78 (K13 : Int → Int → Int → Int → XH → Option XR) (x0 : Int) (x2 : Int) (x4 : Int) (x5 : Int) (h : XH) : Option XR := nm (w32 (x5 + 1)) fun v1 => K13 x0 x2 x4 v1 h
theorem WF_X20_hours_78 {d : Nat} {Z : XZ XR} (hdd : 4 ≤ d) {K13 : Int → Int → Int → Int → XH → Option XR} (hK13 : ∀ x0 x2 x4 x5 h, XG xfh (xQ 0) RX20 "hours" cX20_hours 7 (some .int) d Z 13 [(0, (2, x0)), (2, (1, x2)), (4, (0, x4)), (5, (0, x5))] [] h (K13 x0 x2 x4 x5 h)) : ∀ x0 x2 x4 x5 h, XG xfh (xQ 0) RX20 "hours" cX20_hours 7 (some .int) d Z 78 [(0, (2, x0)), (2, (1, x2)), (4, (0, x4)), (5, (0, x5))] [] h (F_X20_hours_78 K13 x0 x2 x4 x5 h) := by
  intro x0 x2 x4 x5 h
  unfold F_X20_hours_78
  refine x_iinc 3 dX20_hours_78 rfl (by decide) fun v1 => x_lv (lv' := [(5, (0, v1)), (0, (2, x0)), (2, (1, x2)), (4, (0, x4))]) rfl ?_
  refine x_goto 13 dX20_hours_81 (by decide) ?_
  exact x_sub [1, 2, 3, 0] rfl (hK13 x0 x2 x4 v1 h)
noncomputable def F_X20_hours_26 (K13 : Int → Int → Int → Int → XH → Option XR) : Nat → Int → Int → Int → Int → Int → XH → Option XR
  | 0, _, _, _, _, _, _ => none
  | n + 1, x0, x2, x4, x5, x6, h => ob h x0 18 <| al h (xv h x0 0) 7 <| if (xl h (xv h x0 0) : Int) < w32 (x5 + x6) then (F_X20_hours_78 K13 x0 x2 x4 x5 h) else (ob h x0 18 <| ai h (xv h x0 1) 1 (w32 ((w32 (x5 * 21)) + x6)) <| if xv h (xv h x0 1) (w32 ((w32 (x5 * 21)) + x6)) = x2 then (ob h x0 18 <| mb (F_X20_hoursOf x0 x5 x6 h) fun r1 h2 => nm (α := Int) (if r1 < x4 then r1 else x4) fun v3 => F_X20_hours_72 K13 (F_X20_hours_26 K13 n) x0 x2 v3 x5 x6 h2) else (F_X20_hours_72 K13 (F_X20_hours_26 K13 n) x0 x2 x4 x5 x6 h))
theorem WF_X20_hours_26 {d : Nat} {Z : XZ XR} (hdd : 4 ≤ d) {K13 : Int → Int → Int → Int → XH → Option XR} (hK13 : ∀ x0 x2 x4 x5 h, XG xfh (xQ 0) RX20 "hours" cX20_hours 7 (some .int) d Z 13 [(0, (2, x0)), (2, (1, x2)), (4, (0, x4)), (5, (0, x5))] [] h (K13 x0 x2 x4 x5 h)) : ∀ n x0 x2 x4 x5 x6 h, XG xfh (xQ 0) RX20 "hours" cX20_hours 7 (some .int) d Z 26 [(0, (2, x0)), (2, (1, x2)), (4, (0, x4)), (5, (0, x5)), (6, (0, x6))] [] h (F_X20_hours_26 K13 n x0 x2 x4 x5 x6 h) := by
  intro n
  induction n with
  | zero => intro x0 x2 x4 x5 x6 h; exact x_none
  | succ n ih =>
    intro x0 x2 x4 x5 x6 h
    rw [F_X20_hours_26]
    refine x_iload 3 dX20_hours_26 rfl ?_
    refine x_iload 4 dX20_hours_28 rfl ?_
    refine x_iadd dX20_hours_30 ?_
    refine x_aload_n 0 dX20_hours_31 rfl rfl ?_
    refine xg_X20_48 dX20_hours_32 ?_
    refine x_alen 7 (by decide) dX20_hours_35 ?_
    refine x_icmp_gt 78 dX20_hours_36 (by decide) (fun _ => ?_) (fun _ => ?_)
    · exact x_sub [0, 1, 2, 3] rfl (WF_X20_hours_78 hdd hK13 x0 x2 x4 x5 h)
    · refine x_aload_n 0 dX20_hours_39 rfl rfl ?_
      refine xg_X20_15 dX20_hours_40 ?_
      refine x_iload 3 dX20_hours_43 rfl ?_
      refine x_bp dX20_hours_45 (by decide) (by decide) ?_
      refine x_imul dX20_hours_47 ?_
      refine x_iload 4 dX20_hours_48 rfl ?_
      refine x_iadd dX20_hours_50 ?_
      refine x_lald dX20_hours_51 ?_
      refine x_lload_n 1 dX20_hours_52 rfl rfl ?_
      refine x_lcmp_ne 72 dX20_hours_53 dX20_hours_54 (by decide) (fun _ => ?_) (fun _ => ?_)
      · exact x_sub [0, 1, 2, 3, 4] rfl (WF_X20_hours_72 hdd hK13 ih x0 x2 x4 x5 x6 h)
      · refine x_iload 2 dX20_hours_57 rfl ?_
        refine x_aload_n 0 dX20_hours_59 rfl rfl ?_
        refine x_iload 3 dX20_hours_60 rfl ?_
        refine x_iload 4 dX20_hours_62 rfl ?_
        refine cl_X20_134 (by omega) (Nat.le_of_ble_eq_true rfl) dX20_hours_64 fun r1 h2 => ?_
        refine x_mmin q1187 q364 q132 q365 (by omega) (Nat.le_of_ble_eq_true rfl) dX20_hours_67 ?_
        refine x_nmT fun v3 => ?_
        refine x_istore (lv' := [(4, (0, v3)), (0, (2, x0)), (2, (1, x2)), (5, (0, x5)), (6, (0, x6))]) dX20_hours_70 (by decide) rfl ?_
        exact x_sub [1, 2, 0, 3, 4] rfl (WF_X20_hours_72 hdd hK13 ih x0 x2 v3 x5 x6 h2)
noncomputable def F_X20_hours_13 : Nat → Int → Int → Int → Int → XH → Option XR
  | 0, _, _, _, _, _ => none
  | n + 1, x0, x2, x4, x5, h => ob h x0 18 <| al h (xv h x0 0) 7 <| if (xl h (xv h x0 0) : Int) < x5 then (some (x4, h)) else (F_X20_hours_26 (F_X20_hours_13 n) FU x0 x2 x4 x5 0 h)
theorem WF_X20_hours_13 {d : Nat} {Z : XZ XR} (hdd : 4 ≤ d) : ∀ n x0 x2 x4 x5 h, XG xfh (xQ 0) RX20 "hours" cX20_hours 7 (some .int) d Z 13 [(0, (2, x0)), (2, (1, x2)), (4, (0, x4)), (5, (0, x5))] [] h (F_X20_hours_13 n x0 x2 x4 x5 h) := by
  intro n
  induction n with
  | zero => intro x0 x2 x4 x5 h; exact x_none
  | succ n ih =>
    intro x0 x2 x4 x5 h
    rw [F_X20_hours_13]
    refine x_iload 3 dX20_hours_13 rfl ?_
    refine x_aload_n 0 dX20_hours_15 rfl rfl ?_
    refine xg_X20_48 dX20_hours_16 ?_
    refine x_alen 7 (by decide) dX20_hours_19 ?_
    refine x_icmp_gt 84 dX20_hours_20 (by decide) (fun _ => ?_) (fun _ => ?_)
    · refine x_iload 2 dX20_hours_84 rfl ?_
      exact x_iret rfl dX20_hours_86
    · refine x_ic dX20_hours_23 (by decide) (by decide) ?_
      refine x_istore (lv' := [(6, (0, 0)), (0, (2, x0)), (2, (1, x2)), (4, (0, x4)), (5, (0, x5))]) dX20_hours_24 (by decide) rfl ?_
      exact x_sub [1, 2, 3, 4, 0] rfl (WF_X20_hours_26 hdd ih FU x0 x2 x4 x5 0 h)
noncomputable def F_X20_hours (x0 : Int) (x1 : Int) (h : XH) : Option XR := ob h x0 18 <| mb (F_X20_most x0 x1 h) fun r1 h2 => F_X20_hours_13 FU x0 r1 1000000 0 h2
theorem WF_X20_hours {d : Nat} {Z : XZ XR} (hdd : 4 ≤ d) : ∀ x0 x1 h, XG xfh (xQ 0) RX20 "hours" cX20_hours 7 (some .int) d Z 0 [(0, (2, x0)), (1, (0, x1))] [] h (F_X20_hours x0 x1 h) := by
  intro x0 x1 h
  unfold F_X20_hours
  refine x_aload_n 0 dX20_hours_0 rfl rfl ?_
  refine x_iload_n 1 dX20_hours_1 rfl rfl ?_
  refine cl_X20_141 (by omega) (Nat.le_of_ble_eq_true rfl) dX20_hours_2 fun r1 h2 => ?_
  refine x_lstore_n (lv' := [(2, (1, r1)), (0, (2, x0)), (1, (0, x1))]) dX20_hours_5 rfl (by decide) rfl ?_
  refine x_ldc (n := 1000000) q1173 dX20_hours_6 (by decide +kernel) ⟨by decide, by decide⟩ ?_
  refine x_istore (lv' := [(4, (0, 1000000)), (2, (1, r1)), (0, (2, x0)), (1, (0, x1))]) dX20_hours_8 (by decide) rfl ?_
  refine x_ic dX20_hours_10 (by decide) (by decide) ?_
  refine x_istore (lv' := [(5, (0, 0)), (4, (0, 1000000)), (2, (1, r1)), (0, (2, x0)), (1, (0, x1))]) dX20_hours_11 (by decide) rfl ?_
  exact x_sub [3, 2, 1, 0] rfl (WF_X20_hours_13 hdd FU x0 r1 1000000 0 h2)
theorem SF_X20_hours (l : Launch) {d : Nat} (hdd : 4 ≤ d) (x0 : Int) (x1 : Int) (h : XH) (hok : okH h) (ho : okXs (xn h) [(2, x0), (0, x1)]) (fin : XR) (hf : F_X20_hours x0 x1 h = some fin) : xSpec l yX20_hours cX20_hours 7 (some .int) d 0 [(2, x0), (0, x1)] h fin := x_enter (lv := [(0, (2, x0)), (1, (0, x1))]) (by decide) rfl rfl (Nat.le_of_ble_eq_true rfl) rfl (fun Z _ => WF_X20_hours hdd x0 x1 h) hok ho fin hf
