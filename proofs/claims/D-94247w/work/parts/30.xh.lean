/-! printed by tools/genx.py: the system's methods as pure functions over named cells, and their walks -/
set_option maxRecDepth 100000
set_option maxHeartbeats 4000000
theorem xg_X0_99 {ρ : Type} {fh : ρ → XH} {QQ : XZ ρ → State → Prop} {mn : String} {cc : ByteArray} {nL : Nat} {ret : Option FieldType} {d : Nat} {Z : XZ ρ} {pc : Nat} {lv : List (Nat × AV)} {st : List AV} {h : XH} {res : Option ρ} {a : Int} (hd : decode cc pc = .ok (.getfield 99, 3)) (kk : XG fh QQ RX0 mn cc nL ret d Z (pc + 3) lv ((0, xv h a 5) :: st) h res) : XG fh QQ RX0 mn cc nL ret d Z pc lv ((2, a) :: st) h (ob h a 1 res) := x_get (C := RX0) (ref := RX0) 1 5 rfl in_X0 (by decide) rfl (by decide) (Or.inl rfl) q299 hd kk
noncomputable def F_X0_status (x0 : Int) (h : XH) : Option XR := ob h x0 1 <| some (xv h x0 5, h)
theorem WF_X0_status {d : Nat} {Z : XZ XR} (hdd : 1 ≤ d) : ∀ x0 h, XG xfh (xQ 0) RX0 "status" cX0_status 1 (some .int) d Z 0 [(0, (2, x0))] [] h (F_X0_status x0 h) := by
  intro x0 h
  unfold F_X0_status
  refine x_aload_n 0 dX0_status_0 rfl rfl ?_
  refine xg_X0_99 dX0_status_1 ?_
  exact x_iret rfl dX0_status_4
theorem SF_X0_status (l : Launch) {d : Nat} (hdd : 1 ≤ d) (x0 : Int) (h : XH) (hok : okH h) (ho : okXs (xn h) [(2, x0)]) (fin : XR) (hf : F_X0_status x0 h = some fin) : xSpec l yX0_status cX0_status 1 (some .int) d 0 [(2, x0)] h fin := x_enter (lv := [(0, (2, x0))]) (by decide) rfl rfl (Nat.le_of_ble_eq_true rfl) rfl (fun Z _ => WF_X0_status hdd x0 h) hok ho fin hf
noncomputable def F_X8_init (x0 : Int) (h : XH) : Option XR := pz x0 <| some (0, h)
theorem WF_X8_init {d : Nat} {Z : XZ XR} (hdd : 1 ≤ d) : ∀ x0 h, XG xfh (xQ 2) RX8 "<init>" cX8_init 1 none d Z 0 [(0, (2, x0))] [] h (F_X8_init x0 h) := by
  intro x0 h
  unfold F_X8_init
  refine x_aload_n 0 dX8_init_0 rfl rfl ?_
  refine x_objinit q763 q176 q177 (by omega) (Nat.le_of_ble_eq_true rfl) dX8_init_1 ?_
  exact x_vret rfl dX8_init_4
theorem SF_X8_init (l : Launch) {d : Nat} (hdd : 1 ≤ d) (x0 : Int) (h : XH) (hok : okH h) (ho : okXs (xn h) [(2, x0)]) (fin : XR) (hf : F_X8_init x0 h = some fin) : xSpec l yX8_init cX8_init 1 none d 2 [(2, x0)] h fin := x_enter (lv := [(0, (2, x0))]) (by decide) rfl rfl (Nat.le_of_ble_eq_true rfl) rfl (fun Z _ => WF_X8_init hdd x0 h) hok ho fin hf
theorem cl_X9_1 {ρ : Type} {fh : ρ → XH} {QQ : XZ ρ → State → Prop} {mn : String} {cc : ByteArray} {nL : Nat} {ret : Option FieldType} {d : Nat} {Z : XZ ρ} {pc : Nat} {lv : List (Nat × AV)} {st : List AV} {h : XH} {g : Int → XH → Option ρ} {b : Int} (hdd : 2 ≤ d) (hcat : (st.map fun v => if v.1 = 1 then 2 else 1).sum ≤ 8) (hdg : decode cc pc = .ok (.invokespecial 1, 3)) (kk : ∀ r h1, XG fh QQ RX9 mn cc nL ret d Z (pc + 3) lv st h1 (g r h1)) : XG fh QQ RX9 mn cc nL ret d Z pc lv ((2, b) :: st) h (pz b (mb (F_X8_init b h) g)) :=
  x_callJv [] 0 (WF_X8_init (Z := (Z.1, Z.2.1, ((0, h), h))) (Nat.le_refl 1) b h).1 (fun hok ho fin hf => SF_X8_init (yL Z) (Nat.le_refl 1) b h hok ho fin hf) (lw_meth q762) q146 q760 q761 rfl ⟨by decide +kernel, by decide +kernel, by decide +kernel⟩ rfl (by omega) (by decide) rfl hcat hdg kk
theorem xpF_X9_7 {ρ : Type} {fh : ρ → XH} {QQ : XZ ρ → State → Prop} {cc : ByteArray} {nL : Nat} {ret : Option FieldType} {d : Nat} {Z : XZ ρ} {pc : Nat} {lv : List (Nat × AV)} {st : List AV} {h : XH} {f : XH → Option ρ} {a x : Int} (hd : decode cc pc = .ok (.putfield 7, 3)) (kk : ∀ h1, XG fh QQ RX9 "<init>" cc nL ret d Z (pc + 3) lv st h1 (f h1)) : XG fh QQ RX9 "<init>" cc nL ret d Z pc lv ((0, x) :: (2, a) :: st) h (ob h a 8 (nm (hset h a 0 x) f)) := x_putF (C := RX9) (ref := RX9) 8 0 rfl in_X9 tyX9_ok nmX9 (by decide) rfl (by decide) (Or.inl rfl) rfl rfl rfl (xfit_X9 0 (by decide)) 0 rfl q764 hd kk
noncomputable def F_X9_init (x0 : Int) (x1 : Int) (h : XH) : Option XR := pz x0 <| mb (F_X8_init x0 h) fun r1 h2 => ob h2 x0 8 <| nm (hset h2 x0 0 x1) fun h3 => some (0, h3)
theorem WF_X9_init {d : Nat} {Z : XZ XR} (hdd : 2 ≤ d) : ∀ x0 x1 h, XG xfh (xQ 2) RX9 "<init>" cX9_init 2 none d Z 0 [(0, (2, x0)), (1, (0, x1))] [] h (F_X9_init x0 x1 h) := by
  intro x0 x1 h
  unfold F_X9_init
  refine x_aload_n 0 dX9_init_0 rfl rfl ?_
  refine cl_X9_1 (by omega) (Nat.le_of_ble_eq_true rfl) dX9_init_1 fun r1 h2 => ?_
  refine x_aload_n 0 dX9_init_4 rfl rfl ?_
  refine x_iload_n 1 dX9_init_5 rfl rfl ?_
  refine xpF_X9_7 dX9_init_6 fun h3 => ?_
  exact x_vret rfl dX9_init_9
theorem SF_X9_init (l : Launch) {d : Nat} (hdd : 2 ≤ d) (x0 : Int) (x1 : Int) (h : XH) (hok : okH h) (ho : okXs (xn h) [(2, x0), (0, x1)]) (fin : XR) (hf : F_X9_init x0 x1 h = some fin) : xSpec l yX9_init cX9_init 2 none d 2 [(2, x0), (0, x1)] h fin := x_enter (lv := [(0, (2, x0)), (1, (0, x1))]) (by decide) rfl rfl (Nat.le_of_ble_eq_true rfl) rfl (fun Z _ => WF_X9_init hdd x0 x1 h) hok ho fin hf
theorem xpF_X16_13 {ρ : Type} {fh : ρ → XH} {QQ : XZ ρ → State → Prop} {cc : ByteArray} {nL : Nat} {ret : Option FieldType} {d : Nat} {Z : XZ ρ} {pc : Nat} {lv : List (Nat × AV)} {st : List AV} {h : XH} {f : XH → Option ρ} {a x : Int} (hd : decode cc pc = .ok (.putfield 13, 3)) (kk : ∀ h1, XG fh QQ RX16 "<init>" cc nL ret d Z (pc + 3) lv st h1 (f h1)) : XG fh QQ RX16 "<init>" cc nL ret d Z pc lv ((2, x) :: (2, a) :: st) h (ob h a 14 (nm (hset h a 1 x) f)) := x_putF (C := RX16) (ref := RX16) 14 1 rfl in_X16 tyX16_ok nmX16 (by decide) rfl (by decide) (Or.inl rfl) rfl rfl rfl (xfit_X16 1 (by decide)) 2 rfl q877 hd kk
theorem xpF_X16_17 {ρ : Type} {fh : ρ → XH} {QQ : XZ ρ → State → Prop} {cc : ByteArray} {nL : Nat} {ret : Option FieldType} {d : Nat} {Z : XZ ρ} {pc : Nat} {lv : List (Nat × AV)} {st : List AV} {h : XH} {f : XH → Option ρ} {a x : Int} (hd : decode cc pc = .ok (.putfield 17, 3)) (kk : ∀ h1, XG fh QQ RX16 "<init>" cc nL ret d Z (pc + 3) lv st h1 (f h1)) : XG fh QQ RX16 "<init>" cc nL ret d Z pc lv ((2, x) :: (2, a) :: st) h (ob h a 14 (nm (hset h a 2 x) f)) := x_putF (C := RX16) (ref := RX16) 14 2 rfl in_X16 tyX16_ok nmX16 (by decide) rfl (by decide) (Or.inl rfl) rfl rfl rfl (xfit_X16 2 (by decide)) 2 rfl q878 hd kk
theorem xpF_X16_7 {ρ : Type} {fh : ρ → XH} {QQ : XZ ρ → State → Prop} {cc : ByteArray} {nL : Nat} {ret : Option FieldType} {d : Nat} {Z : XZ ρ} {pc : Nat} {lv : List (Nat × AV)} {st : List AV} {h : XH} {f : XH → Option ρ} {a x : Int} (hd : decode cc pc = .ok (.putfield 7, 3)) (kk : ∀ h1, XG fh QQ RX16 "<init>" cc nL ret d Z (pc + 3) lv st h1 (f h1)) : XG fh QQ RX16 "<init>" cc nL ret d Z pc lv ((0, x) :: (2, a) :: st) h (ob h a 14 (nm (hset h a 0 x) f)) := x_putF (C := RX16) (ref := RX16) 14 0 rfl in_X16 tyX16_ok nmX16 (by decide) rfl (by decide) (Or.inl rfl) rfl rfl rfl (xfit_X16 0 (by decide)) 0 rfl q875 hd kk
noncomputable def F_X16_init (x0 : Int) (x1 : Int) (x2 : Int) (x3 : Int) (h : XH) : Option XR := pz x0 <| ob h x0 14 <| nm (hset h x0 0 x1) fun h1 => ob h1 x0 14 <| nm (hset h1 x0 1 x2) fun h2 => ob h2 x0 14 <| nm (hset h2 x0 2 x3) fun h3 => some (0, h3)
theorem WF_X16_init {d : Nat} {Z : XZ XR} (hdd : 1 ≤ d) : ∀ x0 x1 x2 x3 h, XG xfh (xQ 2) RX16 "<init>" cX16_init 4 none d Z 0 [(0, (2, x0)), (1, (0, x1)), (2, (2, x2)), (3, (2, x3))] [] h (F_X16_init x0 x1 x2 x3 h) := by
  intro x0 x1 x2 x3 h
  unfold F_X16_init
  refine x_aload_n 0 dX16_init_0 rfl rfl ?_
  refine x_objinit q874 q176 q177 (by omega) (Nat.le_of_ble_eq_true rfl) dX16_init_1 ?_
  refine x_aload_n 0 dX16_init_4 rfl rfl ?_
  refine x_iload_n 1 dX16_init_5 rfl rfl ?_
  refine xpF_X16_7 dX16_init_6 fun h1 => ?_
  refine x_aload_n 0 dX16_init_9 rfl rfl ?_
  refine x_aload_n 2 dX16_init_10 rfl rfl ?_
  refine xpF_X16_13 dX16_init_11 fun h2 => ?_
  refine x_aload_n 0 dX16_init_14 rfl rfl ?_
  refine x_aload_n 3 dX16_init_15 rfl rfl ?_
  refine xpF_X16_17 dX16_init_16 fun h3 => ?_
  exact x_vret rfl dX16_init_19
theorem SF_X16_init (l : Launch) {d : Nat} (hdd : 1 ≤ d) (x0 : Int) (x1 : Int) (x2 : Int) (x3 : Int) (h : XH) (hok : okH h) (ho : okXs (xn h) [(2, x0), (0, x1), (2, x2), (2, x3)]) (fin : XR) (hf : F_X16_init x0 x1 x2 x3 h = some fin) : xSpec l yX16_init cX16_init 4 none d 2 [(2, x0), (0, x1), (2, x2), (2, x3)] h fin := x_enter (lv := [(0, (2, x0)), (1, (0, x1)), (2, (2, x2)), (3, (2, x3))]) (by decide) rfl rfl (Nat.le_of_ble_eq_true rfl) rfl (fun Z _ => WF_X16_init hdd x0 x1 x2 x3 h) hok ho fin hf
noncomputable def F_X12_init (x0 : Int) (h : XH) : Option XR := pz x0 <| some (0, h)
theorem WF_X12_init {d : Nat} {Z : XZ XR} (hdd : 1 ≤ d) : ∀ x0 h, XG xfh (xQ 2) RX12 "<init>" cX12_init 1 none d Z 0 [(0, (2, x0))] [] h (F_X12_init x0 h) := by
  intro x0 h
  unfold F_X12_init
  refine x_aload_n 0 dX12_init_0 rfl rfl ?_
  refine x_objinit q825 q176 q177 (by omega) (Nat.le_of_ble_eq_true rfl) dX12_init_1 ?_
  exact x_vret rfl dX12_init_4
theorem SF_X12_init (l : Launch) {d : Nat} (hdd : 1 ≤ d) (x0 : Int) (h : XH) (hok : okH h) (ho : okXs (xn h) [(2, x0)]) (fin : XR) (hf : F_X12_init x0 h = some fin) : xSpec l yX12_init cX12_init 1 none d 2 [(2, x0)] h fin := x_enter (lv := [(0, (2, x0))]) (by decide) rfl rfl (Nat.le_of_ble_eq_true rfl) rfl (fun Z _ => WF_X12_init hdd x0 h) hok ho fin hf
theorem cl_X13_1 {ρ : Type} {fh : ρ → XH} {QQ : XZ ρ → State → Prop} {mn : String} {cc : ByteArray} {nL : Nat} {ret : Option FieldType} {d : Nat} {Z : XZ ρ} {pc : Nat} {lv : List (Nat × AV)} {st : List AV} {h : XH} {g : Int → XH → Option ρ} {b : Int} (hdd : 2 ≤ d) (hcat : (st.map fun v => if v.1 = 1 then 2 else 1).sum ≤ 8) (hdg : decode cc pc = .ok (.invokespecial 1, 3)) (kk : ∀ r h1, XG fh QQ RX13 mn cc nL ret d Z (pc + 3) lv st h1 (g r h1)) : XG fh QQ RX13 mn cc nL ret d Z pc lv ((2, b) :: st) h (pz b (mb (F_X12_init b h) g)) :=
  x_callJv [] 0 (WF_X12_init (Z := (Z.1, Z.2.1, ((0, h), h))) (Nat.le_refl 1) b h).1 (fun hok ho fin hf => SF_X12_init (yL Z) (Nat.le_refl 1) b h hok ho fin hf) (lw_meth q824) q150 q822 q823 rfl ⟨by decide +kernel, by decide +kernel, by decide +kernel⟩ rfl (by omega) (by decide) rfl hcat hdg kk
theorem xpF_X13_13 {ρ : Type} {fh : ρ → XH} {QQ : XZ ρ → State → Prop} {cc : ByteArray} {nL : Nat} {ret : Option FieldType} {d : Nat} {Z : XZ ρ} {pc : Nat} {lv : List (Nat × AV)} {st : List AV} {h : XH} {f : XH → Option ρ} {a x : Int} (hd : decode cc pc = .ok (.putfield 13, 3)) (kk : ∀ h1, XG fh QQ RX13 "<init>" cc nL ret d Z (pc + 3) lv st h1 (f h1)) : XG fh QQ RX13 "<init>" cc nL ret d Z pc lv ((0, x) :: (2, a) :: st) h (ob h a 11 (nm (hset h a 2 x) f)) := x_putF (C := RX13) (ref := RX13) 11 2 rfl in_X13 tyX13_ok nmX13 (by decide) rfl (by decide) (Or.inl rfl) rfl rfl rfl (xfit_X13 2 (by decide)) 0 rfl q828 hd kk
theorem xpF_X13_17 {ρ : Type} {fh : ρ → XH} {QQ : XZ ρ → State → Prop} {cc : ByteArray} {nL : Nat} {ret : Option FieldType} {d : Nat} {Z : XZ ρ} {pc : Nat} {lv : List (Nat × AV)} {st : List AV} {h : XH} {f : XH → Option ρ} {a x : Int} (hd : decode cc pc = .ok (.putfield 17, 3)) (kk : ∀ h1, XG fh QQ RX13 "<init>" cc nL ret d Z (pc + 3) lv st h1 (f h1)) : XG fh QQ RX13 "<init>" cc nL ret d Z pc lv ((2, x) :: (2, a) :: st) h (ob h a 11 (nm (hset h a 1 x) f)) := x_putF (C := RX13) (ref := RX13) 11 1 rfl in_X13 tyX13_ok nmX13 (by decide) rfl (by decide) (Or.inl rfl) rfl rfl rfl (xfit_X13 1 (by decide)) 2 rfl q827 hd kk
theorem xpF_X13_7 {ρ : Type} {fh : ρ → XH} {QQ : XZ ρ → State → Prop} {cc : ByteArray} {nL : Nat} {ret : Option FieldType} {d : Nat} {Z : XZ ρ} {pc : Nat} {lv : List (Nat × AV)} {st : List AV} {h : XH} {f : XH → Option ρ} {a x : Int} (hd : decode cc pc = .ok (.putfield 7, 3)) (kk : ∀ h1, XG fh QQ RX13 "<init>" cc nL ret d Z (pc + 3) lv st h1 (f h1)) : XG fh QQ RX13 "<init>" cc nL ret d Z pc lv ((2, x) :: (2, a) :: st) h (ob h a 11 (nm (hset h a 0 x) f)) := x_putF (C := RX13) (ref := RX13) 11 0 rfl in_X13 tyX13_ok nmX13 (by decide) rfl (by decide) (Or.inl rfl) rfl rfl rfl (xfit_X13 0 (by decide)) 2 rfl q826 hd kk
noncomputable def F_X13_init (x0 : Int) (x1 : Int) (x2 : Int) (x3 : Int) (h : XH) : Option XR := pz x0 <| mb (F_X12_init x0 h) fun r1 h2 => ob h2 x0 11 <| nm (hset h2 x0 0 x1) fun h3 => ob h3 x0 11 <| nm (hset h3 x0 2 x2) fun h4 => ob h4 x0 11 <| nm (hset h4 x0 1 x3) fun h5 => some (0, h5)
theorem WF_X13_init {d : Nat} {Z : XZ XR} (hdd : 2 ≤ d) : ∀ x0 x1 x2 x3 h, XG xfh (xQ 2) RX13 "<init>" cX13_init 4 none d Z 0 [(0, (2, x0)), (1, (2, x1)), (2, (0, x2)), (3, (2, x3))] [] h (F_X13_init x0 x1 x2 x3 h) := by
  intro x0 x1 x2 x3 h
  unfold F_X13_init
  refine x_aload_n 0 dX13_init_0 rfl rfl ?_
  refine cl_X13_1 (by omega) (Nat.le_of_ble_eq_true rfl) dX13_init_1 fun r1 h2 => ?_
  refine x_aload_n 0 dX13_init_4 rfl rfl ?_
  refine x_aload_n 1 dX13_init_5 rfl rfl ?_
  refine xpF_X13_7 dX13_init_6 fun h3 => ?_
  refine x_aload_n 0 dX13_init_9 rfl rfl ?_
  refine x_iload_n 2 dX13_init_10 rfl rfl ?_
  refine xpF_X13_13 dX13_init_11 fun h4 => ?_
  refine x_aload_n 0 dX13_init_14 rfl rfl ?_
  refine x_aload_n 3 dX13_init_15 rfl rfl ?_
  refine xpF_X13_17 dX13_init_16 fun h5 => ?_
  exact x_vret rfl dX13_init_19
theorem SF_X13_init (l : Launch) {d : Nat} (hdd : 2 ≤ d) (x0 : Int) (x1 : Int) (x2 : Int) (x3 : Int) (h : XH) (hok : okH h) (ho : okXs (xn h) [(2, x0), (2, x1), (0, x2), (2, x3)]) (fin : XR) (hf : F_X13_init x0 x1 x2 x3 h = some fin) : xSpec l yX13_init cX13_init 4 none d 2 [(2, x0), (2, x1), (0, x2), (2, x3)] h fin := x_enter (lv := [(0, (2, x0)), (1, (2, x1)), (2, (0, x2)), (3, (2, x3))]) (by decide) rfl rfl (Nat.le_of_ble_eq_true rfl) rfl (fun Z _ => WF_X13_init hdd x0 x1 x2 x3 h) hok ho fin hf
theorem cl_X11_1 {ρ : Type} {fh : ρ → XH} {QQ : XZ ρ → State → Prop} {mn : String} {cc : ByteArray} {nL : Nat} {ret : Option FieldType} {d : Nat} {Z : XZ ρ} {pc : Nat} {lv : List (Nat × AV)} {st : List AV} {h : XH} {g : Int → XH → Option ρ} {b : Int} (hdd : 2 ≤ d) (hcat : (st.map fun v => if v.1 = 1 then 2 else 1).sum ≤ 8) (hdg : decode cc pc = .ok (.invokespecial 1, 3)) (kk : ∀ r h1, XG fh QQ RX11 mn cc nL ret d Z (pc + 3) lv st h1 (g r h1)) : XG fh QQ RX11 mn cc nL ret d Z pc lv ((2, b) :: st) h (pz b (mb (F_X8_init b h) g)) :=
  x_callJv [] 0 (WF_X8_init (Z := (Z.1, Z.2.1, ((0, h), h))) (Nat.le_refl 1) b h).1 (fun hok ho fin hf => SF_X8_init (yL Z) (Nat.le_refl 1) b h hok ho fin hf) (lw_meth q762) q146 q785 q761 rfl ⟨by decide +kernel, by decide +kernel, by decide +kernel⟩ rfl (by omega) (by decide) rfl hcat hdg kk
theorem xpF_X11_13 {ρ : Type} {fh : ρ → XH} {QQ : XZ ρ → State → Prop} {cc : ByteArray} {nL : Nat} {ret : Option FieldType} {d : Nat} {Z : XZ ρ} {pc : Nat} {lv : List (Nat × AV)} {st : List AV} {h : XH} {f : XH → Option ρ} {a x : Int} (hd : decode cc pc = .ok (.putfield 13, 3)) (kk : ∀ h1, XG fh QQ RX11 "<init>" cc nL ret d Z (pc + 3) lv st h1 (f h1)) : XG fh QQ RX11 "<init>" cc nL ret d Z pc lv ((0, x) :: (2, a) :: st) h (ob h a 10 (nm (hset h a 2 x) f)) := x_putF (C := RX11) (ref := RX11) 10 2 rfl in_X11 tyX11_ok nmX11 (by decide) rfl (by decide) (Or.inl rfl) rfl rfl rfl (xfit_X11 2 (by decide)) 0 rfl q788 hd kk
theorem xpF_X11_17 {ρ : Type} {fh : ρ → XH} {QQ : XZ ρ → State → Prop} {cc : ByteArray} {nL : Nat} {ret : Option FieldType} {d : Nat} {Z : XZ ρ} {pc : Nat} {lv : List (Nat × AV)} {st : List AV} {h : XH} {f : XH → Option ρ} {a x : Int} (hd : decode cc pc = .ok (.putfield 17, 3)) (kk : ∀ h1, XG fh QQ RX11 "<init>" cc nL ret d Z (pc + 3) lv st h1 (f h1)) : XG fh QQ RX11 "<init>" cc nL ret d Z pc lv ((2, x) :: (2, a) :: st) h (ob h a 10 (nm (hset h a 1 x) f)) := x_putF (C := RX11) (ref := RX11) 10 1 rfl in_X11 tyX11_ok nmX11 (by decide) rfl (by decide) (Or.inl rfl) rfl rfl rfl (xfit_X11 1 (by decide)) 2 rfl q787 hd kk
theorem xpF_X11_7 {ρ : Type} {fh : ρ → XH} {QQ : XZ ρ → State → Prop} {cc : ByteArray} {nL : Nat} {ret : Option FieldType} {d : Nat} {Z : XZ ρ} {pc : Nat} {lv : List (Nat × AV)} {st : List AV} {h : XH} {f : XH → Option ρ} {a x : Int} (hd : decode cc pc = .ok (.putfield 7, 3)) (kk : ∀ h1, XG fh QQ RX11 "<init>" cc nL ret d Z (pc + 3) lv st h1 (f h1)) : XG fh QQ RX11 "<init>" cc nL ret d Z pc lv ((2, x) :: (2, a) :: st) h (ob h a 10 (nm (hset h a 0 x) f)) := x_putF (C := RX11) (ref := RX11) 10 0 rfl in_X11 tyX11_ok nmX11 (by decide) rfl (by decide) (Or.inl rfl) rfl rfl rfl (xfit_X11 0 (by decide)) 2 rfl q786 hd kk
noncomputable def F_X11_init (x0 : Int) (x1 : Int) (x2 : Int) (x3 : Int) (h : XH) : Option XR := pz x0 <| mb (F_X8_init x0 h) fun r1 h2 => ob h2 x0 10 <| nm (hset h2 x0 0 x1) fun h3 => ob h3 x0 10 <| nm (hset h3 x0 2 x2) fun h4 => ob h4 x0 10 <| nm (hset h4 x0 1 x3) fun h5 => some (0, h5)
theorem WF_X11_init {d : Nat} {Z : XZ XR} (hdd : 2 ≤ d) : ∀ x0 x1 x2 x3 h, XG xfh (xQ 2) RX11 "<init>" cX11_init 4 none d Z 0 [(0, (2, x0)), (1, (2, x1)), (2, (0, x2)), (3, (2, x3))] [] h (F_X11_init x0 x1 x2 x3 h) := by
  intro x0 x1 x2 x3 h
  unfold F_X11_init
  refine x_aload_n 0 dX11_init_0 rfl rfl ?_
  refine cl_X11_1 (by omega) (Nat.le_of_ble_eq_true rfl) dX11_init_1 fun r1 h2 => ?_
  refine x_aload_n 0 dX11_init_4 rfl rfl ?_
  refine x_aload_n 1 dX11_init_5 rfl rfl ?_
  refine xpF_X11_7 dX11_init_6 fun h3 => ?_
  refine x_aload_n 0 dX11_init_9 rfl rfl ?_
  refine x_iload_n 2 dX11_init_10 rfl rfl ?_
  refine xpF_X11_13 dX11_init_11 fun h4 => ?_
  refine x_aload_n 0 dX11_init_14 rfl rfl ?_
  refine x_aload_n 3 dX11_init_15 rfl rfl ?_
  refine xpF_X11_17 dX11_init_16 fun h5 => ?_
  exact x_vret rfl dX11_init_19
theorem SF_X11_init (l : Launch) {d : Nat} (hdd : 2 ≤ d) (x0 : Int) (x1 : Int) (x2 : Int) (x3 : Int) (h : XH) (hok : okH h) (ho : okXs (xn h) [(2, x0), (2, x1), (0, x2), (2, x3)]) (fin : XR) (hf : F_X11_init x0 x1 x2 x3 h = some fin) : xSpec l yX11_init cX11_init 4 none d 2 [(2, x0), (2, x1), (0, x2), (2, x3)] h fin := x_enter (lv := [(0, (2, x0)), (1, (2, x1)), (2, (0, x2)), (3, (2, x3))]) (by decide) rfl rfl (Nat.le_of_ble_eq_true rfl) rfl (fun Z _ => WF_X11_init hdd x0 x1 x2 x3 h) hok ho fin hf
theorem cl_X14_1 {ρ : Type} {fh : ρ → XH} {QQ : XZ ρ → State → Prop} {mn : String} {cc : ByteArray} {nL : Nat} {ret : Option FieldType} {d : Nat} {Z : XZ ρ} {pc : Nat} {lv : List (Nat × AV)} {st : List AV} {h : XH} {g : Int → XH → Option ρ} {b : Int} (hdd : 2 ≤ d) (hcat : (st.map fun v => if v.1 = 1 then 2 else 1).sum ≤ 8) (hdg : decode cc pc = .ok (.invokespecial 1, 3)) (kk : ∀ r h1, XG fh QQ RX14 mn cc nL ret d Z (pc + 3) lv st h1 (g r h1)) : XG fh QQ RX14 mn cc nL ret d Z pc lv ((2, b) :: st) h (pz b (mb (F_X12_init b h) g)) :=
  x_callJv [] 0 (WF_X12_init (Z := (Z.1, Z.2.1, ((0, h), h))) (Nat.le_refl 1) b h).1 (fun hok ho fin hf => SF_X12_init (yL Z) (Nat.le_refl 1) b h hok ho fin hf) (lw_meth q824) q150 q841 q823 rfl ⟨by decide +kernel, by decide +kernel, by decide +kernel⟩ rfl (by omega) (by decide) rfl hcat hdg kk
theorem xpF_X14_7 {ρ : Type} {fh : ρ → XH} {QQ : XZ ρ → State → Prop} {cc : ByteArray} {nL : Nat} {ret : Option FieldType} {d : Nat} {Z : XZ ρ} {pc : Nat} {lv : List (Nat × AV)} {st : List AV} {h : XH} {f : XH → Option ρ} {a x : Int} (hd : decode cc pc = .ok (.putfield 7, 3)) (kk : ∀ h1, XG fh QQ RX14 "<init>" cc nL ret d Z (pc + 3) lv st h1 (f h1)) : XG fh QQ RX14 "<init>" cc nL ret d Z pc lv ((2, x) :: (2, a) :: st) h (ob h a 12 (nm (hset h a 0 x) f)) := x_putF (C := RX14) (ref := RX14) 12 0 rfl in_X14 tyX14_ok nmX14 (by decide) rfl (by decide) (Or.inl rfl) rfl rfl rfl (xfit_X14 0 (by decide)) 2 rfl q842 hd kk
noncomputable def F_X14_init (x0 : Int) (x1 : Int) (h : XH) : Option XR := pz x0 <| mb (F_X12_init x0 h) fun r1 h2 => ob h2 x0 12 <| nm (hset h2 x0 0 x1) fun h3 => some (0, h3)
theorem WF_X14_init {d : Nat} {Z : XZ XR} (hdd : 2 ≤ d) : ∀ x0 x1 h, XG xfh (xQ 2) RX14 "<init>" cX14_init 2 none d Z 0 [(0, (2, x0)), (1, (2, x1))] [] h (F_X14_init x0 x1 h) := by
  intro x0 x1 h
  unfold F_X14_init
  refine x_aload_n 0 dX14_init_0 rfl rfl ?_
  refine cl_X14_1 (by omega) (Nat.le_of_ble_eq_true rfl) dX14_init_1 fun r1 h2 => ?_
  refine x_aload_n 0 dX14_init_4 rfl rfl ?_
  refine x_aload_n 1 dX14_init_5 rfl rfl ?_
  refine xpF_X14_7 dX14_init_6 fun h3 => ?_
  exact x_vret rfl dX14_init_9
theorem SF_X14_init (l : Launch) {d : Nat} (hdd : 2 ≤ d) (x0 : Int) (x1 : Int) (h : XH) (hok : okH h) (ho : okXs (xn h) [(2, x0), (2, x1)]) (fin : XR) (hf : F_X14_init x0 x1 h = some fin) : xSpec l yX14_init cX14_init 2 none d 2 [(2, x0), (2, x1)] h fin := x_enter (lv := [(0, (2, x0)), (1, (2, x1))]) (by decide) rfl rfl (Nat.le_of_ble_eq_true rfl) rfl (fun Z _ => WF_X14_init hdd x0 x1 h) hok ho fin hf
theorem cl_X10_1 {ρ : Type} {fh : ρ → XH} {QQ : XZ ρ → State → Prop} {mn : String} {cc : ByteArray} {nL : Nat} {ret : Option FieldType} {d : Nat} {Z : XZ ρ} {pc : Nat} {lv : List (Nat × AV)} {st : List AV} {h : XH} {g : Int → XH → Option ρ} {b : Int} (hdd : 2 ≤ d) (hcat : (st.map fun v => if v.1 = 1 then 2 else 1).sum ≤ 8) (hdg : decode cc pc = .ok (.invokespecial 1, 3)) (kk : ∀ r h1, XG fh QQ RX10 mn cc nL ret d Z (pc + 3) lv st h1 (g r h1)) : XG fh QQ RX10 mn cc nL ret d Z pc lv ((2, b) :: st) h (pz b (mb (F_X8_init b h) g)) :=
  x_callJv [] 0 (WF_X8_init (Z := (Z.1, Z.2.1, ((0, h), h))) (Nat.le_refl 1) b h).1 (fun hok ho fin hf => SF_X8_init (yL Z) (Nat.le_refl 1) b h hok ho fin hf) (lw_meth q762) q146 q773 q761 rfl ⟨by decide +kernel, by decide +kernel, by decide +kernel⟩ rfl (by omega) (by decide) rfl hcat hdg kk
theorem xpF_X10_7 {ρ : Type} {fh : ρ → XH} {QQ : XZ ρ → State → Prop} {cc : ByteArray} {nL : Nat} {ret : Option FieldType} {d : Nat} {Z : XZ ρ} {pc : Nat} {lv : List (Nat × AV)} {st : List AV} {h : XH} {f : XH → Option ρ} {a x : Int} (hd : decode cc pc = .ok (.putfield 7, 3)) (kk : ∀ h1, XG fh QQ RX10 "<init>" cc nL ret d Z (pc + 3) lv st h1 (f h1)) : XG fh QQ RX10 "<init>" cc nL ret d Z pc lv ((0, x) :: (2, a) :: st) h (ob h a 9 (nm (hset h a 0 x) f)) := x_putF (C := RX10) (ref := RX10) 9 0 rfl in_X10 tyX10_ok nmX10 (by decide) rfl (by decide) (Or.inl rfl) rfl rfl rfl (xfit_X10 0 (by decide)) 0 rfl q774 hd kk
noncomputable def F_X10_init (x0 : Int) (x1 : Int) (h : XH) : Option XR := pz x0 <| mb (F_X8_init x0 h) fun r1 h2 => ob h2 x0 9 <| nm (hset h2 x0 0 x1) fun h3 => some (0, h3)
theorem WF_X10_init {d : Nat} {Z : XZ XR} (hdd : 2 ≤ d) : ∀ x0 x1 h, XG xfh (xQ 2) RX10 "<init>" cX10_init 2 none d Z 0 [(0, (2, x0)), (1, (0, x1))] [] h (F_X10_init x0 x1 h) := by
  intro x0 x1 h
  unfold F_X10_init
  refine x_aload_n 0 dX10_init_0 rfl rfl ?_
  refine cl_X10_1 (by omega) (Nat.le_of_ble_eq_true rfl) dX10_init_1 fun r1 h2 => ?_
  refine x_aload_n 0 dX10_init_4 rfl rfl ?_
  refine x_iload_n 1 dX10_init_5 rfl rfl ?_
  refine xpF_X10_7 dX10_init_6 fun h3 => ?_
  exact x_vret rfl dX10_init_9
theorem SF_X10_init (l : Launch) {d : Nat} (hdd : 2 ≤ d) (x0 : Int) (x1 : Int) (h : XH) (hok : okH h) (ho : okXs (xn h) [(2, x0), (0, x1)]) (fin : XR) (hf : F_X10_init x0 x1 h = some fin) : xSpec l yX10_init cX10_init 2 none d 2 [(2, x0), (0, x1)] h fin := x_enter (lv := [(0, (2, x0)), (1, (0, x1))]) (by decide) rfl rfl (Nat.le_of_ble_eq_true rfl) rfl (fun Z _ => WF_X10_init hdd x0 x1 h) hok ho fin hf
theorem xpF_X6_17 {ρ : Type} {fh : ρ → XH} {QQ : XZ ρ → State → Prop} {cc : ByteArray} {nL : Nat} {ret : Option FieldType} {d : Nat} {Z : XZ ρ} {pc : Nat} {lv : List (Nat × AV)} {st : List AV} {h : XH} {f : XH → Option ρ} {a x : Int} (hd : decode cc pc = .ok (.putfield 17, 3)) (kk : ∀ h1, XG fh QQ RX6 "<init>" cc nL ret d Z (pc + 3) lv st h1 (f h1)) : XG fh QQ RX6 "<init>" cc nL ret d Z pc lv ((2, x) :: (2, a) :: st) h (ob h a 6 (nm (hset h a 5 x) f)) := x_putF (C := RX6) (ref := RX6) 6 5 rfl in_X6 tyX6_ok nmX6 (by decide) rfl (by decide) (Or.inl rfl) rfl rfl rfl (xfit_X6 5 (by decide)) 2 rfl q557 hd kk
theorem xpF_X6_3 {ρ : Type} {fh : ρ → XH} {QQ : XZ ρ → State → Prop} {cc : ByteArray} {nL : Nat} {ret : Option FieldType} {d : Nat} {Z : XZ ρ} {pc : Nat} {lv : List (Nat × AV)} {st : List AV} {h : XH} {f : XH → Option ρ} {a x : Int} (hd : decode cc pc = .ok (.putfield 3, 3)) (kk : ∀ h1, XG fh QQ RX6 "<init>" cc nL ret d Z (pc + 3) lv st h1 (f h1)) : XG fh QQ RX6 "<init>" cc nL ret d Z pc lv ((2, x) :: (2, a) :: st) h (ob h a 6 (nm (hset h a 8 x) f)) := x_putF (C := RX6) (ref := RX6) 6 8 rfl in_X6 tyX6_ok nmX6 (by decide) rfl (by decide) (Or.inl rfl) rfl rfl rfl (xfit_X6 8 (by decide)) 2 rfl q560 hd kk
theorem xpF_X6_37 {ρ : Type} {fh : ρ → XH} {QQ : XZ ρ → State → Prop} {cc : ByteArray} {nL : Nat} {ret : Option FieldType} {d : Nat} {Z : XZ ρ} {pc : Nat} {lv : List (Nat × AV)} {st : List AV} {h : XH} {f : XH → Option ρ} {a x : Int} (hd : decode cc pc = .ok (.putfield 37, 3)) (kk : ∀ h1, XG fh QQ RX6 "<init>" cc nL ret d Z (pc + 3) lv st h1 (f h1)) : XG fh QQ RX6 "<init>" cc nL ret d Z pc lv ((2, x) :: (2, a) :: st) h (ob h a 6 (nm (hset h a 6 x) f)) := x_putF (C := RX6) (ref := RX6) 6 6 rfl in_X6 tyX6_ok nmX6 (by decide) rfl (by decide) (Or.inl rfl) rfl rfl rfl (xfit_X6 6 (by decide)) 2 rfl q558 hd kk
theorem xpF_X6_47 {ρ : Type} {fh : ρ → XH} {QQ : XZ ρ → State → Prop} {cc : ByteArray} {nL : Nat} {ret : Option FieldType} {d : Nat} {Z : XZ ρ} {pc : Nat} {lv : List (Nat × AV)} {st : List AV} {h : XH} {f : XH → Option ρ} {a x : Int} (hd : decode cc pc = .ok (.putfield 47, 3)) (kk : ∀ h1, XG fh QQ RX6 "<init>" cc nL ret d Z (pc + 3) lv st h1 (f h1)) : XG fh QQ RX6 "<init>" cc nL ret d Z pc lv ((2, x) :: (2, a) :: st) h (ob h a 6 (nm (hset h a 7 x) f)) := x_putF (C := RX6) (ref := RX6) 6 7 rfl in_X6 tyX6_ok nmX6 (by decide) rfl (by decide) (Or.inl rfl) rfl rfl rfl (xfit_X6 7 (by decide)) 2 rfl q559 hd kk
noncomputable def F_X6_init (x0 : Int) (x1 : Int) (h : XH) : Option XR := ob h x0 6 <| nm (hset h x0 8 x1) fun h1 => pz x0 <| na h1 8 50 fun r2 h3 => ob h3 x0 6 <| nm (hset h3 x0 5 r2) fun h4 => na h4 10 7 fun r5 h6 => ai h6 r5 10 0 <| sgs (-10) <| nm (hset h6 r5 0 (-10)) fun h7 => ai h7 r5 10 1 <| sgs (-11) <| nm (hset h7 r5 1 (-11)) fun h8 => ai h8 r5 10 2 <| sgs (-12) <| nm (hset h8 r5 2 (-12)) fun h9 => ai h9 r5 10 3 <| sgs (-13) <| nm (hset h9 r5 3 (-13)) fun h10 => ai h10 r5 10 4 <| sgs (-14) <| nm (hset h10 r5 4 (-14)) fun h11 => ai h11 r5 10 5 <| sgs (-15) <| nm (hset h11 r5 5 (-15)) fun h12 => ai h12 r5 10 6 <| sgs (-16) <| nm (hset h12 r5 6 (-16)) fun h13 => ob h13 x0 6 <| nm (hset h13 x0 6 r5) fun h14 => na h14 10 3 fun r15 h16 => ai h16 r15 10 0 <| sgs (-17) <| nm (hset h16 r15 0 (-17)) fun h17 => ai h17 r15 10 1 <| sgs (-18) <| nm (hset h17 r15 1 (-18)) fun h18 => ai h18 r15 10 2 <| sgs (-19) <| nm (hset h18 r15 2 (-19)) fun h19 => ob h19 x0 6 <| nm (hset h19 x0 7 r15) fun h20 => some (0, h20)
theorem WF_X6_init {d : Nat} {Z : XZ XR} (hdd : 1 ≤ d) : ∀ x0 x1 h, XG xfh (xQ 2) RX6 "<init>" cX6_init 2 none d Z 0 [(0, (2, x0)), (1, (2, x1))] [] h (F_X6_init x0 x1 h) := by
  intro x0 x1 h
  unfold F_X6_init
  refine x_aload_n 0 dX6_init_0 rfl rfl ?_
  refine x_aload_n 1 dX6_init_1 rfl rfl ?_
  refine xpF_X6_3 dX6_init_2 fun h1 => ?_
  refine x_aload_n 0 dX6_init_5 rfl rfl ?_
  refine x_objinit q537 q176 q177 (by omega) (Nat.le_of_ble_eq_true rfl) dX6_init_6 ?_
  refine x_aload_n 0 dX6_init_9 rfl rfl ?_
  refine x_bp dX6_init_10 (by decide) (by decide) ?_
  refine x_newq 8 (by decide) (by decide) rfl q538 q539 dX6_init_12 fun r2 h3 => ?_
  refine xpF_X6_17 dX6_init_15 fun h4 => ?_
  refine x_aload_n 0 dX6_init_18 rfl rfl ?_
  refine x_bp dX6_init_19 (by decide) (by decide) ?_
  refine x_newq 10 (by decide) (by decide) rfl q540 q541 dX6_init_21 fun r5 h6 => ?_
  refine x_dup dX6_init_24 rfl ?_
  refine x_ic dX6_init_25 (by decide) (by decide) ?_
  refine x_ldcS (tx := "king") (-10) (by decide) rfl dX6_init_26 ?_
  refine x_aastS dX6_init_28 fun h7 => ?_
  refine x_dup dX6_init_29 rfl ?_
  refine x_ic dX6_init_30 (by decide) (by decide) ?_
  refine x_ldcS (tx := "pages") (-11) (by decide) rfl dX6_init_31 ?_
  refine x_aastS dX6_init_33 fun h8 => ?_
  refine x_dup dX6_init_34 rfl ?_
  refine x_ic dX6_init_35 (by decide) (by decide) ?_
  refine x_ldcS (tx := "level") (-12) (by decide) rfl dX6_init_36 ?_
  refine x_aastS dX6_init_38 fun h9 => ?_
  refine x_dup dX6_init_39 rfl ?_
  refine x_ic dX6_init_40 (by decide) (by decide) ?_
  refine x_ldcS (tx := "helped") (-13) (by decide) rfl dX6_init_41 ?_
  refine x_aastS dX6_init_43 fun h10 => ?_
  refine x_dup dX6_init_44 rfl ?_
  refine x_ic dX6_init_45 (by decide) (by decide) ?_
  refine x_ldcS (tx := "liked") (-14) (by decide) rfl dX6_init_46 ?_
  refine x_aastS dX6_init_48 fun h11 => ?_
  refine x_dup dX6_init_49 rfl ?_
  refine x_ic dX6_init_50 (by decide) (by decide) ?_
  refine x_ldcS (tx := "day") (-15) (by decide) rfl dX6_init_51 ?_
  refine x_aastS dX6_init_53 fun h12 => ?_
  refine x_dup dX6_init_54 rfl ?_
  refine x_bp dX6_init_55 (by decide) (by decide) ?_
  refine x_ldcS (tx := "question") (-16) (by decide) rfl dX6_init_57 ?_
  refine x_aastS dX6_init_59 fun h13 => ?_
  refine xpF_X6_37 dX6_init_60 fun h14 => ?_
  refine x_aload_n 0 dX6_init_63 rfl rfl ?_
  refine x_ic dX6_init_64 (by decide) (by decide) ?_
  refine x_newq 10 (by decide) (by decide) rfl q540 q541 dX6_init_65 fun r15 h16 => ?_
  refine x_dup dX6_init_68 rfl ?_
  refine x_ic dX6_init_69 (by decide) (by decide) ?_
  refine x_ldcS (tx := "hours") (-17) (by decide) rfl dX6_init_70 ?_
  refine x_aastS dX6_init_72 fun h17 => ?_
  refine x_dup dX6_init_73 rfl ?_
  refine x_ic dX6_init_74 (by decide) (by decide) ?_
  refine x_ldcS (tx := "keeps") (-18) (by decide) rfl dX6_init_75 ?_
  refine x_aastS dX6_init_77 fun h18 => ?_
  refine x_dup dX6_init_78 rfl ?_
  refine x_ic dX6_init_79 (by decide) (by decide) ?_
  refine x_ldcS (tx := "chance") (-19) (by decide) rfl dX6_init_80 ?_
  refine x_aastS dX6_init_82 fun h19 => ?_
  refine xpF_X6_47 dX6_init_83 fun h20 => ?_
  exact x_vret rfl dX6_init_86
theorem SF_X6_init (l : Launch) {d : Nat} (hdd : 1 ≤ d) (x0 : Int) (x1 : Int) (h : XH) (hok : okH h) (ho : okXs (xn h) [(2, x0), (2, x1)]) (fin : XR) (hf : F_X6_init x0 x1 h = some fin) : xSpec l yX6_init cX6_init 2 none d 2 [(2, x0), (2, x1)] h fin := x_enter (lv := [(0, (2, x0)), (1, (2, x1))]) (by decide) rfl rfl (Nat.le_of_ble_eq_true rfl) rfl (fun Z _ => WF_X6_init hdd x0 x1 h) hok ho fin hf
theorem cl_X6_103 {ρ : Type} {fh : ρ → XH} {QQ : XZ ρ → State → Prop} {mn : String} {cc : ByteArray} {nL : Nat} {ret : Option FieldType} {d : Nat} {Z : XZ ρ} {pc : Nat} {lv : List (Nat × AV)} {st : List AV} {h : XH} {g : Int → XH → Option ρ} {a0 : Int} (hdd : 2 ≤ d) (hcat : (st.map fun v => if v.1 = 1 then 2 else 1).sum ≤ 8) (hdg : decode cc pc = .ok (.invokestatic 103, 3)) (kk : ∀ r h1, XG fh QQ RX6 mn cc nL ret d Z (pc + 3) lv ((0, r) :: st) h1 (g r h1)) : XG fh QQ RX6 mn cc nL ret d Z pc lv ((0, a0) :: st) h (mb (F_X0_isLetter a0 h) g) :=
  x_callQi [(0, a0)] 1 (WF_X0_isLetter (Z := (Z.1, Z.2.1, ((0, h), h))) (Nat.le_refl 1) a0 h).1 (fun hok ho fin hf => SF_X0_isLetter (yL Z) (Nat.le_refl 1) a0 h hok ho fin hf) q589 q124 q590 (lw_meth q591) ⟨by decide +kernel, by decide +kernel, by decide +kernel⟩ rfl (by omega) (by decide) rfl hcat hdg kk
theorem cl_X6_107 {ρ : Type} {fh : ρ → XH} {QQ : XZ ρ → State → Prop} {mn : String} {cc : ByteArray} {nL : Nat} {ret : Option FieldType} {d : Nat} {Z : XZ ρ} {pc : Nat} {lv : List (Nat × AV)} {st : List AV} {h : XH} {g : Int → XH → Option ρ} {a0 : Int} (hdd : 2 ≤ d) (hcat : (st.map fun v => if v.1 = 1 then 2 else 1).sum ≤ 8) (hdg : decode cc pc = .ok (.invokestatic 107, 3)) (kk : ∀ r h1, XG fh QQ RX6 mn cc nL ret d Z (pc + 3) lv ((0, r) :: st) h1 (g r h1)) : XG fh QQ RX6 mn cc nL ret d Z pc lv ((0, a0) :: st) h (mb (F_X0_isDigit a0 h) g) :=
  x_callQi [(0, a0)] 1 (WF_X0_isDigit (Z := (Z.1, Z.2.1, ((0, h), h))) (Nat.le_refl 1) a0 h).1 (fun hok ho fin hf => SF_X0_isDigit (yL Z) (Nat.le_refl 1) a0 h hok ho fin hf) q592 q124 q593 (lw_meth q594) ⟨by decide +kernel, by decide +kernel, by decide +kernel⟩ rfl (by omega) (by decide) rfl hcat hdg kk
theorem xg_X6_3 {ρ : Type} {fh : ρ → XH} {QQ : XZ ρ → State → Prop} {mn : String} {cc : ByteArray} {nL : Nat} {ret : Option FieldType} {d : Nat} {Z : XZ ρ} {pc : Nat} {lv : List (Nat × AV)} {st : List AV} {h : XH} {res : Option ρ} {a : Int} (hd : decode cc pc = .ok (.getfield 3, 3)) (kk : XG fh QQ RX6 mn cc nL ret d Z (pc + 3) lv ((2, xv h a 8) :: st) h res) : XG fh QQ RX6 mn cc nL ret d Z pc lv ((2, a) :: st) h (ob h a 6 res) := x_get (C := RX6) (ref := RX6) 6 8 rfl in_X6 (by decide) rfl (by decide) (Or.inl rfl) q560 hd kk
theorem xg_X6_52 {ρ : Type} {fh : ρ → XH} {QQ : XZ ρ → State → Prop} {mn : String} {cc : ByteArray} {nL : Nat} {ret : Option FieldType} {d : Nat} {Z : XZ ρ} {pc : Nat} {lv : List (Nat × AV)} {st : List AV} {h : XH} {res : Option ρ} {a : Int} (hd : decode cc pc = .ok (.getfield 52, 3)) (kk : XG fh QQ RX6 mn cc nL ret d Z (pc + 3) lv ((0, xv h a 1) :: st) h res) : XG fh QQ RX6 mn cc nL ret d Z pc lv ((2, a) :: st) h (ob h a 6 res) := x_get (C := RX6) (ref := RX6) 6 1 rfl in_X6 (by decide) rfl (by decide) (Or.inl rfl) q553 hd kk
theorem xp_X6_52 {ρ : Type} {fh : ρ → XH} {QQ : XZ ρ → State → Prop} {mn : String} {cc : ByteArray} {nL : Nat} {ret : Option FieldType} {d : Nat} {Z : XZ ρ} {pc : Nat} {lv : List (Nat × AV)} {st : List AV} {h : XH} {f : XH → Option ρ} {a x : Int} (hd : decode cc pc = .ok (.putfield 52, 3)) (kk : ∀ h1, XG fh QQ RX6 mn cc nL ret d Z (pc + 3) lv st h1 (f h1)) : XG fh QQ RX6 mn cc nL ret d Z pc lv ((0, x) :: (2, a) :: st) h (ob h a 6 (nm (hset h a 1 x) f)) := x_put (C := RX6) (ref := RX6) 6 1 rfl in_X6 tyX6_ok nmX6 (by decide) rfl (by decide) (Or.inl rfl) (by decide) (xfit_X6 1 (by decide)) 0 rfl q553 hd kk
theorem xg_X6_82 {ρ : Type} {fh : ρ → XH} {QQ : XZ ρ → State → Prop} {mn : String} {cc : ByteArray} {nL : Nat} {ret : Option FieldType} {d : Nat} {Z : XZ ρ} {pc : Nat} {lv : List (Nat × AV)} {st : List AV} {h : XH} {res : Option ρ} {a : Int} (hd : decode cc pc = .ok (.getfield 82, 3)) (kk : XG fh QQ RX6 mn cc nL ret d Z (pc + 3) lv ((0, xv h a 0) :: st) h res) : XG fh QQ RX6 mn cc nL ret d Z pc lv ((2, a) :: st) h (ob h a 6 res) := x_get (C := RX6) (ref := RX6) 6 0 rfl in_X6 (by decide) rfl (by decide) (Or.inl rfl) q552 hd kk
theorem xp_X6_82 {ρ : Type} {fh : ρ → XH} {QQ : XZ ρ → State → Prop} {mn : String} {cc : ByteArray} {nL : Nat} {ret : Option FieldType} {d : Nat} {Z : XZ ρ} {pc : Nat} {lv : List (Nat × AV)} {st : List AV} {h : XH} {f : XH → Option ρ} {a x : Int} (hd : decode cc pc = .ok (.putfield 82, 3)) (kk : ∀ h1, XG fh QQ RX6 mn cc nL ret d Z (pc + 3) lv st h1 (f h1)) : XG fh QQ RX6 mn cc nL ret d Z pc lv ((0, x) :: (2, a) :: st) h (ob h a 6 (nm (hset h a 0 x) f)) := x_put (C := RX6) (ref := RX6) 6 0 rfl in_X6 tyX6_ok nmX6 (by decide) rfl (by decide) (Or.inl rfl) (by decide) (xfit_X6 0 (by decide)) 0 rfl q552 hd kk
theorem xg_X6_85 {ρ : Type} {fh : ρ → XH} {QQ : XZ ρ → State → Prop} {mn : String} {cc : ByteArray} {nL : Nat} {ret : Option FieldType} {d : Nat} {Z : XZ ρ} {pc : Nat} {lv : List (Nat × AV)} {st : List AV} {h : XH} {res : Option ρ} {a : Int} (hd : decode cc pc = .ok (.getfield 85, 3)) (kk : XG fh QQ RX6 mn cc nL ret d Z (pc + 3) lv ((0, xv h a 12) :: st) h res) : XG fh QQ RX6 mn cc nL ret d Z pc lv ((2, a) :: st) h (ob h a 1 res) := x_getN (C := RX0) (ref := RX0) 1 12 rfl in_X0 (by decide) rfl (by decide) (Or.inl rfl) q308 hd kk
theorem xg_X6_99 {ρ : Type} {fh : ρ → XH} {QQ : XZ ρ → State → Prop} {mn : String} {cc : ByteArray} {nL : Nat} {ret : Option FieldType} {d : Nat} {Z : XZ ρ} {pc : Nat} {lv : List (Nat × AV)} {st : List AV} {h : XH} {res : Option ρ} {a : Int} (hd : decode cc pc = .ok (.getfield 99, 3)) (kk : XG fh QQ RX6 mn cc nL ret d Z (pc + 3) lv ((2, xv h a 11) :: st) h res) : XG fh QQ RX6 mn cc nL ret d Z pc lv ((2, a) :: st) h (ob h a 1 res) := x_getN (C := RX0) (ref := RX0) 1 11 rfl in_X0 (by decide) rfl (by decide) (Or.inl rfl) q306 hd kk
noncomputable def F_X6_next_175 (K117 : Int → Int → Int → XH → Option XR) (x0 : Int) (x1 : Int) (x2 : Int) (h : XH) : Option XR := ob h x0 6 <| ob h x0 6 <| nm (hset h x0 1 (w32 ((xv h x0 1) + 1))) fun h1 => K117 x0 x1 x2 h1
theorem WF_X6_next_175 {d : Nat} {Z : XZ XR} (hdd : 2 ≤ d) {K117 : Int → Int → Int → XH → Option XR} (hK117 : ∀ x0 x1 x2 h, XG xfh (xQ 2) RX6 "next" cX6_next 3 none d Z 117 [(0, (2, x0)), (1, (0, x1)), (2, (0, x2))] [] h (K117 x0 x1 x2 h)) : ∀ x0 x1 x2 h, XG xfh (xQ 2) RX6 "next" cX6_next 3 none d Z 175 [(0, (2, x0)), (1, (0, x1)), (2, (0, x2))] [] h (F_X6_next_175 K117 x0 x1 x2 h) := by
  intro x0 x1 x2 h
  unfold F_X6_next_175
  refine x_aload_n 0 dX6_next_175 rfl rfl ?_
  refine x_dup dX6_next_176 rfl ?_
  refine xg_X6_52 dX6_next_177 ?_
  refine x_ic dX6_next_180 (by decide) (by decide) ?_
  refine x_iadd dX6_next_181 ?_
  refine xp_X6_52 dX6_next_182 fun h1 => ?_
  refine x_goto 117 dX6_next_185 (by decide) ?_
  exact x_sub [0, 1, 2] rfl (hK117 x0 x1 x2 h1)
noncomputable def F_X6_next_153 (K117 : Int → Int → Int → XH → Option XR) (x0 : Int) (x1 : Int) (x2 : Int) (h : XH) : Option XR := if x2 = 0 then (some (0, h)) else (ob h x0 6 <| ob h (xv h x0 8) 1 <| ob h x0 6 <| ai h (xv h (xv h x0 8) 11) 2 (xv h x0 1) <| mb (F_X0_isDigit (xv h (xv h (xv h x0 8) 11) (xv h x0 1)) h) fun r1 h2 => if r1 = 0 then (some (0, h2)) else (F_X6_next_175 K117 x0 x1 x2 h2))
theorem WF_X6_next_153 {d : Nat} {Z : XZ XR} (hdd : 2 ≤ d) {K117 : Int → Int → Int → XH → Option XR} (hK117 : ∀ x0 x1 x2 h, XG xfh (xQ 2) RX6 "next" cX6_next 3 none d Z 117 [(0, (2, x0)), (1, (0, x1)), (2, (0, x2))] [] h (K117 x0 x1 x2 h)) : ∀ x0 x1 x2 h, XG xfh (xQ 2) RX6 "next" cX6_next 3 none d Z 153 [(0, (2, x0)), (1, (0, x1)), (2, (0, x2))] [] h (F_X6_next_153 K117 x0 x1 x2 h) := by
  intro x0 x1 x2 h
  unfold F_X6_next_153
  refine x_iload_n 2 dX6_next_153 rfl rfl ?_
  refine x_if_eq 188 dX6_next_154 (by decide) (fun _ => ?_) (fun _ => ?_)
  · exact x_vret rfl dX6_next_188
  · refine x_aload_n 0 dX6_next_157 rfl rfl ?_
    refine xg_X6_3 dX6_next_158 ?_
    refine xg_X6_99 dX6_next_161 ?_
    refine x_aload_n 0 dX6_next_164 rfl rfl ?_
    refine xg_X6_52 dX6_next_165 ?_
    refine x_bald dX6_next_168 ?_
    refine cl_X6_107 (by omega) (Nat.le_of_ble_eq_true rfl) dX6_next_169 fun r1 h2 => ?_
    refine x_if_eq 188 dX6_next_172 (by decide) (fun _ => ?_) (fun _ => ?_)
    · exact x_vret rfl dX6_next_188
    · exact x_sub [0, 1, 2] rfl (WF_X6_next_175 hdd hK117 x0 x1 x2 h2)
noncomputable def F_X6_next_117 : Nat → Int → Int → Int → XH → Option XR
  | 0, _, _, _, _ => none
  | n + 1, x0, x1, x2, h => ob h x0 6 <| ob h x0 6 <| ob h (xv h x0 8) 1 <| if xv h (xv h x0 8) 12 ≤ xv h x0 1 then (some (0, h)) else (if x1 = 0 then (F_X6_next_153 (F_X6_next_117 n) x0 x1 x2 h) else (ob h x0 6 <| ob h (xv h x0 8) 1 <| ob h x0 6 <| ai h (xv h (xv h x0 8) 11) 2 (xv h x0 1) <| mb (F_X0_isLetter (xv h (xv h (xv h x0 8) 11) (xv h x0 1)) h) fun r1 h2 => if r1 = 0 then (F_X6_next_153 (F_X6_next_117 n) x0 x1 x2 h2) else (F_X6_next_175 (F_X6_next_117 n) x0 x1 x2 h2)))
theorem WF_X6_next_117 {d : Nat} {Z : XZ XR} (hdd : 2 ≤ d) : ∀ n x0 x1 x2 h, XG xfh (xQ 2) RX6 "next" cX6_next 3 none d Z 117 [(0, (2, x0)), (1, (0, x1)), (2, (0, x2))] [] h (F_X6_next_117 n x0 x1 x2 h) := by
  intro n
  induction n with
  | zero => intro x0 x1 x2 h; exact x_none
  | succ n ih =>
    intro x0 x1 x2 h
    rw [F_X6_next_117]
    refine x_aload_n 0 dX6_next_117 rfl rfl ?_
    refine xg_X6_52 dX6_next_118 ?_
    refine x_aload_n 0 dX6_next_121 rfl rfl ?_
    refine xg_X6_3 dX6_next_122 ?_
    refine xg_X6_85 dX6_next_125 ?_
    refine x_icmp_ge 188 dX6_next_128 (by decide) (fun _ => ?_) (fun _ => ?_)
    · exact x_vret rfl dX6_next_188
    · refine x_iload_n 1 dX6_next_131 rfl rfl ?_
      refine x_if_eq 153 dX6_next_132 (by decide) (fun _ => ?_) (fun _ => ?_)
      · exact x_sub [0, 1, 2] rfl (WF_X6_next_153 hdd ih x0 x1 x2 h)
      · refine x_aload_n 0 dX6_next_135 rfl rfl ?_
        refine xg_X6_3 dX6_next_136 ?_
        refine xg_X6_99 dX6_next_139 ?_
        refine x_aload_n 0 dX6_next_142 rfl rfl ?_
        refine xg_X6_52 dX6_next_143 ?_
        refine x_bald dX6_next_146 ?_
        refine cl_X6_103 (by omega) (Nat.le_of_ble_eq_true rfl) dX6_next_147 fun r1 h2 => ?_
        refine x_if_ne 175 dX6_next_150 (by decide) (fun _ => ?_) (fun _ => ?_)
        · exact x_sub [0, 1, 2] rfl (WF_X6_next_175 hdd ih x0 x1 x2 h2)
        · exact x_sub [0, 1, 2] rfl (WF_X6_next_153 hdd ih x0 x1 x2 h2)
noncomputable def F_X6_next_52 (x0 : Int) (h : XH) : Option XR := ob h x0 6 <| ob h x0 6 <| nm (hset h x0 1 (xv h x0 0)) fun h1 => ob h1 x0 6 <| ob h1 x0 6 <| ob h1 (xv h1 x0 8) 1 <| if xv h1 x0 1 = xv h1 (xv h1 x0 8) 12 then (some (0, h1)) else (ob h1 x0 6 <| ob h1 (xv h1 x0 8) 1 <| ob h1 x0 6 <| ai h1 (xv h1 (xv h1 x0 8) 11) 2 (xv h1 x0 1) <| mb (F_X0_isLetter (xv h1 (xv h1 (xv h1 x0 8) 11) (xv h1 x0 1)) h1) fun r2 h3 => ob h3 x0 6 <| ob h3 (xv h3 x0 8) 1 <| ob h3 x0 6 <| ai h3 (xv h3 (xv h3 x0 8) 11) 2 (xv h3 x0 1) <| mb (F_X0_isDigit (xv h3 (xv h3 (xv h3 x0 8) 11) (xv h3 x0 1)) h3) fun r4 h5 => ob h5 x0 6 <| ob h5 x0 6 <| nm (hset h5 x0 1 (w32 ((xv h5 x0 1) + 1))) fun h6 => F_X6_next_117 FU x0 r2 r4 h6)
theorem WF_X6_next_52 {d : Nat} {Z : XZ XR} (hdd : 2 ≤ d) : ∀ x0 h, XG xfh (xQ 2) RX6 "next" cX6_next 3 none d Z 52 [(0, (2, x0))] [] h (F_X6_next_52 x0 h) := by
  intro x0 h
  unfold F_X6_next_52
  refine x_aload_n 0 dX6_next_52 rfl rfl ?_
  refine x_aload_n 0 dX6_next_53 rfl rfl ?_
  refine xg_X6_82 dX6_next_54 ?_
  refine xp_X6_52 dX6_next_57 fun h1 => ?_
  refine x_aload_n 0 dX6_next_60 rfl rfl ?_
  refine xg_X6_52 dX6_next_61 ?_
  refine x_aload_n 0 dX6_next_64 rfl rfl ?_
  refine xg_X6_3 dX6_next_65 ?_
  refine xg_X6_85 dX6_next_68 ?_
  refine x_icmp_ne 75 dX6_next_71 (by decide) (fun _ => ?_) (fun _ => ?_)
  · refine x_aload_n 0 dX6_next_75 rfl rfl ?_
    refine xg_X6_3 dX6_next_76 ?_
    refine xg_X6_99 dX6_next_79 ?_
    refine x_aload_n 0 dX6_next_82 rfl rfl ?_
    refine xg_X6_52 dX6_next_83 ?_
    refine x_bald dX6_next_86 ?_
    refine cl_X6_103 (by omega) (Nat.le_of_ble_eq_true rfl) dX6_next_87 fun r2 h3 => ?_
    refine x_istore_n (lv' := [(1, (0, r2)), (0, (2, x0))]) dX6_next_90 rfl (by decide) rfl ?_
    refine x_aload_n 1 dX6_next_91 rfl rfl ?_
    refine xg_X6_3 dX6_next_92 ?_
    refine xg_X6_99 dX6_next_95 ?_
    refine x_aload_n 1 dX6_next_98 rfl rfl ?_
    refine xg_X6_52 dX6_next_99 ?_
    refine x_bald dX6_next_102 ?_
    refine cl_X6_107 (by omega) (Nat.le_of_ble_eq_true rfl) dX6_next_103 fun r4 h5 => ?_
    refine x_istore_n (lv' := [(2, (0, r4)), (1, (0, r2)), (0, (2, x0))]) dX6_next_106 rfl (by decide) rfl ?_
    refine x_aload_n 2 dX6_next_107 rfl rfl ?_
    refine x_dup dX6_next_108 rfl ?_
    refine xg_X6_52 dX6_next_109 ?_
    refine x_ic dX6_next_112 (by decide) (by decide) ?_
    refine x_iadd dX6_next_113 ?_
    refine xp_X6_52 dX6_next_114 fun h6 => ?_
    exact x_sub [2, 1, 0] rfl (WF_X6_next_117 hdd FU x0 r2 r4 h6)
  · exact x_vret rfl dX6_next_74
noncomputable def F_X6_next_8 : Nat → Int → XH → Option XR
  | 0, _, _ => none
  | n + 1, x0, h => ob h x0 6 <| ob h x0 6 <| ob h (xv h x0 8) 1 <| if xv h (xv h x0 8) 12 ≤ xv h x0 0 then (F_X6_next_52 x0 h) else (ob h x0 6 <| ob h (xv h x0 8) 1 <| ob h x0 6 <| ai h (xv h (xv h x0 8) 11) 2 (xv h x0 0) <| if xv h (xv h (xv h x0 8) 11) (xv h x0 0) = 32 then (ob h x0 6 <| ob h x0 6 <| nm (hset h x0 0 (w32 ((xv h x0 0) + 1))) fun h1 => F_X6_next_8 n x0 h1) else (F_X6_next_52 x0 h))
theorem WF_X6_next_8 {d : Nat} {Z : XZ XR} (hdd : 2 ≤ d) : ∀ n x0 h, XG xfh (xQ 2) RX6 "next" cX6_next 3 none d Z 8 [(0, (2, x0))] [] h (F_X6_next_8 n x0 h) := by
  intro n
  induction n with
  | zero => intro x0 h; exact x_none
  | succ n ih =>
    intro x0 h
    rw [F_X6_next_8]
    refine x_aload_n 0 dX6_next_8 rfl rfl ?_
    refine xg_X6_82 dX6_next_9 ?_
    refine x_aload_n 0 dX6_next_12 rfl rfl ?_
    refine xg_X6_3 dX6_next_13 ?_
    refine xg_X6_85 dX6_next_16 ?_
    refine x_icmp_ge 52 dX6_next_19 (by decide) (fun _ => ?_) (fun _ => ?_)
    · exact x_sub [0] rfl (WF_X6_next_52 hdd x0 h)
    · refine x_aload_n 0 dX6_next_22 rfl rfl ?_
      refine xg_X6_3 dX6_next_23 ?_
      refine xg_X6_99 dX6_next_26 ?_
      refine x_aload_n 0 dX6_next_29 rfl rfl ?_
      refine xg_X6_82 dX6_next_30 ?_
      refine x_bald dX6_next_33 ?_
      refine x_bp dX6_next_34 (by decide) (by decide) ?_
      refine x_icmp_ne 52 dX6_next_36 (by decide) (fun _ => ?_) (fun _ => ?_)
      · exact x_sub [0] rfl (WF_X6_next_52 hdd x0 h)
      · refine x_aload_n 0 dX6_next_39 rfl rfl ?_
        refine x_dup dX6_next_40 rfl ?_
        refine xg_X6_82 dX6_next_41 ?_
        refine x_ic dX6_next_44 (by decide) (by decide) ?_
        refine x_iadd dX6_next_45 ?_
        refine xp_X6_82 dX6_next_46 fun h1 => ?_
        refine x_goto 8 dX6_next_49 (by decide) ?_
        exact x_sub [0] rfl (ih x0 h1)
noncomputable def F_X6_next (x0 : Int) (h : XH) : Option XR := ob h x0 6 <| ob h x0 6 <| nm (hset h x0 0 (xv h x0 1)) fun h1 => F_X6_next_8 FU x0 h1
theorem WF_X6_next {d : Nat} {Z : XZ XR} (hdd : 2 ≤ d) : ∀ x0 h, XG xfh (xQ 2) RX6 "next" cX6_next 3 none d Z 0 [(0, (2, x0))] [] h (F_X6_next x0 h) := by
  intro x0 h
  unfold F_X6_next
  refine x_aload_n 0 dX6_next_0 rfl rfl ?_
  refine x_aload_n 0 dX6_next_1 rfl rfl ?_
  refine xg_X6_52 dX6_next_2 ?_
  refine xp_X6_82 dX6_next_5 fun h1 => ?_
  exact x_sub [0] rfl (WF_X6_next_8 hdd FU x0 h1)
theorem SF_X6_next (l : Launch) {d : Nat} (hdd : 2 ≤ d) (x0 : Int) (h : XH) (hok : okH h) (ho : okXs (xn h) [(2, x0)]) (fin : XR) (hf : F_X6_next x0 h = some fin) : xSpec l yX6_next cX6_next 3 none d 2 [(2, x0)] h fin := x_enter (lv := [(0, (2, x0))]) (by decide) rfl rfl (Nat.le_of_ble_eq_true rfl) rfl (fun Z _ => WF_X6_next hdd x0 h) hok ho fin hf
noncomputable def F_J10_isLatin1 (x0 : Int) (h : XH) : Option XR := if (1 : Int) = 0 then (some (0, h)) else (sgs x0 <| if (0 : Int) = 0 then (some (1, h)) else (some (0, h)))
theorem WF_J10_isLatin1 {d : Nat} {Z : XZ XR} (hdd : 1 ≤ d) : ∀ x0 h, XG xfh (xQ 0) RJ10 "isLatin1" cJ10_isLatin1 1 (some .boolean) d Z 0 [(0, (2, x0))] [] h (F_J10_isLatin1 x0 h) := by
  intro x0 h
  unfold F_J10_isLatin1
  refine x_gcomp (ref := RJ10) rfl q683 dJ10_isLatin1_0 ?_
  refine x_if_eq 17 dJ10_isLatin1_3 (by decide) (fun _ => ?_) (fun _ => ?_)
  · refine x_ic dJ10_isLatin1_17 (by decide) (by decide) ?_
    exact x_cb (by decide) (x_zret rfl dJ10_isLatin1_18)
  · refine x_aload_n 0 dJ10_isLatin1_6 rfl rfl ?_
    refine x_gscod (ref := RJ10) rfl q2422 dJ10_isLatin1_7 ?_
    refine x_if_ne 17 dJ10_isLatin1_10 (by decide) (fun _ => ?_) (fun _ => ?_)
    · refine x_ic dJ10_isLatin1_17 (by decide) (by decide) ?_
      exact x_cb (by decide) (x_zret rfl dJ10_isLatin1_18)
    · refine x_ic dJ10_isLatin1_13 (by decide) (by decide) ?_
      refine x_goto 18 dJ10_isLatin1_14 (by decide) ?_
      exact x_cb (by decide) (x_zret rfl dJ10_isLatin1_18)
theorem SF_J10_isLatin1 (l : Launch) {d : Nat} (hdd : 1 ≤ d) (x0 : Int) (h : XH) (hok : okH h) (ho : okXs (xn h) [(2, x0)]) (fin : XR) (hf : F_J10_isLatin1 x0 h = some fin) : xSpec l yJ10_isLatin1 cJ10_isLatin1 1 (some .boolean) d 0 [(2, x0)] h fin := x_enter (lv := [(0, (2, x0))]) (by decide) rfl rfl (Nat.le_of_ble_eq_true rfl) rfl (fun Z _ => WF_J10_isLatin1 hdd x0 h) hok ho fin hf
theorem cl_J10_1059 {ρ : Type} {fh : ρ → XH} {QQ : XZ ρ → State → Prop} {mn : String} {cc : ByteArray} {nL : Nat} {ret : Option FieldType} {d : Nat} {Z : XZ ρ} {pc : Nat} {lv : List (Nat × AV)} {st : List AV} {h : XH} {g : Int → XH → Option ρ} {a0 a1 a2 : Int} (hdd : 2 ≤ d) (hcat : (st.map fun v => if v.1 = 1 then 2 else 1).sum ≤ 8) (hdg : decode cc pc = .ok (.invokestatic 1059, 3)) (kk : ∀ r h1, XG fh QQ RJ10 mn cc nL ret d Z (pc + 3) lv ((0, r) :: st) h1 (g r h1)) : XG fh QQ RJ10 mn cc nL ret d Z pc lv ((2, a2) :: (0, a1) :: (0, a0) :: st) h (mb (F_J7_checkIndex a0 a1 a2 h) g) :=
  x_callSi [(0, a0), (0, a1), (2, a2)] 3 (WF_J7_checkIndex (Z := (Z.1, Z.2.1, ((0, h), h))) (Nat.le_refl 1) a0 a1 a2 h).1 (fun hok ho fin hf => SF_J7_checkIndex (yL Z) (Nat.le_refl 1) a0 a1 a2 h hok ho fin hf) (lw_S q701 q504 q138 q505) ⟨by decide +kernel, by decide +kernel, by decide +kernel⟩ rfl (by omega) (by decide) rfl hcat hdg kk
noncomputable def F_J10_checkIndex (x0 : Int) (x1 : Int) (h : XH) : Option XR := mb (F_J7_checkIndex x0 x1 (xv h (-3) 0) h) fun r1 h2 => some (0, h2)
theorem WF_J10_checkIndex {d : Nat} {Z : XZ XR} (hdd : 2 ≤ d) : ∀ x0 x1 h, XG xfh (xQ 2) RJ10 "checkIndex" cJ10_checkIndex 2 none d Z 0 [(0, (0, x0)), (1, (0, x1))] [] h (F_J10_checkIndex x0 x1 h) := by
  intro x0 x1 h
  unfold F_J10_checkIndex
  refine x_iload_n 0 dJ10_checkIndex_0 rfl rfl ?_
  refine x_iload_n 1 dJ10_checkIndex_1 rfl rfl ?_
  refine x_gstat (ref := RJ7) (-3) (by decide) rfl q699 dJ10_checkIndex_2 ?_
  refine cl_J10_1059 (by omega) (Nat.le_of_ble_eq_true rfl) dJ10_checkIndex_5 fun r1 h2 => ?_
  refine x_pop dJ10_checkIndex_8 rfl ?_
  exact x_vret rfl dJ10_checkIndex_9
theorem SF_J10_checkIndex (l : Launch) {d : Nat} (hdd : 2 ≤ d) (x0 : Int) (x1 : Int) (h : XH) (hok : okH h) (ho : okXs (xn h) [(0, x0), (0, x1)]) (fin : XR) (hf : F_J10_checkIndex x0 x1 h = some fin) : xSpec l yJ10_checkIndex cJ10_checkIndex 2 none d 2 [(0, x0), (0, x1)] h fin := x_enter (lv := [(0, (0, x0)), (1, (0, x1))]) (by decide) rfl rfl (Nat.le_of_ble_eq_true rfl) rfl (fun Z _ => WF_J10_checkIndex hdd x0 x1 h) hok ho fin hf
theorem cl_J11_9 {ρ : Type} {fh : ρ → XH} {QQ : XZ ρ → State → Prop} {mn : String} {cc : ByteArray} {nL : Nat} {ret : Option FieldType} {d : Nat} {Z : XZ ρ} {pc : Nat} {lv : List (Nat × AV)} {st : List AV} {h : XH} {g : Int → XH → Option ρ} {a0 a1 : Int} (hdd : 3 ≤ d) (hcat : (st.map fun v => if v.1 = 1 then 2 else 1).sum ≤ 8) (hdg : decode cc pc = .ok (.invokestatic 9, 3)) (kk : ∀ r h1, XG fh QQ RJ11 mn cc nL ret d Z (pc + 3) lv st h1 (g r h1)) : XG fh QQ RJ11 mn cc nL ret d Z pc lv ((0, a1) :: (0, a0) :: st) h (mb (F_J10_checkIndex a0 a1 h) g) :=
  x_callSv [(0, a0), (0, a1)] 2 (WF_J10_checkIndex (Z := (Z.1, Z.2.1, ((0, h), h))) (Nat.le_refl 2) a0 a1 h).1 (fun hok ho fin hf => SF_J10_checkIndex (yL Z) (Nat.le_refl 2) a0 a1 h hok ho fin hf) (lw_S q696 q697 q143 q698) ⟨by decide +kernel, by decide +kernel, by decide +kernel⟩ rfl (by omega) (by decide) rfl hcat hdg kk
noncomputable def F_J11_charAt (x0 : Int) (x1 : Int) (h : XH) : Option XR := sgb x0 <| mb (F_J10_checkIndex x1 (sbl x0 : Int) h) fun r1 h2 => sgb x0 <| ck x1 (sbl x0) <| cgc (i2c (iand (sbt x0 x1) 255)) (some (i2c (iand (sbt x0 x1) 255), h2))
theorem WF_J11_charAt {d : Nat} {Z : XZ XR} (hdd : 3 ≤ d) : ∀ x0 x1 h, XG xfh (xQ 0) RJ11 "charAt" cJ11_charAt 2 (some .char) d Z 0 [(0, (2, x0)), (1, (0, x1))] [] h (F_J11_charAt x0 x1 h) := by
  intro x0 x1 h
  unfold F_J11_charAt
  refine x_iload_n 1 dJ11_charAt_0 rfl rfl ?_
  refine x_aload_n 0 dJ11_charAt_1 rfl rfl ?_
  refine x_sblen dJ11_charAt_2 ?_
  refine cl_J11_9 (by omega) (Nat.le_of_ble_eq_true rfl) dJ11_charAt_3 fun r1 h2 => ?_
  refine x_aload_n 0 dJ11_charAt_6 rfl rfl ?_
  refine x_iload_n 1 dJ11_charAt_7 rfl rfl ?_
  refine x_sbld dJ11_charAt_8 ?_
  refine x_sp dJ11_charAt_9 (by decide) (by decide) ?_
  refine x_iand dJ11_charAt_12 ?_
  refine x_i2c dJ11_charAt_13 ?_
  exact x_cret rfl dJ11_charAt_14
theorem SF_J11_charAt (l : Launch) {d : Nat} (hdd : 3 ≤ d) (x0 : Int) (x1 : Int) (h : XH) (hok : okH h) (ho : okXs (xn h) [(2, x0), (0, x1)]) (fin : XR) (hf : F_J11_charAt x0 x1 h = some fin) : xSpec l yJ11_charAt cJ11_charAt 2 (some .char) d 0 [(2, x0), (0, x1)] h fin := x_enter (lv := [(0, (2, x0)), (1, (0, x1))]) (by decide) rfl rfl (Nat.le_of_ble_eq_true rfl) rfl (fun Z _ => WF_J11_charAt hdd x0 x1 h) hok ho fin hf
theorem cl_J10_492 {ρ : Type} {fh : ρ → XH} {QQ : XZ ρ → State → Prop} {mn : String} {cc : ByteArray} {nL : Nat} {ret : Option FieldType} {d : Nat} {Z : XZ ρ} {pc : Nat} {lv : List (Nat × AV)} {st : List AV} {h : XH} {g : Int → XH → Option ρ} {b : Int} (hdd : 2 ≤ d) (hcat : (st.map fun v => if v.1 = 1 then 2 else 1).sum ≤ 8) (hdg : decode cc pc = .ok (.invokevirtual 492, 3)) (kk : ∀ r h1, XG fh QQ RJ10 mn cc nL ret d Z (pc + 3) lv ((0, r) :: st) h1 (g r h1)) : XG fh QQ RJ10 mn cc nL ret d Z pc lv ((2, b) :: st) h (sgs b (mb (F_J10_isLatin1 b h) g)) :=
  x_callFi [] 0 (WF_J10_isLatin1 (Z := (Z.1, Z.2.1, ((0, h), h))) (Nat.le_refl 1) b h).1 (fun hok ho fin hf => SF_J10_isLatin1 (yL Z) (Nat.le_refl 1) b h hok ho fin hf) (lw_V q689 q690 q691 q143 q692) ⟨rfl, by decide +kernel, by decide +kernel, by decide +kernel⟩ rfl (by omega) (by decide) rfl hcat hdg kk
theorem cl_J10_495 {ρ : Type} {fh : ρ → XH} {QQ : XZ ρ → State → Prop} {mn : String} {cc : ByteArray} {nL : Nat} {ret : Option FieldType} {d : Nat} {Z : XZ ρ} {pc : Nat} {lv : List (Nat × AV)} {st : List AV} {h : XH} {g : Int → XH → Option ρ} {a0 a1 : Int} (hdd : 4 ≤ d) (hcat : (st.map fun v => if v.1 = 1 then 2 else 1).sum ≤ 8) (hdg : decode cc pc = .ok (.invokestatic 495, 3)) (kk : ∀ r h1, XG fh QQ RJ10 mn cc nL ret d Z (pc + 3) lv ((0, r) :: st) h1 (g r h1)) : XG fh QQ RJ10 mn cc nL ret d Z pc lv ((0, a1) :: (2, a0) :: st) h (mb (F_J11_charAt a0 a1 h) g) :=
  x_callSi [(2, a0), (0, a1)] 2 (WF_J11_charAt (Z := (Z.1, Z.2.1, ((0, h), h))) (Nat.le_refl 3) a0 a1 h).1 (fun hok ho fin hf => SF_J11_charAt (yL Z) (Nat.le_refl 3) a0 a1 h hok ho fin hf) (lw_S q693 q694 q144 q695) ⟨by decide +kernel, by decide +kernel, by decide +kernel⟩ rfl (by omega) (by decide) rfl hcat hdg kk
noncomputable def F_J10_charAt (x0 : Int) (x1 : Int) (h : XH) : Option XR := sgs x0 <| mb (F_J10_isLatin1 x0 h) fun r1 h2 => if r1 = 0 then (sgs x0 <| none) else (sgs x0 <| mb (F_J11_charAt (x0 - 50) x1 h2) fun r3 h4 => cgc r3 (some (r3, h4)))
theorem WF_J10_charAt {d : Nat} {Z : XZ XR} (hdd : 4 ≤ d) : ∀ x0 x1 h, XG xfh (xQ 0) RJ10 "charAt" cJ10_charAt 2 (some .char) d Z 0 [(0, (2, x0)), (1, (0, x1))] [] h (F_J10_charAt x0 x1 h) := by
  intro x0 x1 h
  unfold F_J10_charAt
  refine x_aload_n 0 dJ10_charAt_0 rfl rfl ?_
  refine cl_J10_492 (by omega) (Nat.le_of_ble_eq_true rfl) dJ10_charAt_1 fun r1 h2 => ?_
  refine x_if_eq 16 dJ10_charAt_4 (by decide) (fun _ => ?_) (fun _ => ?_)
  · refine x_aload_n 0 dJ10_charAt_16 rfl rfl ?_
    refine x_gsval (ref := RJ10) rfl q2421 dJ10_charAt_17 ?_
    refine x_iload_n 1 dJ10_charAt_20 rfl rfl ?_
    exact x_none
  · refine x_aload_n 0 dJ10_charAt_7 rfl rfl ?_
    refine x_gsval (ref := RJ10) rfl q2421 dJ10_charAt_8 ?_
    refine x_iload_n 1 dJ10_charAt_11 rfl rfl ?_
    refine cl_J10_495 (by omega) (Nat.le_of_ble_eq_true rfl) dJ10_charAt_12 fun r3 h4 => ?_
    exact x_cret rfl dJ10_charAt_15
theorem SF_J10_charAt (l : Launch) {d : Nat} (hdd : 4 ≤ d) (x0 : Int) (x1 : Int) (h : XH) (hok : okH h) (ho : okXs (xn h) [(2, x0), (0, x1)]) (fin : XR) (hf : F_J10_charAt x0 x1 h = some fin) : xSpec l yJ10_charAt cJ10_charAt 2 (some .char) d 0 [(2, x0), (0, x1)] h fin := x_enter (lv := [(0, (2, x0)), (1, (0, x1))]) (by decide) rfl rfl (Nat.le_of_ble_eq_true rfl) rfl (fun Z _ => WF_J10_charAt hdd x0 x1 h) hok ho fin hf
noncomputable def F_J10_coder (x0 : Int) (h : XH) : Option XR := if (1 : Int) = 0 then (cgb 1 (some (1, h))) else (sgs x0 <| cgb 0 (some (0, h)))
theorem WF_J10_coder {d : Nat} {Z : XZ XR} (hdd : 1 ≤ d) : ∀ x0 h, XG xfh (xQ 0) RJ10 "coder" cJ10_coder 1 (some .byte) d Z 0 [(0, (2, x0))] [] h (F_J10_coder x0 h) := by
  intro x0 h
  unfold F_J10_coder
  refine x_gcomp (ref := RJ10) rfl q683 dJ10_coder_0 ?_
  refine x_if_eq 13 dJ10_coder_3 (by decide) (fun _ => ?_) (fun _ => ?_)
  · refine x_ic dJ10_coder_13 (by decide) (by decide) ?_
    exact x_bret rfl dJ10_coder_14
  · refine x_aload_n 0 dJ10_coder_6 rfl rfl ?_
    refine x_gscod (ref := RJ10) rfl q2422 dJ10_coder_7 ?_
    refine x_goto 14 dJ10_coder_10 (by decide) ?_
    exact x_bret rfl dJ10_coder_14
theorem SF_J10_coder (l : Launch) {d : Nat} (hdd : 1 ≤ d) (x0 : Int) (h : XH) (hok : okH h) (ho : okXs (xn h) [(2, x0)]) (fin : XR) (hf : F_J10_coder x0 h = some fin) : xSpec l yJ10_coder cJ10_coder 1 (some .byte) d 0 [(2, x0)] h fin := x_enter (lv := [(0, (2, x0))]) (by decide) rfl rfl (Nat.le_of_ble_eq_true rfl) rfl (fun Z _ => WF_J10_coder hdd x0 h) hok ho fin hf
theorem cl_J10_335 {ρ : Type} {fh : ρ → XH} {QQ : XZ ρ → State → Prop} {mn : String} {cc : ByteArray} {nL : Nat} {ret : Option FieldType} {d : Nat} {Z : XZ ρ} {pc : Nat} {lv : List (Nat × AV)} {st : List AV} {h : XH} {g : Int → XH → Option ρ} {b : Int} (hdd : 2 ≤ d) (hcat : (st.map fun v => if v.1 = 1 then 2 else 1).sum ≤ 8) (hdg : decode cc pc = .ok (.invokevirtual 335, 3)) (kk : ∀ r h1, XG fh QQ RJ10 mn cc nL ret d Z (pc + 3) lv ((0, r) :: st) h1 (g r h1)) : XG fh QQ RJ10 mn cc nL ret d Z pc lv ((2, b) :: st) h (sgs b (mb (F_J10_coder b h) g)) :=
  x_callFi [] 0 (WF_J10_coder (Z := (Z.1, Z.2.1, ((0, h), h))) (Nat.le_refl 1) b h).1 (fun hok ho fin hf => SF_J10_coder (yL Z) (Nat.le_refl 1) b h hok ho fin hf) (lw_V q679 q680 q681 q143 q682) ⟨rfl, by decide +kernel, by decide +kernel, by decide +kernel⟩ rfl (by omega) (by decide) rfl hcat hdg kk
noncomputable def F_J10_length (x0 : Int) (h : XH) : Option XR := sgs x0 <| sgb (x0 - 50) <| sgs x0 <| mb (F_J10_coder x0 h) fun r1 h2 => some (ishr (sbl (x0 - 50) : Int) r1, h2)
theorem WF_J10_length {d : Nat} {Z : XZ XR} (hdd : 2 ≤ d) : ∀ x0 h, XG xfh (xQ 0) RJ10 "length" cJ10_length 1 (some .int) d Z 0 [(0, (2, x0))] [] h (F_J10_length x0 h) := by
  intro x0 h
  unfold F_J10_length
  refine x_aload_n 0 dJ10_length_0 rfl rfl ?_
  refine x_gsval (ref := RJ10) rfl q2421 dJ10_length_1 ?_
  refine x_sblen dJ10_length_4 ?_
  refine x_aload_n 0 dJ10_length_5 rfl rfl ?_
  refine cl_J10_335 (by omega) (Nat.le_of_ble_eq_true rfl) dJ10_length_6 fun r1 h2 => ?_
  refine x_ishr dJ10_length_9 ?_
  exact x_iret rfl dJ10_length_10
theorem SF_J10_length (l : Launch) {d : Nat} (hdd : 2 ≤ d) (x0 : Int) (h : XH) (hok : okH h) (ho : okXs (xn h) [(2, x0)]) (fin : XR) (hf : F_J10_length x0 h = some fin) : xSpec l yJ10_length cJ10_length 1 (some .int) d 0 [(2, x0)] h fin := x_enter (lv := [(0, (2, x0))]) (by decide) rfl rfl (Nat.le_of_ble_eq_true rfl) rfl (fun Z _ => WF_J10_length hdd x0 h) hok ho fin hf
theorem cl_X6_110 {ρ : Type} {fh : ρ → XH} {QQ : XZ ρ → State → Prop} {mn : String} {cc : ByteArray} {nL : Nat} {ret : Option FieldType} {d : Nat} {Z : XZ ρ} {pc : Nat} {lv : List (Nat × AV)} {st : List AV} {h : XH} {g : Int → XH → Option ρ} {b : Int} (hdd : 3 ≤ d) (hcat : (st.map fun v => if v.1 = 1 then 2 else 1).sum ≤ 8) (hdg : decode cc pc = .ok (.invokevirtual 110, 3)) (kk : ∀ r h1, XG fh QQ RX6 mn cc nL ret d Z (pc + 3) lv ((0, r) :: st) h1 (g r h1)) : XG fh QQ RX6 mn cc nL ret d Z pc lv ((2, b) :: st) h (sgs b (mb (F_J10_length b h) g)) :=
  x_callFi [] 0 (WF_J10_length (Z := (Z.1, Z.2.1, ((0, h), h))) (Nat.le_refl 2) b h).1 (fun hok ho fin hf => SF_J10_length (yL Z) (Nat.le_refl 2) b h hok ho fin hf) (lw_V q675 q676 q677 q143 q678) ⟨rfl, by decide +kernel, by decide +kernel, by decide +kernel⟩ rfl (by omega) (by decide) rfl hcat hdg kk
theorem cl_X6_114 {ρ : Type} {fh : ρ → XH} {QQ : XZ ρ → State → Prop} {mn : String} {cc : ByteArray} {nL : Nat} {ret : Option FieldType} {d : Nat} {Z : XZ ρ} {pc : Nat} {lv : List (Nat × AV)} {st : List AV} {h : XH} {g : Int → XH → Option ρ} {b a0 : Int} (hdd : 5 ≤ d) (hcat : (st.map fun v => if v.1 = 1 then 2 else 1).sum ≤ 8) (hdg : decode cc pc = .ok (.invokevirtual 114, 3)) (kk : ∀ r h1, XG fh QQ RX6 mn cc nL ret d Z (pc + 3) lv ((0, r) :: st) h1 (g r h1)) : XG fh QQ RX6 mn cc nL ret d Z pc lv ((0, a0) :: (2, b) :: st) h (sgs b (mb (F_J10_charAt b a0 h) g)) :=
  x_callFi [(0, a0)] 1 (WF_J10_charAt (Z := (Z.1, Z.2.1, ((0, h), h))) (Nat.le_refl 4) b a0 h).1 (fun hok ho fin hf => SF_J10_charAt (yL Z) (Nat.le_refl 4) b a0 h hok ho fin hf) (lw_V q685 q686 q687 q143 q688) ⟨rfl, by decide +kernel, by decide +kernel, by decide +kernel⟩ rfl (by omega) (by decide) rfl hcat hdg kk
noncomputable def F_X6_isWord_20 : Nat → Int → Int → Int → XH → Option XR
  | 0, _, _, _, _ => none
  | n + 1, x0, x1, x2, h => sgs x1 <| mb (F_J10_length x1 h) fun r1 h2 => if r1 ≤ x2 then (some (1, h2)) else (ob h2 x0 6 <| ob h2 (xv h2 x0 8) 1 <| ob h2 x0 6 <| ai h2 (xv h2 (xv h2 x0 8) 11) 2 (w32 ((xv h2 x0 0) + x2)) <| sgs x1 <| mb (F_J10_charAt x1 x2 h2) fun r3 h4 => if xv h2 (xv h2 (xv h2 x0 8) 11) (w32 ((xv h2 x0 0) + x2)) = r3 then (nm (w32 (x2 + 1)) fun v5 => F_X6_isWord_20 n x0 x1 v5 h4) else (some (0, h4)))
theorem WF_X6_isWord_20 {d : Nat} {Z : XZ XR} (hdd : 5 ≤ d) : ∀ n x0 x1 x2 h, XG xfh (xQ 0) RX6 "isWord" cX6_isWord 3 (some .boolean) d Z 20 [(0, (2, x0)), (1, (2, x1)), (2, (0, x2))] [] h (F_X6_isWord_20 n x0 x1 x2 h) := by
  intro n
  induction n with
  | zero => intro x0 x1 x2 h; exact x_none
  | succ n ih =>
    intro x0 x1 x2 h
    rw [F_X6_isWord_20]
    refine x_iload_n 2 dX6_isWord_20 rfl rfl ?_
    refine x_aload_n 1 dX6_isWord_21 rfl rfl ?_
    refine cl_X6_110 (by omega) (Nat.le_of_ble_eq_true rfl) dX6_isWord_22 fun r1 h2 => ?_
    refine x_icmp_ge 58 dX6_isWord_25 (by decide) (fun _ => ?_) (fun _ => ?_)
    · refine x_ic dX6_isWord_58 (by decide) (by decide) ?_
      exact x_cb (by decide) (x_zret rfl dX6_isWord_59)
    · refine x_aload_n 0 dX6_isWord_28 rfl rfl ?_
      refine xg_X6_3 dX6_isWord_29 ?_
      refine xg_X6_99 dX6_isWord_32 ?_
      refine x_aload_n 0 dX6_isWord_35 rfl rfl ?_
      refine xg_X6_82 dX6_isWord_36 ?_
      refine x_iload_n 2 dX6_isWord_39 rfl rfl ?_
      refine x_iadd dX6_isWord_40 ?_
      refine x_bald dX6_isWord_41 ?_
      refine x_aload_n 1 dX6_isWord_42 rfl rfl ?_
      refine x_iload_n 2 dX6_isWord_43 rfl rfl ?_
      refine cl_X6_114 (by omega) (Nat.le_of_ble_eq_true rfl) dX6_isWord_44 fun r3 h4 => ?_
      refine x_icmp_eq 52 dX6_isWord_47 (by decide) (fun _ => ?_) (fun _ => ?_)
      · refine x_iinc 2 dX6_isWord_52 rfl (by decide) fun v5 => x_lv (lv' := [(2, (0, v5)), (0, (2, x0)), (1, (2, x1))]) rfl ?_
        refine x_goto 20 dX6_isWord_55 (by decide) ?_
        exact x_sub [1, 2, 0] rfl (ih x0 x1 v5 h4)
      · refine x_ic dX6_isWord_50 (by decide) (by decide) ?_
        exact x_cb (by decide) (x_zret rfl dX6_isWord_51)
noncomputable def F_X6_isWord (x0 : Int) (x1 : Int) (h : XH) : Option XR := ob h x0 6 <| ob h x0 6 <| sgs x1 <| mb (F_J10_length x1 h) fun r1 h2 => if w32 ((xv h x0 1) - (xv h x0 0)) = r1 then (F_X6_isWord_20 FU x0 x1 0 h2) else (some (0, h2))
theorem WF_X6_isWord {d : Nat} {Z : XZ XR} (hdd : 5 ≤ d) : ∀ x0 x1 h, XG xfh (xQ 0) RX6 "isWord" cX6_isWord 3 (some .boolean) d Z 0 [(0, (2, x0)), (1, (2, x1))] [] h (F_X6_isWord x0 x1 h) := by
  intro x0 x1 h
  unfold F_X6_isWord
  refine x_aload_n 0 dX6_isWord_0 rfl rfl ?_
  refine xg_X6_52 dX6_isWord_1 ?_
  refine x_aload_n 0 dX6_isWord_4 rfl rfl ?_
  refine xg_X6_82 dX6_isWord_5 ?_
  refine x_isub dX6_isWord_8 ?_
  refine x_aload_n 1 dX6_isWord_9 rfl rfl ?_
  refine cl_X6_110 (by omega) (Nat.le_of_ble_eq_true rfl) dX6_isWord_10 fun r1 h2 => ?_
  refine x_icmp_eq 18 dX6_isWord_13 (by decide) (fun _ => ?_) (fun _ => ?_)
  · refine x_ic dX6_isWord_18 (by decide) (by decide) ?_
    refine x_istore_n (lv' := [(2, (0, 0)), (0, (2, x0)), (1, (2, x1))]) dX6_isWord_19 rfl (by decide) rfl ?_
    exact x_sub [1, 2, 0] rfl (WF_X6_isWord_20 hdd FU x0 x1 0 h2)
  · refine x_ic dX6_isWord_16 (by decide) (by decide) ?_
    exact x_cb (by decide) (x_zret rfl dX6_isWord_17)
theorem SF_X6_isWord (l : Launch) {d : Nat} (hdd : 5 ≤ d) (x0 : Int) (x1 : Int) (h : XH) (hok : okH h) (ho : okXs (xn h) [(2, x0), (2, x1)]) (fin : XR) (hf : F_X6_isWord x0 x1 h = some fin) : xSpec l yX6_isWord cX6_isWord 3 (some .boolean) d 0 [(2, x0), (2, x1)] h fin := x_enter (lv := [(0, (2, x0)), (1, (2, x1))]) (by decide) rfl rfl (Nat.le_of_ble_eq_true rfl) rfl (fun Z _ => WF_X6_isWord hdd x0 x1 h) hok ho fin hf
theorem cl_X6_118 {ρ : Type} {fh : ρ → XH} {QQ : XZ ρ → State → Prop} {mn : String} {cc : ByteArray} {nL : Nat} {ret : Option FieldType} {d : Nat} {Z : XZ ρ} {pc : Nat} {lv : List (Nat × AV)} {st : List AV} {h : XH} {g : Int → XH → Option ρ} {b a0 : Int} (hdd : 6 ≤ d) (hcat : (st.map fun v => if v.1 = 1 then 2 else 1).sum ≤ 8) (hdg : decode cc pc = .ok (.invokevirtual 118, 3)) (kk : ∀ r h1, XG fh QQ RX6 mn cc nL ret d Z (pc + 3) lv ((0, r) :: st) h1 (g r h1)) : XG fh QQ RX6 mn cc nL ret d Z pc lv ((2, a0) :: (2, b) :: st) h (ob h b 6 (mb (F_X6_isWord b a0 h) g)) :=
  x_callVi [(2, a0)] 1 (WF_X6_isWord (Z := (Z.1, Z.2.1, ((0, h), h))) (Nat.le_refl 5) b a0 h).1 (fun hok ho fin hf => SF_X6_isWord (yL Z) (Nat.le_refl 5) b a0 h hok ho fin hf) RX6 6 rfl (by decide) (lw_V q671 q673 qs13 q139 q674) ⟨rfl, by decide +kernel, by decide +kernel, by decide +kernel⟩ rfl (by omega) (by decide) rfl hcat hdg kk
noncomputable def F_X6_which_2 : Nat → Int → Int → Int → XH → Option XR
  | 0, _, _, _, _ => none
  | n + 1, x0, x1, x2, h => al h x1 10 <| if (xl h x1 : Int) ≤ x2 then (some ((-1), h)) else (ai h x1 10 x2 <| ob h x0 6 <| mb (F_X6_isWord x0 (xv h x1 x2) h) fun r1 h2 => if r1 = 0 then (nm (w32 (x2 + 1)) fun v3 => F_X6_which_2 n x0 x1 v3 h2) else (some (x2, h2)))
theorem WF_X6_which_2 {d : Nat} {Z : XZ XR} (hdd : 6 ≤ d) : ∀ n x0 x1 x2 h, XG xfh (xQ 0) RX6 "which" cX6_which 3 (some .int) d Z 2 [(0, (2, x0)), (1, (2, x1)), (2, (0, x2))] [] h (F_X6_which_2 n x0 x1 x2 h) := by
  intro n
  induction n with
  | zero => intro x0 x1 x2 h; exact x_none
  | succ n ih =>
    intro x0 x1 x2 h
    rw [F_X6_which_2]
    refine x_iload_n 2 dX6_which_2 rfl rfl ?_
    refine x_aload_n 1 dX6_which_3 rfl rfl ?_
    refine x_alen 10 (by decide) dX6_which_4 ?_
    refine x_icmp_ge 26 dX6_which_5 (by decide) (fun _ => ?_) (fun _ => ?_)
    · refine x_ic dX6_which_26 (by decide) (by decide) ?_
      exact x_iret rfl dX6_which_27
    · refine x_aload_n 0 dX6_which_8 rfl rfl ?_
      refine x_aload_n 1 dX6_which_9 rfl rfl ?_
      refine x_iload_n 2 dX6_which_10 rfl rfl ?_
      refine x_aald 10 _ (by decide) (by decide) rfl dX6_which_11 ?_
      refine cl_X6_118 (by omega) (Nat.le_of_ble_eq_true rfl) dX6_which_12 fun r1 h2 => ?_
      refine x_if_eq 20 dX6_which_15 (by decide) (fun _ => ?_) (fun _ => ?_)
      · refine x_iinc 2 dX6_which_20 rfl (by decide) fun v3 => x_lv (lv' := [(2, (0, v3)), (0, (2, x0)), (1, (2, x1))]) rfl ?_
        refine x_goto 2 dX6_which_23 (by decide) ?_
        exact x_sub [1, 2, 0] rfl (ih x0 x1 v3 h2)
      · refine x_iload_n 2 dX6_which_18 rfl rfl ?_
        exact x_iret rfl dX6_which_19
noncomputable def F_X6_which (x0 : Int) (x1 : Int) (h : XH) : Option XR := F_X6_which_2 FU x0 x1 0 h
theorem WF_X6_which {d : Nat} {Z : XZ XR} (hdd : 6 ≤ d) : ∀ x0 x1 h, XG xfh (xQ 0) RX6 "which" cX6_which 3 (some .int) d Z 0 [(0, (2, x0)), (1, (2, x1))] [] h (F_X6_which x0 x1 h) := by
  intro x0 x1 h
  unfold F_X6_which
  refine x_ic dX6_which_0 (by decide) (by decide) ?_
  refine x_istore_n (lv' := [(2, (0, 0)), (0, (2, x0)), (1, (2, x1))]) dX6_which_1 rfl (by decide) rfl ?_
  exact x_sub [1, 2, 0] rfl (WF_X6_which_2 hdd FU x0 x1 0 h)
theorem SF_X6_which (l : Launch) {d : Nat} (hdd : 6 ≤ d) (x0 : Int) (x1 : Int) (h : XH) (hok : okH h) (ho : okXs (xn h) [(2, x0), (2, x1)]) (fin : XR) (hf : F_X6_which x0 x1 h = some fin) : xSpec l yX6_which cX6_which 3 (some .int) d 0 [(2, x0), (2, x1)] h fin := x_enter (lv := [(0, (2, x0)), (1, (2, x1))]) (by decide) rfl rfl (Nat.le_of_ble_eq_true rfl) rfl (fun Z _ => WF_X6_which hdd x0 x1 h) hok ho fin hf
theorem cl_X6_65 {ρ : Type} {fh : ρ → XH} {QQ : XZ ρ → State → Prop} {mn : String} {cc : ByteArray} {nL : Nat} {ret : Option FieldType} {d : Nat} {Z : XZ ρ} {pc : Nat} {lv : List (Nat × AV)} {st : List AV} {h : XH} {g : Int → XH → Option ρ} {b : Int} (hdd : 3 ≤ d) (hcat : (st.map fun v => if v.1 = 1 then 2 else 1).sum ≤ 8) (hdg : decode cc pc = .ok (.invokevirtual 65, 3)) (kk : ∀ r h1, XG fh QQ RX6 mn cc nL ret d Z (pc + 3) lv st h1 (g r h1)) : XG fh QQ RX6 mn cc nL ret d Z pc lv ((2, b) :: st) h (ob h b 6 (mb (F_X6_next b h) g)) :=
  x_callVv [] 0 (WF_X6_next (Z := (Z.1, Z.2.1, ((0, h), h))) (Nat.le_refl 2) b h).1 (fun hok ho fin hf => SF_X6_next (yL Z) (Nat.le_refl 2) b h hok ho fin hf) RX6 6 rfl (by decide) (lw_V q585 q587 qs8 q139 q588) ⟨rfl, by decide +kernel, by decide +kernel, by decide +kernel⟩ rfl (by omega) (by decide) rfl hcat hdg kk
noncomputable def F_X6_accept (x0 : Int) (x1 : Int) (h : XH) : Option XR := ob h x0 6 <| mb (F_X6_isWord x0 x1 h) fun r1 h2 => if r1 = 0 then (cb r1 (some (r1, h2))) else (ob h2 x0 6 <| mb (F_X6_next x0 h2) fun r3 h4 => cb r1 (some (r1, h4)))
theorem WF_X6_accept {d : Nat} {Z : XZ XR} (hdd : 6 ≤ d) : ∀ x0 x1 h, XG xfh (xQ 0) RX6 "accept" cX6_accept 3 (some .boolean) d Z 0 [(0, (2, x0)), (1, (2, x1))] [] h (F_X6_accept x0 x1 h) := by
  intro x0 x1 h
  unfold F_X6_accept
  refine x_aload_n 0 dX6_accept_0 rfl rfl ?_
  refine x_aload_n 1 dX6_accept_1 rfl rfl ?_
  refine cl_X6_118 (by omega) (Nat.le_of_ble_eq_true rfl) dX6_accept_2 fun r1 h2 => ?_
  refine x_istore_n (lv' := [(2, (0, r1)), (0, (2, x0)), (1, (2, x1))]) dX6_accept_5 rfl (by decide) rfl ?_
  refine x_iload_n 0 dX6_accept_6 rfl rfl ?_
  refine x_if_eq 14 dX6_accept_7 (by decide) (fun _ => ?_) (fun _ => ?_)
  · refine x_iload_n 0 dX6_accept_14 rfl rfl ?_
    exact x_zret rfl dX6_accept_15
  · refine x_aload_n 1 dX6_accept_10 rfl rfl ?_
    refine cl_X6_65 (by omega) (Nat.le_of_ble_eq_true rfl) dX6_accept_11 fun r3 h4 => ?_
    refine x_iload_n 0 dX6_accept_14 rfl rfl ?_
    exact x_zret rfl dX6_accept_15
theorem SF_X6_accept (l : Launch) {d : Nat} (hdd : 6 ≤ d) (x0 : Int) (x1 : Int) (h : XH) (hok : okH h) (ho : okXs (xn h) [(2, x0), (2, x1)]) (fin : XR) (hf : F_X6_accept x0 x1 h = some fin) : xSpec l yX6_accept cX6_accept 3 (some .boolean) d 0 [(2, x0), (2, x1)] h fin := x_enter (lv := [(0, (2, x0)), (1, (2, x1))]) (by decide) rfl rfl (Nat.le_of_ble_eq_true rfl) rfl (fun Z _ => WF_X6_accept hdd x0 x1 h) hok ho fin hf
theorem xg_X6_17 {ρ : Type} {fh : ρ → XH} {QQ : XZ ρ → State → Prop} {mn : String} {cc : ByteArray} {nL : Nat} {ret : Option FieldType} {d : Nat} {Z : XZ ρ} {pc : Nat} {lv : List (Nat × AV)} {st : List AV} {h : XH} {res : Option ρ} {a : Int} (hd : decode cc pc = .ok (.getfield 17, 3)) (kk : XG fh QQ RX6 mn cc nL ret d Z (pc + 3) lv ((2, xv h a 5) :: st) h res) : XG fh QQ RX6 mn cc nL ret d Z pc lv ((2, a) :: st) h (ob h a 6 res) := x_get (C := RX6) (ref := RX6) 6 5 rfl in_X6 (by decide) rfl (by decide) (Or.inl rfl) q557 hd kk
theorem xg_X6_62 {ρ : Type} {fh : ρ → XH} {QQ : XZ ρ → State → Prop} {mn : String} {cc : ByteArray} {nL : Nat} {ret : Option FieldType} {d : Nat} {Z : XZ ρ} {pc : Nat} {lv : List (Nat × AV)} {st : List AV} {h : XH} {res : Option ρ} {a : Int} (hd : decode cc pc = .ok (.getfield 62, 3)) (kk : XG fh QQ RX6 mn cc nL ret d Z (pc + 3) lv ((0, xv h a 4) :: st) h res) : XG fh QQ RX6 mn cc nL ret d Z pc lv ((2, a) :: st) h (ob h a 6 res) := x_get (C := RX6) (ref := RX6) 6 4 rfl in_X6 (by decide) rfl (by decide) (Or.inl rfl) q556 hd kk
theorem xp_X6_62 {ρ : Type} {fh : ρ → XH} {QQ : XZ ρ → State → Prop} {mn : String} {cc : ByteArray} {nL : Nat} {ret : Option FieldType} {d : Nat} {Z : XZ ρ} {pc : Nat} {lv : List (Nat × AV)} {st : List AV} {h : XH} {f : XH → Option ρ} {a x : Int} (hd : decode cc pc = .ok (.putfield 62, 3)) (kk : ∀ h1, XG fh QQ RX6 mn cc nL ret d Z (pc + 3) lv st h1 (f h1)) : XG fh QQ RX6 mn cc nL ret d Z pc lv ((0, x) :: (2, a) :: st) h (ob h a 6 (nm (hset h a 4 x) f)) := x_put (C := RX6) (ref := RX6) 6 4 rfl in_X6 tyX6_ok nmX6 (by decide) rfl (by decide) (Or.inl rfl) (by decide) (xfit_X6 4 (by decide)) 0 rfl q556 hd kk
noncomputable def F_X6_add (x0 : Int) (x1 : Int) (h : XH) : Option XR := ob h x0 6 <| ob h x0 6 <| ai h (xv h x0 5) 8 (xv h x0 4) <| ex h "ExamSlips$Test" x1 <| nm (hset h (xv h x0 5) (xv h x0 4) x1) fun h1 => ob h1 x0 6 <| ob h1 x0 6 <| nm (hset h1 x0 4 (w32 ((xv h1 x0 4) + 1))) fun h2 => some (0, h2)
theorem WF_X6_add {d : Nat} {Z : XZ XR} (hdd : 1 ≤ d) : ∀ x0 x1 h, XG xfh (xQ 2) RX6 "add" cX6_add 2 none d Z 0 [(0, (2, x0)), (1, (2, x1))] [] h (F_X6_add x0 x1 h) := by
  intro x0 x1 h
  unfold F_X6_add
  refine x_aload_n 0 dX6_add_0 rfl rfl ?_
  refine xg_X6_17 dX6_add_1 ?_
  refine x_aload_n 0 dX6_add_4 rfl rfl ?_
  refine xg_X6_62 dX6_add_5 ?_
  refine x_aload_n 1 dX6_add_8 rfl rfl ?_
  refine x_aastM (E := "ExamSlips$Test") 8 (by decide) (by decide) rfl dX6_add_9 fun h1 => ?_
  refine x_aload_n 0 dX6_add_10 rfl rfl ?_
  refine x_dup dX6_add_11 rfl ?_
  refine xg_X6_62 dX6_add_12 ?_
  refine x_ic dX6_add_15 (by decide) (by decide) ?_
  refine x_iadd dX6_add_16 ?_
  refine xp_X6_62 dX6_add_17 fun h2 => ?_
  exact x_vret rfl dX6_add_20
theorem SF_X6_add (l : Launch) {d : Nat} (hdd : 1 ≤ d) (x0 : Int) (x1 : Int) (h : XH) (hok : okH h) (ho : okXs (xn h) [(2, x0), (2, x1)]) (fin : XR) (hf : F_X6_add x0 x1 h = some fin) : xSpec l yX6_add cX6_add 2 none d 2 [(2, x0), (2, x1)] h fin := x_enter (lv := [(0, (2, x0)), (1, (2, x1))]) (by decide) rfl rfl (Nat.le_of_ble_eq_true rfl) rfl (fun Z _ => WF_X6_add hdd x0 x1 h) hok ho fin hf
theorem cl_X15_1 {ρ : Type} {fh : ρ → XH} {QQ : XZ ρ → State → Prop} {mn : String} {cc : ByteArray} {nL : Nat} {ret : Option FieldType} {d : Nat} {Z : XZ ρ} {pc : Nat} {lv : List (Nat × AV)} {st : List AV} {h : XH} {g : Int → XH → Option ρ} {b : Int} (hdd : 2 ≤ d) (hcat : (st.map fun v => if v.1 = 1 then 2 else 1).sum ≤ 8) (hdg : decode cc pc = .ok (.invokespecial 1, 3)) (kk : ∀ r h1, XG fh QQ RX15 mn cc nL ret d Z (pc + 3) lv st h1 (g r h1)) : XG fh QQ RX15 mn cc nL ret d Z pc lv ((2, b) :: st) h (pz b (mb (F_X12_init b h) g)) :=
  x_callJv [] 0 (WF_X12_init (Z := (Z.1, Z.2.1, ((0, h), h))) (Nat.le_refl 1) b h).1 (fun hok ho fin hf => SF_X12_init (yL Z) (Nat.le_refl 1) b h hok ho fin hf) (lw_meth q824) q150 q861 q823 rfl ⟨by decide +kernel, by decide +kernel, by decide +kernel⟩ rfl (by omega) (by decide) rfl hcat hdg kk
theorem xpF_X15_13 {ρ : Type} {fh : ρ → XH} {QQ : XZ ρ → State → Prop} {cc : ByteArray} {nL : Nat} {ret : Option FieldType} {d : Nat} {Z : XZ ρ} {pc : Nat} {lv : List (Nat × AV)} {st : List AV} {h : XH} {f : XH → Option ρ} {a x : Int} (hd : decode cc pc = .ok (.putfield 13, 3)) (kk : ∀ h1, XG fh QQ RX15 "<init>" cc nL ret d Z (pc + 3) lv st h1 (f h1)) : XG fh QQ RX15 "<init>" cc nL ret d Z pc lv ((2, x) :: (2, a) :: st) h (ob h a 13 (nm (hset h a 1 x) f)) := x_putF (C := RX15) (ref := RX15) 13 1 rfl in_X15 tyX15_ok nmX15 (by decide) rfl (by decide) (Or.inl rfl) rfl rfl rfl (xfit_X15 1 (by decide)) 2 rfl q863 hd kk
theorem xpF_X15_7 {ρ : Type} {fh : ρ → XH} {QQ : XZ ρ → State → Prop} {cc : ByteArray} {nL : Nat} {ret : Option FieldType} {d : Nat} {Z : XZ ρ} {pc : Nat} {lv : List (Nat × AV)} {st : List AV} {h : XH} {f : XH → Option ρ} {a x : Int} (hd : decode cc pc = .ok (.putfield 7, 3)) (kk : ∀ h1, XG fh QQ RX15 "<init>" cc nL ret d Z (pc + 3) lv st h1 (f h1)) : XG fh QQ RX15 "<init>" cc nL ret d Z pc lv ((0, x) :: (2, a) :: st) h (ob h a 13 (cb x (nm (hset h a 0 x) f))) := x_putF (C := RX15) (ref := RX15) 13 0 rfl in_X15 tyX15_ok nmX15 (by decide) rfl (by decide) (Or.inl rfl) rfl rfl rfl (xfit_X15 0 (by decide)) 0 rfl q862 hd kk
noncomputable def F_X15_init (x0 : Int) (x1 : Int) (x2 : Int) (h : XH) : Option XR := pz x0 <| mb (F_X12_init x0 h) fun r1 h2 => ob h2 x0 13 <| cb x1 <| nm (hset h2 x0 0 x1) fun h3 => ob h3 x0 13 <| nm (hset h3 x0 1 x2) fun h4 => some (0, h4)
theorem WF_X15_init {d : Nat} {Z : XZ XR} (hdd : 2 ≤ d) : ∀ x0 x1 x2 h, XG xfh (xQ 2) RX15 "<init>" cX15_init 3 none d Z 0 [(0, (2, x0)), (1, (0, x1)), (2, (2, x2))] [] h (F_X15_init x0 x1 x2 h) := by
  intro x0 x1 x2 h
  unfold F_X15_init
  refine x_aload_n 0 dX15_init_0 rfl rfl ?_
  refine cl_X15_1 (by omega) (Nat.le_of_ble_eq_true rfl) dX15_init_1 fun r1 h2 => ?_
  refine x_aload_n 0 dX15_init_4 rfl rfl ?_
  refine x_iload_n 1 dX15_init_5 rfl rfl ?_
  refine xpF_X15_7 dX15_init_6 fun h3 => ?_
  refine x_aload_n 0 dX15_init_9 rfl rfl ?_
  refine x_aload_n 2 dX15_init_10 rfl rfl ?_
  refine xpF_X15_13 dX15_init_11 fun h4 => ?_
  exact x_vret rfl dX15_init_14
theorem SF_X15_init (l : Launch) {d : Nat} (hdd : 2 ≤ d) (x0 : Int) (x1 : Int) (x2 : Int) (h : XH) (hok : okH h) (ho : okXs (xn h) [(2, x0), (0, x1), (2, x2)]) (fin : XR) (hf : F_X15_init x0 x1 x2 h = some fin) : xSpec l yX15_init cX15_init 3 none d 2 [(2, x0), (0, x1), (2, x2)] h fin := x_enter (lv := [(0, (2, x0)), (1, (0, x1)), (2, (2, x2))]) (by decide) rfl rfl (Nat.le_of_ble_eq_true rfl) rfl (fun Z _ => WF_X15_init hdd x0 x1 x2 h) hok ho fin hf
theorem cl_X6_163 {ρ : Type} {fh : ρ → XH} {QQ : XZ ρ → State → Prop} {mn : String} {cc : ByteArray} {nL : Nat} {ret : Option FieldType} {d : Nat} {Z : XZ ρ} {pc : Nat} {lv : List (Nat × AV)} {st : List AV} {h : XH} {g : Int → XH → Option ρ} {b a0 a1 : Int} (hdd : 3 ≤ d) (hcat : (st.map fun v => if v.1 = 1 then 2 else 1).sum ≤ 8) (hdg : decode cc pc = .ok (.invokespecial 163, 3)) (kk : ∀ r h1, XG fh QQ RX6 mn cc nL ret d Z (pc + 3) lv st h1 (g r h1)) : XG fh QQ RX6 mn cc nL ret d Z pc lv ((2, a1) :: (0, a0) :: (2, b) :: st) h (pz b (mb (F_X15_init b a0 a1 h) g)) :=
  x_callIv [(0, a0), (2, a1)] 2 (WF_X15_init (Z := (Z.1, Z.2.1, ((0, h), h))) (Nat.le_refl 2) b a0 a1 h).1 (fun hok ho fin hf => SF_X15_init (yL Z) (Nat.le_refl 2) b a0 a1 h hok ho fin hf) (lw_meth q860) q153 q858 q859 rfl ⟨by decide +kernel, by decide +kernel, by decide +kernel⟩ rfl (by omega) (by decide) rfl hcat hdg kk
theorem xn_X6_161 {ρ : Type} {fh : ρ → XH} {QQ : XZ ρ → State → Prop} {mn : String} {cc : ByteArray} {nL : Nat} {ret : Option FieldType} {d : Nat} {Z : XZ ρ} {pc : Nat} {lv : List (Nat × AV)} {st : List AV} {h : XH} {f : Int → XH → Option ρ} (hd : decode cc pc = .ok (.new 161, 3)) (kk : ∀ r h1, XG fh QQ RX6 mn cc nL ret d Z (pc + 3) lv ((2, r) :: st) h1 (f r h1)) : XG fh QQ RX6 mn cc nL ret d Z pc lv st h (nw h 13 2 f) := x_new (C := RX15) 13 rfl in_X15 tyX15_ok (by decide) rfl (by decide) xfit_X15 q856 q857 q153 hd kk
noncomputable def F_X6_row_53 (x0 : Int) (x2 : Int) (x3 : Int) (h : XH) : Option XR := ob h x0 6 <| nm (hset h x0 4 x2) fun h1 => some (x3, h1)
theorem WF_X6_row_53 {d : Nat} {Z : XZ XR} (hdd : 3 ≤ d) : ∀ x0 x2 x3 h, XG xfh (xQ 3) RX6 "row" cX6_row 5 (some (.object "ExamSlips$Test")) d Z 53 [(0, (2, x0)), (2, (0, x2)), (3, (2, x3))] [] h (F_X6_row_53 x0 x2 x3 h) := by
  intro x0 x2 x3 h
  unfold F_X6_row_53
  refine x_aload_n 0 dX6_row_53 rfl rfl ?_
  refine x_iload_n 1 dX6_row_54 rfl rfl ?_
  refine xp_X6_62 dX6_row_55 fun h1 => ?_
  refine x_aload_n 2 dX6_row_58 rfl rfl ?_
  exact x_aret rfl (Or.inl ⟨_, rfl⟩) dX6_row_59
noncomputable def F_X6_row (x0 : Int) (x1 : Int) (x2 : Int) (h : XH) : Option XR := ob h x0 6 <| ai h (xv h x0 5) 8 x2 <| nm (α := Int) (xv h (xv h x0 5) x2) fun v1 => ob h x0 6 <| if w32 ((xv h x0 4) - x2) ≤ 1 then (F_X6_row_53 x0 x2 v1 h) else (ob h x0 6 <| na h 8 (w32 ((xv h x0 4) - x2)) fun r2 h3 => ob h3 x0 6 <| al h3 r2 8 <| cpg h3 8 (xv h3 x0 5) x2 r2 0 (xl h3 r2 : Int) <| eg h3 "ExamSlips$Test" (xv h3 x0 5) x2 (xl h3 r2 : Int) <| nm (hcpy h3 (xv h3 x0 5) x2 r2 0 (xl h3 r2 : Int)) fun h4 => nw h4 13 2 fun r5 h6 => pz r5 <| mb (F_X15_init r5 x1 r2 h6) fun r7 h8 => F_X6_row_53 x0 x2 r5 h8)
theorem WF_X6_row {d : Nat} {Z : XZ XR} (hdd : 3 ≤ d) : ∀ x0 x1 x2 h, XG xfh (xQ 3) RX6 "row" cX6_row 5 (some (.object "ExamSlips$Test")) d Z 0 [(0, (2, x0)), (1, (0, x1)), (2, (0, x2))] [] h (F_X6_row x0 x1 x2 h) := by
  intro x0 x1 x2 h
  unfold F_X6_row
  refine x_aload_n 0 dX6_row_0 rfl rfl ?_
  refine xg_X6_17 dX6_row_1 ?_
  refine x_iload_n 2 dX6_row_4 rfl rfl ?_
  refine x_aald 8 _ (by decide) (by decide) rfl dX6_row_5 ?_
  refine x_nmT fun v1 => ?_
  refine x_astore_n (lv' := [(3, (2, v1)), (0, (2, x0)), (1, (0, x1)), (2, (0, x2))]) dX6_row_6 rfl (by decide) rfl ?_
  refine x_aload_n 1 dX6_row_7 rfl rfl ?_
  refine xg_X6_62 dX6_row_8 ?_
  refine x_iload_n 3 dX6_row_11 rfl rfl ?_
  refine x_isub dX6_row_12 ?_
  refine x_ic dX6_row_13 (by decide) (by decide) ?_
  refine x_icmp_le 53 dX6_row_14 (by decide) (fun _ => ?_) (fun _ => ?_)
  · exact x_sub [1, 3, 0] rfl (WF_X6_row_53 hdd x0 x2 v1 h)
  · refine x_aload_n 1 dX6_row_17 rfl rfl ?_
    refine xg_X6_62 dX6_row_18 ?_
    refine x_iload_n 3 dX6_row_21 rfl rfl ?_
    refine x_isub dX6_row_22 ?_
    refine x_newq 8 (by decide) (by decide) rfl q538 q539 dX6_row_23 fun r2 h3 => ?_
    refine x_astore (lv' := [(4, (2, r2)), (3, (2, v1)), (0, (2, x0)), (1, (0, x1)), (2, (0, x2))]) dX6_row_26 (by decide) rfl ?_
    refine x_aload_n 2 dX6_row_28 rfl rfl ?_
    refine xg_X6_17 dX6_row_29 ?_
    refine x_iload_n 4 dX6_row_32 rfl rfl ?_
    refine x_aload 0 dX6_row_33 rfl ?_
    refine x_ic dX6_row_35 (by decide) (by decide) ?_
    refine x_aload 0 dX6_row_36 rfl ?_
    refine x_alen 8 (by decide) dX6_row_38 ?_
    refine x_copyq (E := "ExamSlips$Test") 8 (by decide) (by decide) rfl q855 q480 q479 q136 (by omega) (Nat.le_of_ble_eq_true rfl) dX6_row_39 fun h4 => ?_
    refine xn_X6_161 dX6_row_42 fun r5 h6 => ?_
    refine x_dup dX6_row_45 rfl ?_
    refine x_iload_n 3 dX6_row_46 rfl rfl ?_
    refine x_aload 0 dX6_row_47 rfl ?_
    refine cl_X6_163 (by omega) (Nat.le_of_ble_eq_true rfl) dX6_row_49 fun r7 h8 => ?_
    refine x_astore_n (lv' := [(3, (2, r5)), (4, (2, r2)), (0, (2, x0)), (1, (0, x1)), (2, (0, x2))]) dX6_row_52 rfl (by decide) rfl ?_
    exact x_sub [2, 4, 0] rfl (WF_X6_row_53 hdd x0 x2 r5 h8)
theorem SF_X6_row (l : Launch) {d : Nat} (hdd : 3 ≤ d) (x0 : Int) (x1 : Int) (x2 : Int) (h : XH) (hok : okH h) (ho : okXs (xn h) [(2, x0), (0, x1), (0, x2)]) (fin : XR) (hf : F_X6_row x0 x1 x2 h = some fin) : xSpec l yX6_row cX6_row 5 (some (.object "ExamSlips$Test")) d 3 [(2, x0), (0, x1), (0, x2)] h fin := x_enter (lv := [(0, (2, x0)), (1, (0, x1)), (2, (0, x2))]) (by decide) rfl rfl (Nat.le_of_ble_eq_true rfl) rfl (fun Z _ => WF_X6_row hdd x0 x1 x2 h) hok ho fin hf
theorem xp_J8_17 {ρ : Type} {fh : ρ → XH} {QQ : XZ ρ → State → Prop} {mn : String} {cc : ByteArray} {nL : Nat} {ret : Option FieldType} {d : Nat} {Z : XZ ρ} {pc : Nat} {lv : List (Nat × AV)} {st : List AV} {h : XH} {f : XH → Option ρ} {a x : Int} (hd : decode cc pc = .ok (.putfield 17, 3)) (kk : ∀ h1, XG fh QQ RJ8 mn cc nL ret d Z (pc + 3) lv st h1 (f h1)) : XG fh QQ RJ8 mn cc nL ret d Z pc lv ((2, x) :: (2, a) :: st) h (ob h a 7 (nm (hset h a 1 x) f)) := x_put (C := RX7) (ref := RJ8) 7 1 rfl in_X7 tyX7_ok nmX7 (by decide) rfl (by decide) (Or.inl rfl) (by decide) (xfit_X7 1 (by decide)) 2 rfl q651 hd kk
theorem xp_J8_24 {ρ : Type} {fh : ρ → XH} {QQ : XZ ρ → State → Prop} {mn : String} {cc : ByteArray} {nL : Nat} {ret : Option FieldType} {d : Nat} {Z : XZ ρ} {pc : Nat} {lv : List (Nat × AV)} {st : List AV} {h : XH} {f : XH → Option ρ} {a x : Int} (hd : decode cc pc = .ok (.putfield 24, 3)) (kk : ∀ h1, XG fh QQ RJ8 mn cc nL ret d Z (pc + 3) lv st h1 (f h1)) : XG fh QQ RJ8 mn cc nL ret d Z pc lv ((2, x) :: (2, a) :: st) h (ob h a 7 (nm (hset h a 2 x) f)) := x_put (C := RX7) (ref := RJ8) 7 2 rfl in_X7 tyX7_ok nmX7 (by decide) rfl (by decide) (Or.inl rfl) (by decide) (xfit_X7 2 (by decide)) 2 rfl q652 hd kk
theorem xp_J8_31 {ρ : Type} {fh : ρ → XH} {QQ : XZ ρ → State → Prop} {mn : String} {cc : ByteArray} {nL : Nat} {ret : Option FieldType} {d : Nat} {Z : XZ ρ} {pc : Nat} {lv : List (Nat × AV)} {st : List AV} {h : XH} {f : XH → Option ρ} {a x : Int} (hd : decode cc pc = .ok (.putfield 31, 3)) (kk : ∀ h1, XG fh QQ RJ8 mn cc nL ret d Z (pc + 3) lv st h1 (f h1)) : XG fh QQ RJ8 mn cc nL ret d Z pc lv ((2, x) :: (2, a) :: st) h (ob h a 7 (nm (hset h a 3 x) f)) := x_put (C := RX7) (ref := RJ8) 7 3 rfl in_X7 tyX7_ok nmX7 (by decide) rfl (by decide) (Or.inl rfl) (by decide) (xfit_X7 3 (by decide)) 2 rfl q649 hd kk
theorem xp_J8_7 {ρ : Type} {fh : ρ → XH} {QQ : XZ ρ → State → Prop} {mn : String} {cc : ByteArray} {nL : Nat} {ret : Option FieldType} {d : Nat} {Z : XZ ρ} {pc : Nat} {lv : List (Nat × AV)} {st : List AV} {h : XH} {f : XH → Option ρ} {a x : Int} (hd : decode cc pc = .ok (.putfield 7, 3)) (kk : ∀ h1, XG fh QQ RJ8 mn cc nL ret d Z (pc + 3) lv st h1 (f h1)) : XG fh QQ RJ8 mn cc nL ret d Z pc lv ((2, x) :: (2, a) :: st) h (ob h a 7 (nm (hset h a 0 x) f)) := x_put (C := RX7) (ref := RJ8) 7 0 rfl in_X7 tyX7_ok nmX7 (by decide) rfl (by decide) (Or.inl rfl) (by decide) (xfit_X7 0 (by decide)) 2 rfl q650 hd kk
noncomputable def F_J8_init_2_41 (x0 : Int) (x1 : Int) (x2 : Int) (x3 : Int) (h : XH) : Option XR := ob h x0 7 <| nm (hset h x0 3 x1) fun h1 => ob h1 x0 7 <| nm (hset h1 x0 0 x2) fun h2 => if x3 = 0 then (ob h2 x0 7 <| nm (hset h2 x0 2 0) fun h3 => some (0, h3)) else (some (0, h2))
theorem WF_J8_init_2_41 {d : Nat} {Z : XZ XR} (hdd : 1 ≤ d) : ∀ x0 x1 x2 x3 h, XG xfh (xQ 2) RJ8 "<init>" cJ8_init_2 5 none d Z 41 [(0, (2, x0)), (1, (2, x1)), (2, (2, x2)), (3, (0, x3))] [] h (F_J8_init_2_41 x0 x1 x2 x3 h) := by
  intro x0 x1 x2 x3 h
  unfold F_J8_init_2_41
  refine x_aload_n 0 dJ8_init_2_41 rfl rfl ?_
  refine x_aload_n 1 dJ8_init_2_42 rfl rfl ?_
  refine xp_J8_31 dJ8_init_2_43 fun h1 => ?_
  refine x_aload_n 0 dJ8_init_2_46 rfl rfl ?_
  refine x_aload_n 2 dJ8_init_2_47 rfl rfl ?_
  refine xp_J8_7 dJ8_init_2_48 fun h2 => ?_
  refine x_iload_n 3 dJ8_init_2_51 rfl rfl ?_
  refine x_if_ne 60 dJ8_init_2_52 (by decide) (fun _ => ?_) (fun _ => ?_)
  · exact x_vret rfl dJ8_init_2_60
  · refine x_aload_n 0 dJ8_init_2_55 rfl rfl ?_
    refine x_null dJ8_init_2_56 ?_
    refine xp_J8_24 dJ8_init_2_57 fun h3 => ?_
    exact x_vret rfl dJ8_init_2_60
noncomputable def F_J8_init_2 (x0 : Int) (x1 : Int) (x2 : Int) (x3 : Int) (x4 : Int) (h : XH) : Option XR := pz x0 <| ob h x0 7 <| nm (hset h x0 0 x0) fun h1 => ob h1 x0 7 <| nm (hset h1 x0 1 (xv h1 (-4) 0)) fun h2 => ob h2 x0 7 <| nm (hset h2 x0 2 (xv h2 (-5) 0)) fun h3 => if x4 = 0 then (ob h3 x0 7 <| nm (hset h3 x0 1 0) fun h4 => F_J8_init_2_41 x0 x1 x2 x3 h4) else (none)
theorem WF_J8_init_2 {d : Nat} {Z : XZ XR} (hdd : 1 ≤ d) : ∀ x0 x1 x2 x3 x4 h, XG xfh (xQ 2) RJ8 "<init>" cJ8_init_2 5 none d Z 0 [(0, (2, x0)), (1, (2, x1)), (2, (2, x2)), (3, (0, x3)), (4, (0, x4))] [] h (F_J8_init_2 x0 x1 x2 x3 x4 h) := by
  intro x0 x1 x2 x3 x4 h
  unfold F_J8_init_2
  refine x_aload_n 0 dJ8_init_2_0 rfl rfl ?_
  refine x_objinit q622 q176 q177 (by omega) (Nat.le_of_ble_eq_true rfl) dJ8_init_2_1 ?_
  refine x_aload_n 0 dJ8_init_2_4 rfl rfl ?_
  refine x_aload_n 0 dJ8_init_2_5 rfl rfl ?_
  refine xp_J8_7 dJ8_init_2_6 fun h1 => ?_
  refine x_aload_n 0 dJ8_init_2_9 rfl rfl ?_
  refine x_gstat (ref := RJ8) (-4) (by decide) rfl q623 dJ8_init_2_10 ?_
  refine xp_J8_17 dJ8_init_2_13 fun h2 => ?_
  refine x_aload_n 0 dJ8_init_2_16 rfl rfl ?_
  refine x_gstat (ref := RJ8) (-5) (by decide) rfl q625 dJ8_init_2_17 ?_
  refine xp_J8_24 dJ8_init_2_20 fun h3 => ?_
  refine x_iload 4 dJ8_init_2_23 rfl ?_
  refine x_if_eq 36 dJ8_init_2_25 (by decide) (fun _ => ?_) (fun _ => ?_)
  · refine x_aload_n 0 dJ8_init_2_36 rfl rfl ?_
    refine x_null dJ8_init_2_37 ?_
    refine xp_J8_17 dJ8_init_2_38 fun h4 => ?_
    exact x_sub [0, 1, 2, 3] rfl (WF_J8_init_2_41 hdd x0 x1 x2 x3 h4)
  · refine x_aload_n 0 dJ8_init_2_28 rfl rfl ?_
    exact x_none
theorem SF_J8_init_2 (l : Launch) {d : Nat} (hdd : 1 ≤ d) (x0 : Int) (x1 : Int) (x2 : Int) (x3 : Int) (x4 : Int) (h : XH) (hok : okH h) (ho : okXs (xn h) [(2, x0), (2, x1), (2, x2), (0, x3), (0, x4)]) (fin : XR) (hf : F_J8_init_2 x0 x1 x2 x3 x4 h = some fin) : xSpec l yJ8_init_2 cJ8_init_2 5 none d 2 [(2, x0), (2, x1), (2, x2), (0, x3), (0, x4)] h fin := x_enter (lv := [(0, (2, x0)), (1, (2, x1)), (2, (2, x2)), (3, (0, x3)), (4, (0, x4))]) (by decide) rfl rfl (Nat.le_of_ble_eq_true rfl) rfl (fun Z _ => WF_J8_init_2 hdd x0 x1 x2 x3 x4 h) hok ho fin hf
theorem cl_J9_16 {ρ : Type} {fh : ρ → XH} {QQ : XZ ρ → State → Prop} {mn : String} {cc : ByteArray} {nL : Nat} {ret : Option FieldType} {d : Nat} {Z : XZ ρ} {pc : Nat} {lv : List (Nat × AV)} {st : List AV} {h : XH} {g : Int → XH → Option ρ} {b a0 a1 a2 a3 : Int} (hdd : 2 ≤ d) (hcat : (st.map fun v => if v.1 = 1 then 2 else 1).sum ≤ 8) (hdg : decode cc pc = .ok (.invokespecial 16, 3)) (kk : ∀ r h1, XG fh QQ RJ9 mn cc nL ret d Z (pc + 3) lv st h1 (g r h1)) : XG fh QQ RJ9 mn cc nL ret d Z pc lv ((0, a3) :: (0, a2) :: (2, a1) :: (2, a0) :: (2, b) :: st) h (pz b (mb (F_J8_init_2 b a0 a1 a2 a3 h) g)) :=
  x_callIv [(2, a0), (2, a1), (0, a2), (0, a3)] 4 (WF_J8_init_2 (Z := (Z.1, Z.2.1, ((0, h), h))) (Nat.le_refl 1) b a0 a1 a2 a3 h).1 (fun hok ho fin hf => SF_J8_init_2 (yL Z) (Nat.le_refl 1) b a0 a1 a2 a3 h hok ho fin hf) (lw_meth q645) q140 q643 q644 rfl ⟨by decide +kernel, by decide +kernel, by decide +kernel⟩ rfl (by omega) (by decide) rfl hcat hdg kk
noncomputable def F_J9_init (x0 : Int) (x1 : Int) (x2 : Int) (x3 : Int) (x4 : Int) (h : XH) : Option XR := pz x0 <| mb (F_J8_init_2 x0 x1 x2 x3 x4 h) fun r1 h2 => some (0, h2)
theorem WF_J9_init {d : Nat} {Z : XZ XR} (hdd : 2 ≤ d) : ∀ x0 x1 x2 x3 x4 h, XG xfh (xQ 2) RJ9 "<init>" cJ9_init 5 none d Z 0 [(0, (2, x0)), (1, (2, x1)), (2, (2, x2)), (3, (0, x3)), (4, (0, x4))] [] h (F_J9_init x0 x1 x2 x3 x4 h) := by
  intro x0 x1 x2 x3 x4 h
  unfold F_J9_init
  refine x_aload_n 0 dJ9_init_0 rfl rfl ?_
  refine x_aload_n 1 dJ9_init_1 rfl rfl ?_
  refine x_aload_n 2 dJ9_init_2 rfl rfl ?_
  refine x_iload_n 3 dJ9_init_3 rfl rfl ?_
  refine x_iload 4 dJ9_init_4 rfl ?_
  refine cl_J9_16 (by omega) (Nat.le_of_ble_eq_true rfl) dJ9_init_6 fun r1 h2 => ?_
  exact x_vret rfl dJ9_init_9
theorem SF_J9_init (l : Launch) {d : Nat} (hdd : 2 ≤ d) (x0 : Int) (x1 : Int) (x2 : Int) (x3 : Int) (x4 : Int) (h : XH) (hok : okH h) (ho : okXs (xn h) [(2, x0), (2, x1), (2, x2), (0, x3), (0, x4)]) (fin : XR) (hf : F_J9_init x0 x1 x2 x3 x4 h = some fin) : xSpec l yJ9_init cJ9_init 5 none d 2 [(2, x0), (2, x1), (2, x2), (0, x3), (0, x4)] h fin := x_enter (lv := [(0, (2, x0)), (1, (2, x1)), (2, (2, x2)), (3, (0, x3)), (4, (0, x4))]) (by decide) rfl rfl (Nat.le_of_ble_eq_true rfl) rfl (fun Z _ => WF_J9_init hdd x0 x1 x2 x3 x4 h) hok ho fin hf
theorem cl_X7_1 {ρ : Type} {fh : ρ → XH} {QQ : XZ ρ → State → Prop} {mn : String} {cc : ByteArray} {nL : Nat} {ret : Option FieldType} {d : Nat} {Z : XZ ρ} {pc : Nat} {lv : List (Nat × AV)} {st : List AV} {h : XH} {g : Int → XH → Option ρ} {b a0 a1 a2 a3 : Int} (hdd : 3 ≤ d) (hcat : (st.map fun v => if v.1 = 1 then 2 else 1).sum ≤ 8) (hdg : decode cc pc = .ok (.invokespecial 1, 3)) (kk : ∀ r h1, XG fh QQ RX7 mn cc nL ret d Z (pc + 3) lv st h1 (g r h1)) : XG fh QQ RX7 mn cc nL ret d Z pc lv ((0, a3) :: (0, a2) :: (2, a1) :: (2, a0) :: (2, b) :: st) h (pz b (mb (F_J9_init b a0 a1 a2 a3 h) g)) :=
  x_callIv [(2, a0), (2, a1), (0, a2), (0, a3)] 4 (WF_J9_init (Z := (Z.1, Z.2.1, ((0, h), h))) (Nat.le_refl 2) b a0 a1 a2 a3 h).1 (fun hok ho fin hf => SF_J9_init (yL Z) (Nat.le_refl 2) b a0 a1 a2 a3 h hok ho fin hf) (lw_meth q642) q141 q640 q641 rfl ⟨by decide +kernel, by decide +kernel, by decide +kernel⟩ rfl (by omega) (by decide) rfl hcat hdg kk
theorem xpF_X7_7 {ρ : Type} {fh : ρ → XH} {QQ : XZ ρ → State → Prop} {cc : ByteArray} {nL : Nat} {ret : Option FieldType} {d : Nat} {Z : XZ ρ} {pc : Nat} {lv : List (Nat × AV)} {st : List AV} {h : XH} {f : XH → Option ρ} {a x : Int} (hd : decode cc pc = .ok (.putfield 7, 3)) (kk : ∀ h1, XG fh QQ RX7 "<init>" cc nL ret d Z (pc + 3) lv st h1 (f h1)) : XG fh QQ RX7 "<init>" cc nL ret d Z pc lv ((0, x) :: (2, a) :: st) h (ob h a 7 (nm (hset h a 6 x) f)) := x_putF (C := RX7) (ref := RX7) 7 6 rfl in_X7 tyX7_ok nmX7 (by decide) rfl (by decide) (Or.inl rfl) rfl rfl rfl (xfit_X7 6 (by decide)) 0 rfl q646 hd kk
noncomputable def F_X7_init (x0 : Int) (x1 : Int) (h : XH) : Option XR := pz x0 <| mb (F_J9_init x0 0 0 0 0 h) fun r1 h2 => ob h2 x0 7 <| nm (hset h2 x0 6 x1) fun h3 => some (0, h3)
theorem WF_X7_init {d : Nat} {Z : XZ XR} (hdd : 3 ≤ d) : ∀ x0 x1 h, XG xfh (xQ 2) RX7 "<init>" cX7_init 2 none d Z 0 [(0, (2, x0)), (1, (0, x1))] [] h (F_X7_init x0 x1 h) := by
  intro x0 x1 h
  unfold F_X7_init
  refine x_aload_n 0 dX7_init_0 rfl rfl ?_
  refine x_null dX7_init_1 ?_
  refine x_null dX7_init_2 ?_
  refine x_ic dX7_init_3 (by decide) (by decide) ?_
  refine x_ic dX7_init_4 (by decide) (by decide) ?_
  refine cl_X7_1 (by omega) (Nat.le_of_ble_eq_true rfl) dX7_init_5 fun r1 h2 => ?_
  refine x_aload_n 0 dX7_init_8 rfl rfl ?_
  refine x_iload_n 1 dX7_init_9 rfl rfl ?_
  refine xpF_X7_7 dX7_init_10 fun h3 => ?_
  exact x_vret rfl dX7_init_13
theorem SF_X7_init (l : Launch) {d : Nat} (hdd : 3 ≤ d) (x0 : Int) (x1 : Int) (h : XH) (hok : okH h) (ho : okXs (xn h) [(2, x0), (0, x1)]) (fin : XR) (hf : F_X7_init x0 x1 h = some fin) : xSpec l yX7_init cX7_init 2 none d 2 [(2, x0), (0, x1)] h fin := x_enter (lv := [(0, (2, x0)), (1, (0, x1))]) (by decide) rfl rfl (Nat.le_of_ble_eq_true rfl) rfl (fun Z _ => WF_X7_init hdd x0 x1 h) hok ho fin hf
