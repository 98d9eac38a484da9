/-! printed by tools/genx.py: intAt, row -/
set_option maxRecDepth 100000
set_option maxHeartbeats 4000000
noncomputable def F_X0_intAt (x0 : Int) (x1 : Int) (h : XH) : Option XR3 := aiU h x0 x1 (some (true, 0, hbump h)) <| aiU h x0 (w32 (x1 + 1)) (some (true, 0, hbump h)) <| aiU h x0 (w32 (x1 + 2)) (some (true, 0, hbump h)) <| aiU h x0 (w32 (x1 + 3)) (some (true, 0, hbump h)) <| some (false, ior (ior (ior (ishl (xv h x0 x1) 24) (ishl (iand (xv h x0 (w32 (x1 + 1))) 255) 16)) (ishl (iand (xv h x0 (w32 (x1 + 2))) 255) 8)) (iand (xv h x0 (w32 (x1 + 3))) 255), h)
theorem WF_X0_intAt {d : Nat} {Z : XZ XR3} (hdd : 170 ≤ d) : ∀ x0 x1 h, XG xf3 (xTA 0) RX0 "intAt" cX0_intAt 2 (some .int) d Z 0 [(0, (2, x0)), (1, (0, x1))] [] h (F_X0_intAt x0 x1 h) := by
  intro x0 x1 h
  unfold F_X0_intAt
  refine x_aload_n 0 dX0_intAt_0 rfl rfl ?_
  refine x_iload_n 1 dX0_intAt_1 rfl rfl ?_
  refine x_baldT xTA_q (by omega) (Nat.le_of_ble_eq_true rfl) dX0_intAt_2 ?_ x3A_out
  refine x_bp dX0_intAt_3 (by decide) (by decide) ?_
  refine x_ishl dX0_intAt_5 ?_
  refine x_aload_n 0 dX0_intAt_6 rfl rfl ?_
  refine x_iload_n 1 dX0_intAt_7 rfl rfl ?_
  refine x_ic dX0_intAt_8 (by decide) (by decide) ?_
  refine x_iadd dX0_intAt_9 ?_
  refine x_baldT xTA_q (by omega) (Nat.le_of_ble_eq_true rfl) dX0_intAt_10 ?_ x3A_out
  refine x_sp dX0_intAt_11 (by decide) (by decide) ?_
  refine x_iand dX0_intAt_14 ?_
  refine x_bp dX0_intAt_15 (by decide) (by decide) ?_
  refine x_ishl dX0_intAt_17 ?_
  refine x_ior dX0_intAt_18 ?_
  refine x_aload_n 0 dX0_intAt_19 rfl rfl ?_
  refine x_iload_n 1 dX0_intAt_20 rfl rfl ?_
  refine x_ic dX0_intAt_21 (by decide) (by decide) ?_
  refine x_iadd dX0_intAt_22 ?_
  refine x_baldT xTA_q (by omega) (Nat.le_of_ble_eq_true rfl) dX0_intAt_23 ?_ x3A_out
  refine x_sp dX0_intAt_24 (by decide) (by decide) ?_
  refine x_iand dX0_intAt_27 ?_
  refine x_bp dX0_intAt_28 (by decide) (by decide) ?_
  refine x_ishl dX0_intAt_30 ?_
  refine x_ior dX0_intAt_31 ?_
  refine x_aload_n 0 dX0_intAt_32 rfl rfl ?_
  refine x_iload_n 1 dX0_intAt_33 rfl rfl ?_
  refine x_ic dX0_intAt_34 (by decide) (by decide) ?_
  refine x_iadd dX0_intAt_35 ?_
  refine x_baldT xTA_q (by omega) (Nat.le_of_ble_eq_true rfl) dX0_intAt_36 ?_ x3A_out
  refine x_sp dX0_intAt_37 (by decide) (by decide) ?_
  refine x_iand dX0_intAt_40 ?_
  refine x_ior dX0_intAt_41 ?_
  exact x3A_ret (Or.inl rfl) (fun _ => x_iret rfl dX0_intAt_42)
theorem SF_X0_intAt (l : Launch) {d : Nat} (hdd : 170 ≤ d) (x0 : Int) (x1 : Int) (h : XH) (hok : okH h) (ho : okXs (xn h) [(2, x0), (0, x1)]) (hst : l.stackTraces = false) (fin : XR3) (hf : F_X0_intAt x0 x1 h = some fin) : xSpecA l yX0_intAt cX0_intAt 2 (some .int) d 0 [(2, x0), (0, x1)] h fin := xA_enter (lv := [(0, (2, x0)), (1, (0, x1))]) (by decide) rfl rfl (Nat.le_of_ble_eq_true rfl) rfl (fun Z _ => WF_X0_intAt hdd x0 x1 h) hst hok ho fin hf
theorem cta_X0_376 {hh : List (Nat × Nat × Nat × Nat)} {rk : Nat} {mn : String} {cc : ByteArray} {nL : Nat} {ret : Option FieldType} {d : Nat} {Z : XZ XR} {pc : Nat} {lv : List (Nat × AV)} {st : List AV} {h : XH} {g k : Int → XH → Option XR} {a0 a1 : Int} (hdd : 171 ≤ d) (hcat : (st.map fun v => if v.1 = 1 then 2 else 1).sum ≤ 8) (hdg : decode cc pc = .ok (.invokestatic 376, 3)) (kk : ∀ r h1, XG xfh (xQW hh rk) RX0 mn cc nL ret d Z (pc + 3) lv ((0, r) :: st) h1 (g r h1)) (kx : ∀ r h1, XTA xfh (xQW hh rk) RX0 mn cc nL ret d Z pc lv h1 (k r h1)) : XG xfh (xQW hh rk) RX0 mn cc nL ret d Z pc lv ((0, a1) :: (2, a0) :: st) h (mb3 (F_X0_intAt a0 a1 h) g k) := by
  have hm := (WF_X0_intAt (Z := (Z.1, Z.2.1, ((false, 0, h), h))) (Nat.le_refl 170) a0 a1 h).1
  have key : (yL Z).stackTraces = false → XG xfh (xQW hh rk) RX0 mn cc nL ret d Z pc lv ((0, a1) :: (2, a0) :: st) h (mb3 (F_X0_intAt a0 a1 h) g k) := fun hl => x3_callSi [(2, a0), (0, a1)] 2 hm (fun hok ho fin hf => SF_X0_intAt (yL Z) (Nat.le_refl 170) a0 a1 h hok ho hl fin hf) (lw_S q1494 q1495 q124 q1496) ⟨by decide +kernel, by decide +kernel, by decide +kernel⟩ rfl (by omega) (by decide) rfl hcat hdg kk kx
  refine ⟨XM.mb3 hm (fun r h1 => (kk r h1).1) (fun r h1 => (kx r h1).1), fun X ad H locs ls cells slots hS hl hlv hst hf => ?_⟩
  by_cases hT : (yL Z).stackTraces = false
  · exact (key hT).2 X ad H locs ls cells slots hS hl hlv hst hf
  · exact fun T hT0 X0 => ⟨_, Steps.refl _, fun q => absurd q.1 hT⟩
theorem xp_X0_373 {ρ : Type} {fh : ρ → XH} {QQ : XZ ρ → State → Prop} {mn : String} {cc : ByteArray} {nL : Nat} {ret : Option FieldType} {d : Nat} {Z : XZ ρ} {pc : Nat} {lv : List (Nat × AV)} {st : List AV} {h : XH} {f : XH → Option ρ} {a x : Int} (hd : decode cc pc = .ok (.putfield 373, 3)) (kk : ∀ h1, XG fh QQ RX0 mn cc nL ret d Z (pc + 3) lv st h1 (f h1)) : XG fh QQ RX0 mn cc nL ret d Z pc lv ((0, x) :: (2, a) :: st) h (ob h a 1 (nm (hset h a 7 x) f)) := x_put (C := RX0) (ref := RX0) 1 7 rfl in_X0 tyX0_ok nmX0 (by decide) rfl (by decide) (Or.inl rfl) (by decide) (xfit_X0 7 (by decide)) 0 rfl q301 hd kk
abbrev hhX0_row : List (Nat × Nat × Nat × Nat) := [(58, 65, 163, 380), (58, 65, 266, 0), (163, 168, 266, 0), (266, 268, 266, 0)]
noncomputable def F_X0_row_366 (K49 : Int → Int → Int → Int → XH → Option XR) (x0 : Int) (x1 : Int) (x2 : Int) (x3 : Int) (h : XH) : Option XR := nm (w32 (x3 + 4)) fun v1 => K49 x0 x1 x2 v1 h
theorem WF_X0_row_366 {d : Nat} {Z : XZ XR} (hdd : 171 ≤ d) {K49 : Int → Int → Int → Int → XH → Option XR} (hK49 : ∀ x0 x1 x2 x3 h, XG xfh (xQW hhX0_row 0) RX0 "row" cX0_row 8 (some .int) d Z 49 [(0, (2, x0)), (1, (2, x1)), (2, (0, x2)), (3, (0, x3))] [] h (K49 x0 x1 x2 x3 h)) : ∀ x0 x1 x2 x3 h, XG xfh (xQW hhX0_row 0) RX0 "row" cX0_row 8 (some .int) d Z 366 [(0, (2, x0)), (1, (2, x1)), (2, (0, x2)), (3, (0, x3))] [] h (F_X0_row_366 K49 x0 x1 x2 x3 h) := by
  intro x0 x1 x2 x3 h
  unfold F_X0_row_366
  refine x_iinc 3 dX0_row_366 rfl (by decide) fun v1 => x_lv (lv' := [(3, (0, v1)), (0, (2, x0)), (1, (2, x1)), (2, (0, x2))]) rfl ?_
  refine x_goto 49 dX0_row_369 (by decide) ?_
  exact x_sub [1, 2, 3, 0] rfl (hK49 x0 x1 x2 v1 h)
noncomputable def F_X0_row_128 (K49 : Int → Int → Int → Int → XH → Option XR) (x0 : Int) (x1 : Int) (x2 : Int) (x3 : Int) (x5 : Int) (h : XH) : Option XR := nm (α := Int) (if x5 = 0 then 0 else 1) fun v1 => nm (α := Int) (w32 (x2 + v1)) fun v2 => ob h x0 1 <| nm (α := Int) (if x5 = 0 then 1 else 0) fun v3 => ob h x0 1 <| nm (hset h x0 7 (w32 ((xv h x0 7) + v3))) fun h4 => F_X0_row_366 K49 x0 x1 v2 x3 h4
theorem WF_X0_row_128 {d : Nat} {Z : XZ XR} (hdd : 171 ≤ d) {K49 : Int → Int → Int → Int → XH → Option XR} (hK49 : ∀ x0 x1 x2 x3 h, XG xfh (xQW hhX0_row 0) RX0 "row" cX0_row 8 (some .int) d Z 49 [(0, (2, x0)), (1, (2, x1)), (2, (0, x2)), (3, (0, x3))] [] h (K49 x0 x1 x2 x3 h)) : ∀ x0 x1 x2 x3 x5 h, XG xfh (xQW hhX0_row 0) RX0 "row" cX0_row 8 (some .int) d Z 128 [(0, (2, x0)), (1, (2, x1)), (2, (0, x2)), (3, (0, x3)), (5, (0, x5))] [] h (F_X0_row_128 K49 x0 x1 x2 x3 x5 h) := by
  intro x0 x1 x2 x3 x5 h
  unfold F_X0_row_128
  refine x_iload_n 2 dX0_row_128 rfl rfl ?_
  refine x_iload 4 dX0_row_129 rfl ?_
  refine x_join 139 (fun v1 => [(0, v1), (0, x2)]) (fun v1 => ?_) (fun hJ => ?_)
  · refine x_iadd dX0_row_139 ?_
    refine x_nmT fun v2 => ?_
    refine x_istore_n (lv' := [(2, (0, v2)), (0, (2, x0)), (1, (2, x1)), (3, (0, x3)), (5, (0, x5))]) dX0_row_140 rfl (by decide) rfl ?_
    refine x_aload_n 1 dX0_row_141 rfl rfl ?_
    refine x_dup dX0_row_142 rfl ?_
    refine xg_X0_373 dX0_row_143 ?_
    refine x_iload 4 dX0_row_146 rfl ?_
    refine x_join 156 (fun v3 => [(0, v3), (0, xv h x0 7), (2, x0)]) (fun v3 => ?_) (fun hJ => ?_)
    · refine x_iadd dX0_row_156 ?_
      refine xp_X0_373 dX0_row_157 fun h4 => ?_
      refine x_goto 366 dX0_row_160 (by decide) ?_
      exact x_sub [1, 2, 0, 3] rfl (WF_X0_row_366 hdd hK49 x0 x1 v2 x3 h4)
    · refine x_if_eqF 155 dX0_row_148 (by decide) (fun _ => ?_) (fun _ => ?_)
      · refine x_ic dX0_row_155 (by decide) (by decide) ?_
        exact hJ _
      · refine x_ic dX0_row_151 (by decide) (by decide) ?_
        refine x_goto 156 dX0_row_152 (by decide) ?_
        exact hJ _
  · refine x_if_eqF 138 dX0_row_131 (by decide) (fun _ => ?_) (fun _ => ?_)
    · refine x_ic dX0_row_138 (by decide) (by decide) ?_
      exact hJ _
    · refine x_ic dX0_row_134 (by decide) (by decide) ?_
      refine x_goto 139 dX0_row_135 (by decide) ?_
      exact hJ _
noncomputable def F_X0_row_91 (K49 : Int → Int → Int → Int → XH → Option XR) (s0 : Int) (x0 : Int) (x1 : Int) (x2 : Int) (x3 : Int) (x4 : Int) (h : XH) : Option XR := if s0 = 0 then (F_X0_row_128 K49 x0 x1 x2 x3 s0 h) else (ob h x0 1 <| ob h (xv h x0 0) 2 <| ob h x0 1 <| ob h (xv h x0 0) 2 <| ai h (xv h (xv h x0 0) 5) 0 (xv h (xv h x0 0) 6) <| nm (hset h (xv h (xv h x0 0) 5) (xv h (xv h x0 0) 6) x4) fun h1 => ob h1 x0 1 <| ob h1 (xv h1 x0 0) 2 <| ob h1 (xv h1 x0 0) 2 <| nm (hset h1 (xv h1 x0 0) 6 (w32 ((xv h1 (xv h1 x0 0) 6) + 1))) fun h2 => F_X0_row_128 K49 x0 x1 x2 x3 s0 h2)
theorem WF_X0_row_91 {d : Nat} {Z : XZ XR} (hdd : 171 ≤ d) {K49 : Int → Int → Int → Int → XH → Option XR} (hK49 : ∀ x0 x1 x2 x3 h, XG xfh (xQW hhX0_row 0) RX0 "row" cX0_row 8 (some .int) d Z 49 [(0, (2, x0)), (1, (2, x1)), (2, (0, x2)), (3, (0, x3))] [] h (K49 x0 x1 x2 x3 h)) : ∀ s0 x0 x1 x2 x3 x4 h, XG xfh (xQW hhX0_row 0) RX0 "row" cX0_row 8 (some .int) d Z 91 [(0, (2, x0)), (1, (2, x1)), (2, (0, x2)), (3, (0, x3)), (4, (0, x4))] [(0, s0)] h (F_X0_row_91 K49 s0 x0 x1 x2 x3 x4 h) := by
  intro s0 x0 x1 x2 x3 x4 h
  unfold F_X0_row_91
  refine x_istore (lv' := [(5, (0, s0)), (0, (2, x0)), (1, (2, x1)), (2, (0, x2)), (3, (0, x3)), (4, (0, x4))]) dX0_row_91 (by decide) rfl ?_
  refine x_iload 0 dX0_row_93 rfl ?_
  refine x_if_eq 128 dX0_row_95 (by decide) (fun _ => ?_) (fun _ => ?_)
  · exact x_sub [1, 2, 3, 4, 0] rfl (WF_X0_row_128 hdd hK49 x0 x1 x2 x3 s0 h)
  · refine x_aload_n 1 dX0_row_98 rfl rfl ?_
    refine xg_X0_17 dX0_row_99 ?_
    refine xg_X0_364 dX0_row_102 ?_
    refine x_aload_n 1 dX0_row_105 rfl rfl ?_
    refine xg_X0_17 dX0_row_106 ?_
    refine xg_X0_361 dX0_row_109 ?_
    refine x_iload 5 dX0_row_112 rfl ?_
    refine x_iast dX0_row_114 fun h1 => ?_
    refine x_aload_n 1 dX0_row_115 rfl rfl ?_
    refine xg_X0_17 dX0_row_116 ?_
    refine x_dup dX0_row_119 rfl ?_
    refine xg_X0_361 dX0_row_120 ?_
    refine x_ic dX0_row_123 (by decide) (by decide) ?_
    refine x_iadd dX0_row_124 ?_
    refine xp_X0_361 dX0_row_125 fun h2 => ?_
    exact x_sub [1, 2, 3, 4, 0] rfl (WF_X0_row_128 hdd hK49 x0 x1 x2 x3 s0 h2)
noncomputable def F_X0_row_90 (K49 : Int → Int → Int → Int → XH → Option XR) (x0 : Int) (x1 : Int) (x2 : Int) (x3 : Int) (x4 : Int) (h : XH) : Option XR := F_X0_row_91 K49 0 x0 x1 x2 x3 x4 h
theorem WF_X0_row_90 {d : Nat} {Z : XZ XR} (hdd : 171 ≤ d) {K49 : Int → Int → Int → Int → XH → Option XR} (hK49 : ∀ x0 x1 x2 x3 h, XG xfh (xQW hhX0_row 0) RX0 "row" cX0_row 8 (some .int) d Z 49 [(0, (2, x0)), (1, (2, x1)), (2, (0, x2)), (3, (0, x3))] [] h (K49 x0 x1 x2 x3 h)) : ∀ x0 x1 x2 x3 x4 h, XG xfh (xQW hhX0_row 0) RX0 "row" cX0_row 8 (some .int) d Z 90 [(0, (2, x0)), (1, (2, x1)), (2, (0, x2)), (3, (0, x3)), (4, (0, x4))] [] h (F_X0_row_90 K49 x0 x1 x2 x3 x4 h) := by
  intro x0 x1 x2 x3 x4 h
  unfold F_X0_row_90
  refine x_ic dX0_row_90 (by decide) (by decide) ?_
  exact x_sub [0, 1, 2, 3, 4] rfl (WF_X0_row_91 hdd hK49 0 x0 x1 x2 x3 x4 h)
noncomputable def F_X0_row_231 (K49 : Int → Int → Int → Int → XH → Option XR) (x0 : Int) (x1 : Int) (x2 : Int) (x3 : Int) (x5 : Int) (h : XH) : Option XR := nm (α := Int) (if x5 = 0 then 0 else 1) fun v1 => nm (α := Int) (w32 (x2 + v1)) fun v2 => ob h x0 1 <| nm (α := Int) (if x5 = 0 then 1 else 0) fun v3 => ob h x0 1 <| nm (hset h x0 7 (w32 ((xv h x0 7) + v3))) fun h4 => F_X0_row_366 K49 x0 x1 v2 x3 h4
theorem WF_X0_row_231 {d : Nat} {Z : XZ XR} (hdd : 171 ≤ d) {K49 : Int → Int → Int → Int → XH → Option XR} (hK49 : ∀ x0 x1 x2 x3 h, XG xfh (xQW hhX0_row 0) RX0 "row" cX0_row 8 (some .int) d Z 49 [(0, (2, x0)), (1, (2, x1)), (2, (0, x2)), (3, (0, x3))] [] h (K49 x0 x1 x2 x3 h)) : ∀ x0 x1 x2 x3 x5 h, XG xfh (xQW hhX0_row 0) RX0 "row" cX0_row 8 (some .int) d Z 231 [(0, (2, x0)), (1, (2, x1)), (2, (0, x2)), (3, (0, x3)), (5, (0, x5))] [] h (F_X0_row_231 K49 x0 x1 x2 x3 x5 h) := by
  intro x0 x1 x2 x3 x5 h
  unfold F_X0_row_231
  refine x_iload_n 2 dX0_row_231 rfl rfl ?_
  refine x_iload 4 dX0_row_232 rfl ?_
  refine x_join 242 (fun v1 => [(0, v1), (0, x2)]) (fun v1 => ?_) (fun hJ => ?_)
  · refine x_iadd dX0_row_242 ?_
    refine x_nmT fun v2 => ?_
    refine x_istore_n (lv' := [(2, (0, v2)), (0, (2, x0)), (1, (2, x1)), (3, (0, x3)), (5, (0, x5))]) dX0_row_243 rfl (by decide) rfl ?_
    refine x_aload_n 1 dX0_row_244 rfl rfl ?_
    refine x_dup dX0_row_245 rfl ?_
    refine xg_X0_373 dX0_row_246 ?_
    refine x_iload 4 dX0_row_249 rfl ?_
    refine x_join 259 (fun v3 => [(0, v3), (0, xv h x0 7), (2, x0)]) (fun v3 => ?_) (fun hJ => ?_)
    · refine x_iadd dX0_row_259 ?_
      refine xp_X0_373 dX0_row_260 fun h4 => ?_
      refine x_goto 366 dX0_row_263 (by decide) ?_
      exact x_sub [1, 2, 0, 3] rfl (WF_X0_row_366 hdd hK49 x0 x1 v2 x3 h4)
    · refine x_if_eqF 258 dX0_row_251 (by decide) (fun _ => ?_) (fun _ => ?_)
      · refine x_ic dX0_row_258 (by decide) (by decide) ?_
        exact hJ _
      · refine x_ic dX0_row_254 (by decide) (by decide) ?_
        refine x_goto 259 dX0_row_255 (by decide) ?_
        exact hJ _
  · refine x_if_eqF 241 dX0_row_234 (by decide) (fun _ => ?_) (fun _ => ?_)
    · refine x_ic dX0_row_241 (by decide) (by decide) ?_
      exact hJ _
    · refine x_ic dX0_row_237 (by decide) (by decide) ?_
      refine x_goto 242 dX0_row_238 (by decide) ?_
      exact hJ _
noncomputable def F_X0_row_194 (K49 : Int → Int → Int → Int → XH → Option XR) (s0 : Int) (x0 : Int) (x1 : Int) (x2 : Int) (x3 : Int) (x4 : Int) (h : XH) : Option XR := if s0 = 0 then (F_X0_row_231 K49 x0 x1 x2 x3 s0 h) else (ob h x0 1 <| ob h (xv h x0 0) 2 <| ob h x0 1 <| ob h (xv h x0 0) 2 <| ai h (xv h (xv h x0 0) 5) 0 (xv h (xv h x0 0) 6) <| nm (hset h (xv h (xv h x0 0) 5) (xv h (xv h x0 0) 6) x4) fun h1 => ob h1 x0 1 <| ob h1 (xv h1 x0 0) 2 <| ob h1 (xv h1 x0 0) 2 <| nm (hset h1 (xv h1 x0 0) 6 (w32 ((xv h1 (xv h1 x0 0) 6) + 1))) fun h2 => F_X0_row_231 K49 x0 x1 x2 x3 s0 h2)
theorem WF_X0_row_194 {d : Nat} {Z : XZ XR} (hdd : 171 ≤ d) {K49 : Int → Int → Int → Int → XH → Option XR} (hK49 : ∀ x0 x1 x2 x3 h, XG xfh (xQW hhX0_row 0) RX0 "row" cX0_row 8 (some .int) d Z 49 [(0, (2, x0)), (1, (2, x1)), (2, (0, x2)), (3, (0, x3))] [] h (K49 x0 x1 x2 x3 h)) : ∀ s0 x0 x1 x2 x3 x4 h, XG xfh (xQW hhX0_row 0) RX0 "row" cX0_row 8 (some .int) d Z 194 [(0, (2, x0)), (1, (2, x1)), (2, (0, x2)), (3, (0, x3)), (4, (0, x4))] [(0, s0)] h (F_X0_row_194 K49 s0 x0 x1 x2 x3 x4 h) := by
  intro s0 x0 x1 x2 x3 x4 h
  unfold F_X0_row_194
  refine x_istore (lv' := [(5, (0, s0)), (0, (2, x0)), (1, (2, x1)), (2, (0, x2)), (3, (0, x3)), (4, (0, x4))]) dX0_row_194 (by decide) rfl ?_
  refine x_iload 0 dX0_row_196 rfl ?_
  refine x_if_eq 231 dX0_row_198 (by decide) (fun _ => ?_) (fun _ => ?_)
  · exact x_sub [1, 2, 3, 4, 0] rfl (WF_X0_row_231 hdd hK49 x0 x1 x2 x3 s0 h)
  · refine x_aload_n 1 dX0_row_201 rfl rfl ?_
    refine xg_X0_17 dX0_row_202 ?_
    refine xg_X0_364 dX0_row_205 ?_
    refine x_aload_n 1 dX0_row_208 rfl rfl ?_
    refine xg_X0_17 dX0_row_209 ?_
    refine xg_X0_361 dX0_row_212 ?_
    refine x_iload 5 dX0_row_215 rfl ?_
    refine x_iast dX0_row_217 fun h1 => ?_
    refine x_aload_n 1 dX0_row_218 rfl rfl ?_
    refine xg_X0_17 dX0_row_219 ?_
    refine x_dup dX0_row_222 rfl ?_
    refine xg_X0_361 dX0_row_223 ?_
    refine x_ic dX0_row_226 (by decide) (by decide) ?_
    refine x_iadd dX0_row_227 ?_
    refine xp_X0_361 dX0_row_228 fun h2 => ?_
    exact x_sub [1, 2, 3, 4, 0] rfl (WF_X0_row_231 hdd hK49 x0 x1 x2 x3 s0 h2)
noncomputable def F_X0_row_193 (K49 : Int → Int → Int → Int → XH → Option XR) (x0 : Int) (x1 : Int) (x2 : Int) (x3 : Int) (x4 : Int) (h : XH) : Option XR := F_X0_row_194 K49 0 x0 x1 x2 x3 x4 h
theorem WF_X0_row_193 {d : Nat} {Z : XZ XR} (hdd : 171 ≤ d) {K49 : Int → Int → Int → Int → XH → Option XR} (hK49 : ∀ x0 x1 x2 x3 h, XG xfh (xQW hhX0_row 0) RX0 "row" cX0_row 8 (some .int) d Z 49 [(0, (2, x0)), (1, (2, x1)), (2, (0, x2)), (3, (0, x3))] [] h (K49 x0 x1 x2 x3 h)) : ∀ x0 x1 x2 x3 x4 h, XG xfh (xQW hhX0_row 0) RX0 "row" cX0_row 8 (some .int) d Z 193 [(0, (2, x0)), (1, (2, x1)), (2, (0, x2)), (3, (0, x3)), (4, (0, x4))] [] h (F_X0_row_193 K49 x0 x1 x2 x3 x4 h) := by
  intro x0 x1 x2 x3 x4 h
  unfold F_X0_row_193
  refine x_ic dX0_row_193 (by decide) (by decide) ?_
  exact x_sub [0, 1, 2, 3, 4] rfl (WF_X0_row_194 hdd hK49 0 x0 x1 x2 x3 x4 h)
noncomputable def F_X0_row_372 (x0 : Int) (x2 : Int) (h : XH) : Option XR := ob h x0 1 <| mb (F_X0_tell x0 x2 h) fun r1 h2 => some (r1, h2)
theorem WF_X0_row_372 {d : Nat} {Z : XZ XR} (hdd : 171 ≤ d) : ∀ x0 x2 h, XG xfh (xQW hhX0_row 0) RX0 "row" cX0_row 8 (some .int) d Z 372 [(0, (2, x0)), (2, (0, x2))] [] h (F_X0_row_372 x0 x2 h) := by
  intro x0 x2 h
  unfold F_X0_row_372
  refine x_aload_n 0 dX0_row_372 rfl rfl ?_
  refine x_iload_n 1 dX0_row_373 rfl rfl ?_
  refine cl_X0_133 (by omega) (Nat.le_of_ble_eq_true rfl) dX0_row_374 fun r1 h2 => ?_
  exact xW_ret (x_iret rfl dX0_row_377)
noncomputable def F_X0_row_49 : Nat → Int → Int → Int → Int → XH → Option XR
  | 0, _, _, _, _, _ => none
  | n + 1, x0, x1, x2, x3, h => al h x1 2 <| if (xl h x1 : Int) ≤ x3 then (F_X0_row_372 x0 x2 h) else (mb3 (F_X0_intAt x1 x3 h) (fun r1 h2 => ob h2 x0 1 <| mb (F_X0_isDrawn x0 r1 h2) fun r4 h5 => if r4 = 0 then (F_X0_row_90 (F_X0_row_49 n) x0 x1 x2 x3 r1 h5) else (ob h5 x0 1 <| ob h5 (xv h5 x0 0) 2 <| if 40 ≤ xv h5 (xv h5 x0 0) 6 then (F_X0_row_90 (F_X0_row_49 n) x0 x1 x2 x3 r1 h5) else (F_X0_row_91 (F_X0_row_49 n) 1 x0 x1 x2 x3 r1 h5))) fun _ h3 => ob h3 x0 1 <| mb (F_X0_isDrawn x0 (-1) h3) fun r6 h7 => if r6 = 0 then (F_X0_row_193 (F_X0_row_49 n) x0 x1 x2 x3 (-1) h7) else (ob h7 x0 1 <| ob h7 (xv h7 x0 0) 2 <| if 40 ≤ xv h7 (xv h7 x0 0) 6 then (F_X0_row_193 (F_X0_row_49 n) x0 x1 x2 x3 (-1) h7) else (F_X0_row_194 (F_X0_row_49 n) 1 x0 x1 x2 x3 (-1) h7)))
theorem WF_X0_row_49 {d : Nat} {Z : XZ XR} (hdd : 171 ≤ d) : ∀ n x0 x1 x2 x3 h, XG xfh (xQW hhX0_row 0) RX0 "row" cX0_row 8 (some .int) d Z 49 [(0, (2, x0)), (1, (2, x1)), (2, (0, x2)), (3, (0, x3))] [] h (F_X0_row_49 n x0 x1 x2 x3 h) := by
  intro n
  induction n with
  | zero => intro x0 x1 x2 x3 h; exact x_none
  | succ n ih =>
    intro x0 x1 x2 x3 h
    rw [F_X0_row_49]
    refine x_iload_n 3 dX0_row_49 rfl rfl ?_
    refine x_aload_n 1 dX0_row_50 rfl rfl ?_
    refine x_alen 2 (by decide) dX0_row_51 ?_
    refine x_icmp_ge 372 dX0_row_52 (by decide) (fun _ => ?_) (fun _ => ?_)
    · exact x_sub [0, 2] rfl (WF_X0_row_372 hdd x0 x2 h)
    · refine x_ic dX0_row_55 (by decide) (by decide) ?_
      refine x_istore (lv' := [(4, (0, (-1))), (0, (2, x0)), (1, (2, x1)), (2, (0, x2)), (3, (0, x3))]) dX0_row_56 (by decide) rfl ?_
      refine x_aload_n 2 dX0_row_58 rfl rfl ?_
      refine x_iload_n 4 dX0_row_59 rfl rfl ?_
      refine cta_X0_376 (by omega) (Nat.le_of_ble_eq_true rfl) dX0_row_60 (fun r1 h2 => ?_) fun _ h3 => x_catchA (lv' := [(4, (0, (-1))), (0, (2, x0)), (1, (2, x1)), (2, (0, x2)), (3, (0, x3))]) rfl (by decide) q1459 dX0_row_163 (by decide) rfl ?_
      · refine x_istore (lv' := [(4, (0, r1)), (0, (2, x0)), (1, (2, x1)), (2, (0, x2)), (3, (0, x3))]) dX0_row_63 (by decide) rfl ?_
        refine x_aload_n 1 dX0_row_65 rfl rfl ?_
        refine x_iload 0 dX0_row_66 rfl ?_
        refine cl_X0_358 (by omega) (Nat.le_of_ble_eq_true rfl) dX0_row_68 fun r4 h5 => ?_
        refine x_if_eq 90 dX0_row_71 (by decide) (fun _ => ?_) (fun _ => ?_)
        · exact x_sub [1, 2, 3, 4, 0] rfl (WF_X0_row_90 hdd ih x0 x1 x2 x3 r1 h5)
        · refine x_aload_n 1 dX0_row_74 rfl rfl ?_
          refine xg_X0_17 dX0_row_75 ?_
          refine xg_X0_361 dX0_row_78 ?_
          refine x_bp dX0_row_81 (by decide) (by decide) ?_
          refine x_icmp_ge 90 dX0_row_83 (by decide) (fun _ => ?_) (fun _ => ?_)
          · exact x_sub [1, 2, 3, 4, 0] rfl (WF_X0_row_90 hdd ih x0 x1 x2 x3 r1 h5)
          · refine x_ic dX0_row_86 (by decide) (by decide) ?_
            refine x_goto 91 dX0_row_87 (by decide) ?_
            exact x_sub [1, 2, 3, 4, 0] rfl (WF_X0_row_91 hdd ih 1 x0 x1 x2 x3 r1 h5)
      · refine x_ic dX0_row_165 (by decide) (by decide) ?_
        refine x_istore (lv' := [(4, (0, (-1))), (0, (2, x0)), (1, (2, x1)), (2, (0, x2)), (3, (0, x3))]) dX0_row_166 (by decide) rfl ?_
        refine x_aload_n 1 dX0_row_168 rfl rfl ?_
        refine x_iload 0 dX0_row_169 rfl ?_
        refine cl_X0_358 (by omega) (Nat.le_of_ble_eq_true rfl) dX0_row_171 fun r6 h7 => ?_
        refine x_if_eq 193 dX0_row_174 (by decide) (fun _ => ?_) (fun _ => ?_)
        · exact x_sub [1, 2, 3, 4, 0] rfl (WF_X0_row_193 hdd ih x0 x1 x2 x3 (-1) h7)
        · refine x_aload_n 1 dX0_row_177 rfl rfl ?_
          refine xg_X0_17 dX0_row_178 ?_
          refine xg_X0_361 dX0_row_181 ?_
          refine x_bp dX0_row_184 (by decide) (by decide) ?_
          refine x_icmp_ge 193 dX0_row_186 (by decide) (fun _ => ?_) (fun _ => ?_)
          · exact x_sub [1, 2, 3, 4, 0] rfl (WF_X0_row_193 hdd ih x0 x1 x2 x3 (-1) h7)
          · refine x_ic dX0_row_189 (by decide) (by decide) ?_
            refine x_goto 194 dX0_row_190 (by decide) ?_
            exact x_sub [1, 2, 3, 4, 0] rfl (WF_X0_row_194 hdd ih 1 x0 x1 x2 x3 (-1) h7)
noncomputable def F_X0_row (x0 : Int) (h : XH) : Option XR := ob h x0 1 <| if xv h x0 12 = 0 then (ob h x0 1 <| mb (F_X0_tell x0 (-6) h) fun r6 h7 => some (r6, h7)) else (ob h x0 1 <| na h 2 (xv h x0 12) fun r1 h2 => ob h2 x0 1 <| ob h2 x0 1 <| cpg h2 2 (xv h2 x0 11) 0 r1 0 (xv h2 x0 12) <| nm (hcpy h2 (xv h2 x0 11) 0 r1 0 (xv h2 x0 12)) fun h3 => ob h3 x0 1 <| nm (hset h3 x0 12 0) fun h4 => ob h4 x0 1 <| nm (hset h4 x0 7 0) fun h5 => F_X0_row_49 FU x0 r1 0 0 h5)
theorem WF_X0_row {d : Nat} {Z : XZ XR} (hdd : 171 ≤ d) : ∀ x0 h, XG xfh (xQW hhX0_row 0) RX0 "row" cX0_row 8 (some .int) d Z 0 [(0, (2, x0))] [] h (F_X0_row x0 h) := by
  intro x0 h
  unfold F_X0_row
  refine x_aload_n 0 dX0_row_0 rfl rfl ?_
  refine xg_X0_122 dX0_row_1 ?_
  refine x_if_ne 14 dX0_row_4 (by decide) (fun _ => ?_) (fun _ => ?_)
  · refine x_aload_n 0 dX0_row_14 rfl rfl ?_
    refine xg_X0_122 dX0_row_15 ?_
    refine x_newarr (atype := .byte) 2 (by decide) rfl rfl q337 dX0_row_18 fun r1 h2 => ?_
    refine x_astore_n (lv' := [(1, (2, r1)), (0, (2, x0))]) dX0_row_20 rfl (by decide) rfl ?_
    refine x_aload_n 1 dX0_row_21 rfl rfl ?_
    refine xg_X0_89 dX0_row_22 ?_
    refine x_ic dX0_row_25 (by decide) (by decide) ?_
    refine x_aload_n 0 dX0_row_26 rfl rfl ?_
    refine x_ic dX0_row_27 (by decide) (by decide) ?_
    refine x_aload_n 1 dX0_row_28 rfl rfl ?_
    refine xg_X0_122 dX0_row_29 ?_
    refine x_copyi 2 (Or.inr rfl) q1493 q480 q479 q136 (by omega) (Nat.le_of_ble_eq_true rfl) dX0_row_32 fun h3 => ?_
    refine x_aload_n 1 dX0_row_35 rfl rfl ?_
    refine x_ic dX0_row_36 (by decide) (by decide) ?_
    refine xp_X0_122 dX0_row_37 fun h4 => ?_
    refine x_aload_n 1 dX0_row_40 rfl rfl ?_
    refine x_ic dX0_row_41 (by decide) (by decide) ?_
    refine xp_X0_373 dX0_row_42 fun h5 => ?_
    refine x_ic dX0_row_45 (by decide) (by decide) ?_
    refine x_istore_n (lv' := [(2, (0, 0)), (1, (2, r1)), (0, (2, x0))]) dX0_row_46 rfl (by decide) rfl ?_
    refine x_ic dX0_row_47 (by decide) (by decide) ?_
    refine x_istore_n (lv' := [(3, (0, 0)), (2, (0, 0)), (1, (2, r1)), (0, (2, x0))]) dX0_row_48 rfl (by decide) rfl ?_
    exact x_sub [3, 2, 1, 0] rfl (WF_X0_row_49 hdd FU x0 r1 0 0 h5)
  · refine x_aload_n 0 dX0_row_7 rfl rfl ?_
    refine x_bp dX0_row_8 (by decide) (by decide) ?_
    refine cl_X0_133 (by omega) (Nat.le_of_ble_eq_true rfl) dX0_row_10 fun r6 h7 => ?_
    exact xW_ret (x_iret rfl dX0_row_13)
theorem SF_X0_row (l : Launch) {d : Nat} (hdd : 171 ≤ d) (x0 : Int) (h : XH) (hok : okH h) (ho : okXs (xn h) [(2, x0)]) (hst : l.stackTraces = false) (fin : XR) (hf : F_X0_row x0 h = some fin) : xSpecW l yX0_row cX0_row 8 (some .int) hhX0_row d 0 [(2, x0)] h fin := xW_enter (lv := [(0, (2, x0))]) (by decide) rfl rfl (Nat.le_of_ble_eq_true rfl) rfl (fun Z _ => WF_X0_row hdd x0 h) hst hok ho fin hf
