/-! printed by tools/genx.py: paper -/
set_option maxRecDepth 100000
set_option maxHeartbeats 4000000
theorem cl_X0_179 {ρ : Type} {fh : ρ → XH} {QQ : XZ ρ → State → Prop} {mn : String} {cc : ByteArray} {nL : Nat} {ret : Option FieldType} {d : Nat} {Z : XZ ρ} {pc : Nat} {lv : List (Nat × AV)} {st : List AV} {h : XH} {g : Int → XH → Option ρ} {b a0 : Int} (hdd : 2 ≤ d) (hcat : (st.map fun v => if v.1 = 1 then 2 else 1).sum ≤ 8) (hdg : decode cc pc = .ok (.invokespecial 179, 3)) (kk : ∀ r h1, XG fh QQ RX0 mn cc nL ret d Z (pc + 3) lv st h1 (g r h1)) : XG fh QQ RX0 mn cc nL ret d Z pc lv ((2, a0) :: (2, b) :: st) h (pz b (mb (F_X6_init b a0 h) g)) :=
  x_callJv [(2, a0)] 1 (WF_X6_init (Z := (Z.1, Z.2.1, ((0, h), h))) (Nat.le_refl 1) b a0 h).1 (fun hok ho fin hf => SF_X6_init (yL Z) (Nat.le_refl 1) b a0 h hok ho fin hf) (lw_meth q536) q139 q534 q535 rfl ⟨by decide +kernel, by decide +kernel, by decide +kernel⟩ rfl (by omega) (by decide) rfl hcat hdg kk
theorem xg_X0_186 {ρ : Type} {fh : ρ → XH} {QQ : XZ ρ → State → Prop} {mn : String} {cc : ByteArray} {nL : Nat} {ret : Option FieldType} {d : Nat} {Z : XZ ρ} {pc : Nat} {lv : List (Nat × AV)} {st : List AV} {h : XH} {res : Option ρ} {a : Int} (hd : decode cc pc = .ok (.getfield 186, 3)) (kk : XG fh QQ RX0 mn cc nL ret d Z (pc + 3) lv ((0, xv h a 6) :: st) h res) : XG fh QQ RX0 mn cc nL ret d Z pc lv ((2, a) :: st) h (ob h a 7 res) := x_getN (C := RX7) (ref := RX7) 7 6 rfl in_X7 (by decide) rfl (by decide) (Or.inl rfl) q647 hd kk
theorem xn_X0_177 {ρ : Type} {fh : ρ → XH} {QQ : XZ ρ → State → Prop} {mn : String} {cc : ByteArray} {nL : Nat} {ret : Option FieldType} {d : Nat} {Z : XZ ρ} {pc : Nat} {lv : List (Nat × AV)} {st : List AV} {h : XH} {f : Int → XH → Option ρ} (hd : decode cc pc = .ok (.new 177, 3)) (kk : ∀ r h1, XG fh QQ RX0 mn cc nL ret d Z (pc + 3) lv ((2, r) :: st) h1 (f r h1)) : XG fh QQ RX0 mn cc nL ret d Z pc lv st h (nw h 6 9 f) := x_new (C := RX6) 6 rfl in_X6 tyX6_ok (by decide) rfl (by decide) xfit_X6 q532 q533 q139 hd kk
theorem ct_X0_180 {ρ : Type} {fh : ρ → XH} {QQ : XZ ρ → State → Prop} {mn : String} {cc : ByteArray} {nL : Nat} {ret : Option FieldType} {d : Nat} {Z : XZ ρ} {pc : Nat} {lv : List (Nat × AV)} {st : List AV} {h : XH} {g k : Int → XH → Option ρ} {b : Int} (hdd : 71 ≤ d) (hcat : (st.map fun v => if v.1 = 1 then 2 else 1).sum ≤ 8) (hdg : decode cc pc = .ok (.invokevirtual 180, 3)) (kk : ∀ r h1, XG fh QQ RX0 mn cc nL ret d Z (pc + 3) lv ((2, r) :: st) h1 (g r h1)) (kx : ∀ r h1, XT fh QQ RX0 mn cc nL ret d Z pc lv r h1 (k r h1)) : XG fh QQ RX0 mn cc nL ret d Z pc lv ((2, b) :: st) h (ob h b 6 (mb3 (F_X6_read b h) g k)) :=
  x3_callVr [] 0 (WF_X6_read (Z := (Z.1, Z.2.1, ((false, 0, h), h))) (Nat.le_refl 70) b h).1 (fun hok ho fin hf => SF_X6_read (yL Z) (Nat.le_refl 70) b h hok ho fin hf) RX6 6 rfl (by decide) (lw_V q580 q581 q582 q139 q583) ⟨rfl, by decide +kernel, by decide +kernel, by decide +kernel⟩ rfl (by omega) (by decide) rfl hcat hdg kk kx
abbrev hhX0_paper : List (Nat × Nat × Nat × Nat) := [(27, 71, 78, 184), (27, 71, 101, 0), (78, 94, 101, 0)]
noncomputable def F_X0_paper (x0 : Int) (h : XH) : Option XR := ob h x0 1 <| ob h (xv h x0 0) 2 <| ob h (xv h (xv h x0 0) 1) 26 <| mb (F_J2_size (xv h (xv h x0 0) 1) h) fun r1 h2 => if r1 = 6 then (ob h2 x0 1 <| nm (hset h2 x0 12 0) fun h23 => ob h23 x0 1 <| mb (F_X0_tell x0 (-5) h23) fun r24 h25 => some (r24, h25)) else (ob h2 x0 1 <| ob h2 (xv h2 x0 0) 2 <| nw h2 6 9 fun r3 h4 => pz r3 <| mb (F_X6_init r3 x0 h4) fun r5 h6 => ob h6 r3 6 <| mb3 (F_X6_read r3 h6) (fun r7 h8 => ob h8 (xv h2 (xv h2 x0 0) 1) 26 <| mb (F_J2_add (xv h2 (xv h2 x0 0) 1) r7 h8) fun r11 h12 => ob h12 x0 1 <| nm (hset h12 x0 6 (-1)) fun h13 => ob h13 x0 1 <| ob h13 (xv h13 x0 0) 2 <| ob h13 (xv h13 (xv h13 x0 0) 1) 26 <| mb (F_J2_size (xv h13 (xv h13 x0 0) 1) h13) fun r14 h15 => ob h15 x0 1 <| mb (F_X0_tell x0 (w32 (r14 - 1)) h15) fun r16 h17 => ob h17 x0 1 <| nm (hset h17 x0 12 0) fun h18 => some (r16, h18)) fun e9 h10 => ob h10 e9 7 <| ob h10 x0 1 <| nm (hset h10 x0 6 (xv h10 e9 6)) fun h19 => ob h19 x0 1 <| mb (F_X0_tell x0 (-6) h19) fun r20 h21 => ob h21 x0 1 <| nm (hset h21 x0 12 0) fun h22 => some (r20, h22))
theorem WF_X0_paper {d : Nat} {Z : XZ XR} (hdd : 71 ≤ d) : ∀ x0 h, XG xfh (xQW hhX0_paper 0) RX0 "paper" cX0_paper 4 (some .int) d Z 0 [(0, (2, x0))] [] h (F_X0_paper x0 h) := by
  intro x0 h
  unfold F_X0_paper
  refine x_aload_n 0 dX0_paper_0 rfl rfl ?_
  refine xg_X0_17 dX0_paper_1 ?_
  refine xg_X0_113 dX0_paper_4 ?_
  refine cl_X0_106 (by omega) (Nat.le_of_ble_eq_true rfl) dX0_paper_7 fun r1 h2 => ?_
  refine x_bp dX0_paper_10 (by decide) (by decide) ?_
  refine x_icmp_ne 27 dX0_paper_12 (by decide) (fun _ => ?_) (fun _ => ?_)
  · refine x_aload_n 0 dX0_paper_27 rfl rfl ?_
    refine xg_X0_17 dX0_paper_28 ?_
    refine xg_X0_113 dX0_paper_31 ?_
    refine xn_X0_177 dX0_paper_34 fun r3 h4 => ?_
    refine x_dup dX0_paper_37 rfl ?_
    refine x_aload_n 0 dX0_paper_38 rfl rfl ?_
    refine cl_X0_179 (by omega) (Nat.le_of_ble_eq_true rfl) dX0_paper_39 fun r5 h6 => ?_
    refine ct_X0_180 (by omega) (Nat.le_of_ble_eq_true rfl) dX0_paper_42 (fun r7 h8 => ?_) fun e9 h10 => x3_catch rfl (by decide) q531 ?_
    · refine cl_X0_139 (by omega) (Nat.le_of_ble_eq_true rfl) dX0_paper_45 fun r11 h12 => ?_
      refine x_pop dX0_paper_48 rfl ?_
      refine x_aload_n 0 dX0_paper_49 rfl rfl ?_
      refine x_ic dX0_paper_50 (by decide) (by decide) ?_
      refine xp_X0_82 dX0_paper_51 fun h13 => ?_
      refine x_aload_n 0 dX0_paper_54 rfl rfl ?_
      refine x_aload_n 0 dX0_paper_55 rfl rfl ?_
      refine xg_X0_17 dX0_paper_56 ?_
      refine xg_X0_113 dX0_paper_59 ?_
      refine cl_X0_106 (by omega) (Nat.le_of_ble_eq_true rfl) dX0_paper_62 fun r14 h15 => ?_
      refine x_ic dX0_paper_65 (by decide) (by decide) ?_
      refine x_isub dX0_paper_66 ?_
      refine cl_X0_133 (by omega) (Nat.le_of_ble_eq_true rfl) dX0_paper_67 fun r16 h17 => ?_
      refine x_istore_n (lv' := [(1, (0, r16)), (0, (2, x0))]) dX0_paper_70 rfl (by decide) rfl ?_
      refine x_aload_n 1 dX0_paper_71 rfl rfl ?_
      refine x_ic dX0_paper_72 (by decide) (by decide) ?_
      refine xp_X0_122 dX0_paper_73 fun h18 => ?_
      refine x_iload_n 0 dX0_paper_76 rfl rfl ?_
      exact xW_ret (x_iret rfl dX0_paper_77)
    · refine x_astore_n (lv' := [(1, (2, e9)), (0, (2, x0))]) dX0_paper_78 rfl (by decide) rfl ?_
      refine x_aload_n 1 dX0_paper_79 rfl rfl ?_
      refine x_aload_n 0 dX0_paper_80 rfl rfl ?_
      refine xg_X0_186 dX0_paper_81 ?_
      refine xp_X0_82 dX0_paper_84 fun h19 => ?_
      refine x_aload_n 1 dX0_paper_87 rfl rfl ?_
      refine x_bp dX0_paper_88 (by decide) (by decide) ?_
      refine cl_X0_133 (by omega) (Nat.le_of_ble_eq_true rfl) dX0_paper_90 fun r20 h21 => ?_
      refine x_istore_n (lv' := [(2, (0, r20)), (1, (2, e9)), (0, (2, x0))]) dX0_paper_93 rfl (by decide) rfl ?_
      refine x_aload_n 2 dX0_paper_94 rfl rfl ?_
      refine x_ic dX0_paper_95 (by decide) (by decide) ?_
      refine xp_X0_122 dX0_paper_96 fun h22 => ?_
      refine x_iload_n 0 dX0_paper_99 rfl rfl ?_
      exact xW_ret (x_iret rfl dX0_paper_100)
  · refine x_aload_n 0 dX0_paper_15 rfl rfl ?_
    refine x_ic dX0_paper_16 (by decide) (by decide) ?_
    refine xp_X0_122 dX0_paper_17 fun h23 => ?_
    refine x_aload_n 0 dX0_paper_20 rfl rfl ?_
    refine x_bp dX0_paper_21 (by decide) (by decide) ?_
    refine cl_X0_133 (by omega) (Nat.le_of_ble_eq_true rfl) dX0_paper_23 fun r24 h25 => ?_
    exact xW_ret (x_iret rfl dX0_paper_26)
theorem SF_X0_paper (l : Launch) {d : Nat} (hdd : 71 ≤ d) (x0 : Int) (h : XH) (hok : okH h) (ho : okXs (xn h) [(2, x0)]) (hst : l.stackTraces = false) (fin : XR) (hf : F_X0_paper x0 h = some fin) : xSpecW l yX0_paper cX0_paper 4 (some .int) hhX0_paper d 0 [(2, x0)] h fin := xW_enter (lv := [(0, (2, x0))]) (by decide) rfl rfl (Nat.le_of_ble_eq_true rfl) rfl (fun Z _ => WF_X0_paper hdd x0 h) hst hok ho fin hf
