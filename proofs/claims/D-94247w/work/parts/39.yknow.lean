/-! the row of lookupswitch, and know whole (printed by a genx.py that has the row; 30.xc holds an elder know without its switch) -/
set_option maxRecDepth 100000
set_option maxHeartbeats 400000
theorem x_lsw2 {ρ : Type} {fh : ρ → XH} {QQ : XZ ρ → State → Prop} {own mn : String} {cc : ByteArray} {nL : Nat} {ret : Option FieldType} {d : Nat} {Z : XZ ρ} {pc : Nat} {lv : List (Nat × AV)} {st : List AV} {h : XH} {x c1 c2 dflt o1 o2 : Int} {len : Nat} {A B C : Option ρ} (t1 t2 t3 : Nat) (hd : decode cc pc = .ok (.lookupswitch dflt #[(c1, o1), (c2, o2)], len)) (hlt : c1 < c2) (hc1 : in32 c1) (hc2 : in32 c2) (e1 : (pc : Int) + o1 = (t1 : Int)) (e2 : (pc : Int) + o2 = (t2 : Int)) (e3 : (pc : Int) + dflt = (t3 : Int)) (k1 : x = c1 → XG fh QQ own mn cc nL ret d Z t1 lv st h A) (k2 : x = c2 → XG fh QQ own mn cc nL ret d Z t2 lv st h B) (k3 : XG fh QQ own mn cc nL ret d Z t3 lv st h C) : XG fh QQ own mn cc nL ret d Z pc lv ((0, x) :: st) h (if x = c1 then A else if x = c2 then B else C) := ⟨XM.ite (fun e => (k1 e).1) (fun _ => XM.ite (fun e => (k2 e).1) (fun _ => k3.1)), fun X ad H locs ls cells slots hS hl hlv hst hf => by
  have hp : ((#[(c1, o1), (c2, o2)] : Array (Int × Int)).toList.zip ((#[(c1, o1), (c2, o2)] : Array (Int × Int)).toList.drop 1)).all (fun (a, next) => a.1 < next.1) = true := by simp [hlt]
  have ex : (I32 x).toInt = x := toI32 hst.i
  by_cases q1 : x = c1
  · rw [if_pos q1] at hf
    exact lv_lookup X.hx X.hb hd hp (by show Op.lookupswitch.offset [(c1, o1), (c2, o2)] dflt (I32 x).toInt = o1; rw [ex, Op.lookupswitch.offset_cons, if_pos q1.symm]) e1 ((k1 q1).2 X ad H locs ls cells slots hS hl hlv hst.t hf)
  · rw [if_neg q1] at hf
    by_cases q2 : x = c2
    · rw [if_pos q2] at hf
      exact lv_lookup X.hx X.hb hd hp (by show Op.lookupswitch.offset [(c1, o1), (c2, o2)] dflt (I32 x).toInt = o2; rw [ex, Op.lookupswitch.offset_cons, if_neg (fun e => q1 e.symm), Op.lookupswitch.offset_cons, if_pos q2.symm]) e2 ((k2 q2).2 X ad H locs ls cells slots hS hl hlv hst.t hf)
    · rw [if_neg q2] at hf
      exact lv_lookup X.hx X.hb hd hp (by show Op.lookupswitch.offset [(c1, o1), (c2, o2)] dflt (I32 x).toInt = dflt; rw [ex, Op.lookupswitch.offset_cons, if_neg (fun e => q1 e.symm), Op.lookupswitch.offset_cons, if_neg (fun e => q2 e.symm)]; rfl) e3 (k3.2 X ad H locs ls cells slots hS hl hlv hst.t hf)⟩
theorem xp_X0_35 {ρ : Type} {fh : ρ → XH} {QQ : XZ ρ → State → Prop} {mn : String} {cc : ByteArray} {nL : Nat} {ret : Option FieldType} {d : Nat} {Z : XZ ρ} {pc : Nat} {lv : List (Nat × AV)} {st : List AV} {h : XH} {f : XH → Option ρ} {a x : Int} (hd : decode cc pc = .ok (.putfield 35, 3)) (kk : ∀ h1, XG fh QQ RX0 mn cc nL ret d Z (pc + 3) lv st h1 (f h1)) : XG fh QQ RX0 mn cc nL ret d Z pc lv ((0, x) :: (2, a) :: st) h (ob h a 5 (cb x (nm (hset h a 5 x) f))) := x_putN (C := RX5) (ref := RX5) 5 5 rfl in_X5 tyX5_ok nmX5 (by decide) rfl (by decide) (Or.inl rfl) (by decide) (xfit_X5 5 (by decide)) 0 rfl q396 hd kk
theorem xp_X0_43 {ρ : Type} {fh : ρ → XH} {QQ : XZ ρ → State → Prop} {mn : String} {cc : ByteArray} {nL : Nat} {ret : Option FieldType} {d : Nat} {Z : XZ ρ} {pc : Nat} {lv : List (Nat × AV)} {st : List AV} {h : XH} {f : XH → Option ρ} {a x : Int} (hd : decode cc pc = .ok (.putfield 43, 3)) (kk : ∀ h1, XG fh QQ RX0 mn cc nL ret d Z (pc + 3) lv st h1 (f h1)) : XG fh QQ RX0 mn cc nL ret d Z pc lv ((0, x) :: (2, a) :: st) h (ob h a 5 (cb x (nm (hset h a 4 x) f))) := x_putN (C := RX5) (ref := RX5) 5 4 rfl in_X5 tyX5_ok nmX5 (by decide) rfl (by decide) (Or.inl rfl) (by decide) (xfit_X5 4 (by decide)) 0 rfl q393 hd kk
noncomputable def F_X0_knowB_32 (x0 : Int) (h : XH) : Option XR := ob h x0 1 <| mb (F_X0_tell x0 (-1) h) fun r1 h2 => some (r1, h2)
theorem WF_X0_knowB_32 {d : Nat} {Z : XZ XR} (hdd : 6 ≤ d) : ∀ x0 h, XG xfh (xQ 0) RX0 "know" cX0_know 6 (some .int) d Z 32 [(0, (2, x0))] [] h (F_X0_knowB_32 x0 h) := by
  intro x0 h
  unfold F_X0_knowB_32
  refine x_aload_n 0 dX0_know_32 rfl rfl ?_
  refine x_ic dX0_know_33 (by decide) (by decide) ?_
  refine cl_X0_133 (by omega) (Nat.le_of_ble_eq_true rfl) dX0_know_34 fun r1 h2 => ?_
  exact x_iret rfl dX0_know_37
noncomputable def F_X0_knowB_138 (x0 : Int) (x5 : Int) (h : XH) : Option XR := ob h x0 1 <| mb (F_X0_was x0 x5 h) fun r1 h2 => some (r1, h2)
theorem WF_X0_knowB_138 {d : Nat} {Z : XZ XR} (hdd : 6 ≤ d) : ∀ x0 x5 h, XG xfh (xQ 0) RX0 "know" cX0_know 6 (some .int) d Z 138 [(0, (2, x0)), (5, (0, x5))] [] h (F_X0_knowB_138 x0 x5 h) := by
  intro x0 x5 h
  unfold F_X0_knowB_138
  refine x_aload_n 0 dX0_know_138 rfl rfl ?_
  refine x_iload 1 dX0_know_139 rfl ?_
  refine cl_X0_142 (by omega) (Nat.le_of_ble_eq_true rfl) dX0_know_141 fun r1 h2 => ?_
  exact x_iret rfl dX0_know_144
noncomputable def F_X0_knowB_26 (s0 : Int) (s1 : Int) (s2 : Int) (x0 : Int) (x1 : Int) (x2 : Int) (x3 : Int) (h : XH) : Option XR := mb (F_X0_in s0 s1 s2 h) fun r1 h2 => if r1 = 0 then (F_X0_knowB_32 x0 h2) else (ob h2 x0 1 <| mb (F_X0_questionOf x0 x1 h2) fun r3 h4 => if r3 = 0 then (ob h4 x0 1 <| mb (F_X0_tell x0 (-2) h4) fun r5 h6 => some (r5, h6)) else (ob h4 x0 1 <| mb (F_X0_of x0 x1 (w32 (x2 + 2)) h4) fun r7 h8 => if x2 = 0 then (ob h8 r3 5 <| nm (hset h8 r3 3 x3) fun h9 => F_X0_knowB_138 x0 r7 h9) else if x2 = 1 then (nm (α := Int) (if x3 = 1 then 1 else 0) fun v10 => ob h8 r3 5 <| cb v10 <| nm (hset h8 r3 4 v10) fun h11 => F_X0_knowB_138 x0 r7 h11) else (nm (α := Int) (if x3 = 1 then 1 else 0) fun v12 => ob h8 r3 5 <| cb v12 <| nm (hset h8 r3 5 v12) fun h13 => F_X0_knowB_138 x0 r7 h13)))
theorem WF_X0_knowB_26 {d : Nat} {Z : XZ XR} (hdd : 6 ≤ d) : ∀ s0 s1 s2 x0 x1 x2 x3 h, XG xfh (xQ 0) RX0 "know" cX0_know 6 (some .int) d Z 26 [(0, (2, x0)), (1, (0, x1)), (2, (0, x2)), (3, (0, x3))] [(1, s2), (1, s1), (1, s0)] h (F_X0_knowB_26 s0 s1 s2 x0 x1 x2 x3 h) := by
  intro s0 s1 s2 x0 x1 x2 x3 h
  unfold F_X0_knowB_26
  refine cl_X0_109 (by omega) (Nat.le_of_ble_eq_true rfl) dX0_know_26 fun r1 h2 => ?_
  refine x_if_ne 38 dX0_know_29 (by decide) (fun _ => ?_) (fun _ => ?_)
  · refine x_aload_n 0 dX0_know_38 rfl rfl ?_
    refine x_iload_n 1 dX0_know_39 rfl rfl ?_
    refine cl_X0_147 (by omega) (Nat.le_of_ble_eq_true rfl) dX0_know_40 fun r3 h4 => ?_
    refine x_astore (lv' := [(4, (2, r3)), (0, (2, x0)), (1, (0, x1)), (2, (0, x2)), (3, (0, x3))]) dX0_know_43 (by decide) rfl ?_
    refine x_aload 0 dX0_know_45 rfl ?_
    refine x_ifnonnull 57 dX0_know_47 (by decide) (fun _ => ?_) (fun _ => ?_)
    · refine x_aload_n 1 dX0_know_50 rfl rfl ?_
      refine x_bp dX0_know_51 (by decide) (by decide) ?_
      refine cl_X0_133 (by omega) (Nat.le_of_ble_eq_true rfl) dX0_know_53 fun r5 h6 => ?_
      exact x_iret rfl dX0_know_56
    · refine x_aload_n 1 dX0_know_57 rfl rfl ?_
      refine x_iload_n 2 dX0_know_58 rfl rfl ?_
      refine x_iload_n 3 dX0_know_59 rfl rfl ?_
      refine x_ic dX0_know_60 (by decide) (by decide) ?_
      refine x_iadd dX0_know_61 ?_
      refine cl_X0_151 (by omega) (Nat.le_of_ble_eq_true rfl) dX0_know_62 fun r7 h8 => ?_
      refine x_istore (lv' := [(5, (0, r7)), (4, (2, r3)), (0, (2, x0)), (1, (0, x1)), (2, (0, x2)), (3, (0, x3))]) dX0_know_65 (by decide) rfl ?_
      refine x_iload_n 4 dX0_know_67 rfl rfl ?_
      refine x_lsw2 96 105 123 dX0_know_68 (by decide) ⟨by decide, by decide⟩ ⟨by decide, by decide⟩ (by decide) (by decide) (by decide) (fun _ => ?_) (fun _ => ?_) ?_
      · refine x_aload 1 dX0_know_96 rfl ?_
        refine x_iload_n 5 dX0_know_98 rfl rfl ?_
        refine xp_X0_39 dX0_know_99 fun h9 => ?_
        refine x_goto 138 dX0_know_102 (by decide) ?_
        exact x_sub [2, 0] rfl (WF_X0_knowB_138 hdd x0 r7 h9)
      · refine x_aload 1 dX0_know_105 rfl ?_
        refine x_iload_n 5 dX0_know_107 rfl rfl ?_
        refine x_ic dX0_know_108 (by decide) (by decide) ?_
        refine x_join 117 (fun v10 => [(0, v10), (2, r3)]) (fun v10 => ?_) (fun hJ => ?_)
        · refine xp_X0_43 dX0_know_117 fun h11 => ?_
          refine x_goto 138 dX0_know_120 (by decide) ?_
          exact x_sub [2, 0] rfl (WF_X0_knowB_138 hdd x0 r7 h11)
        · refine x_icmp_neF 116 dX0_know_109 (by decide) (fun _ => ?_) (fun _ => ?_)
          · refine x_ic dX0_know_116 (by decide) (by decide) ?_
            exact hJ _
          · refine x_ic dX0_know_112 (by decide) (by decide) ?_
            refine x_goto 117 dX0_know_113 (by decide) ?_
            exact hJ _
      · refine x_aload 1 dX0_know_123 rfl ?_
        refine x_iload_n 5 dX0_know_125 rfl rfl ?_
        refine x_ic dX0_know_126 (by decide) (by decide) ?_
        refine x_join 135 (fun v12 => [(0, v12), (2, r3)]) (fun v12 => ?_) (fun hJ => ?_)
        · refine xp_X0_35 dX0_know_135 fun h13 => ?_
          exact x_sub [2, 0] rfl (WF_X0_knowB_138 hdd x0 r7 h13)
        · refine x_icmp_neF 134 dX0_know_127 (by decide) (fun _ => ?_) (fun _ => ?_)
          · refine x_ic dX0_know_134 (by decide) (by decide) ?_
            exact hJ _
          · refine x_ic dX0_know_130 (by decide) (by decide) ?_
            refine x_goto 135 dX0_know_131 (by decide) ?_
            exact hJ _
  · exact x_sub [0] rfl (WF_X0_knowB_32 hdd x0 h2)
noncomputable def F_X0_knowB (x0 : Int) (x1 : Int) (x2 : Int) (x3 : Int) (h : XH) : Option XR := mb (F_X0_in x2 0 2 h) fun r1 h2 => if r1 = 0 then (F_X0_knowB_32 x0 h2) else (if x2 = 0 then (F_X0_knowB_26 x3 0 2 x0 x1 x2 x3 h2) else (F_X0_knowB_26 x3 0 1 x0 x1 x2 x3 h2))
theorem WF_X0_knowB {d : Nat} {Z : XZ XR} (hdd : 6 ≤ d) : ∀ x0 x1 x2 x3 h, XG xfh (xQ 0) RX0 "know" cX0_know 6 (some .int) d Z 0 [(0, (2, x0)), (1, (0, x1)), (2, (0, x2)), (3, (0, x3))] [] h (F_X0_knowB x0 x1 x2 x3 h) := by
  intro x0 x1 x2 x3 h
  unfold F_X0_knowB
  refine x_iload_n 2 dX0_know_0 rfl rfl ?_
  refine x_i2l dX0_know_1 ?_
  refine x_l0 dX0_know_2 ?_
  refine x_ldc2 (n := 2) q491 dX0_know_3 (by decide +kernel) ⟨by decide, by decide⟩ ?_
  refine cl_X0_109 (by omega) (Nat.le_of_ble_eq_true rfl) dX0_know_6 fun r1 h2 => ?_
  refine x_if_eq 32 dX0_know_9 (by decide) (fun _ => ?_) (fun _ => ?_)
  · exact x_sub [0] rfl (WF_X0_knowB_32 hdd x0 h2)
  · refine x_iload_n 3 dX0_know_12 rfl rfl ?_
    refine x_i2l dX0_know_13 ?_
    refine x_l0 dX0_know_14 ?_
    refine x_iload_n 2 dX0_know_15 rfl rfl ?_
    refine x_if_ne 25 dX0_know_16 (by decide) (fun _ => ?_) (fun _ => ?_)
    · refine x_l1 dX0_know_25 ?_
      exact x_sub [0, 1, 2, 3] rfl (WF_X0_knowB_26 hdd x3 0 1 x0 x1 x2 x3 h2)
    · refine x_ldc2 (n := 2) q491 dX0_know_19 (by decide +kernel) ⟨by decide, by decide⟩ ?_
      refine x_goto 26 dX0_know_22 (by decide) ?_
      exact x_sub [0, 1, 2, 3] rfl (WF_X0_knowB_26 hdd x3 0 2 x0 x1 x2 x3 h2)
theorem SF_X0_knowB (l : Launch) {d : Nat} (hdd : 6 ≤ d) (x0 : Int) (x1 : Int) (x2 : Int) (x3 : Int) (h : XH) (hok : okH h) (ho : okXs (xn h) [(2, x0), (0, x1), (0, x2), (0, x3)]) (fin : XR) (hf : F_X0_knowB x0 x1 x2 x3 h = some fin) : xSpec l yX0_know cX0_know 6 (some .int) d 0 [(2, x0), (0, x1), (0, x2), (0, x3)] h fin := x_enter (lv := [(0, (2, x0)), (1, (0, x1)), (2, (0, x2)), (3, (0, x3))]) (by decide) rfl rfl (Nat.le_of_ble_eq_true rfl) rfl (fun Z _ => WF_X0_knowB hdd x0 x1 x2 x3 h) hok ho fin hf
