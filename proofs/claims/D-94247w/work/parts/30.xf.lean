/-! printed by tools/genx.py: the system's methods as pure functions over named cells, and their walks -/
set_option maxRecDepth 100000
set_option maxHeartbeats 4000000
theorem cl_X0_331 {ρ : Type} {fh : ρ → XH} {QQ : XZ ρ → State → Prop} {mn : String} {cc : ByteArray} {nL : Nat} {ret : Option FieldType} {d : Nat} {Z : XZ ρ} {pc : Nat} {lv : List (Nat × AV)} {st : List AV} {h : XH} {g : Int → XH → Option ρ} {b a0 : Int} (hdd : 133 ≤ d) (hcat : (st.map fun v => if v.1 = 1 then 2 else 1).sum ≤ 8) (hdg : decode cc pc = .ok (.invokespecial 331, 3)) (kk : ∀ r h1, XG fh QQ RX0 mn cc nL ret d Z (pc + 3) lv st h1 (g r h1)) : XG fh QQ RX0 mn cc nL ret d Z pc lv ((2, a0) :: (2, b) :: st) h (pz b (mb (F_X23_init b a0 h) g)) :=
  x_callIv [(2, a0)] 1 (WF_X23_init (Z := (Z.1, Z.2.1, ((0, h), h))) (Nat.le_refl 132) b a0 h).1 (fun hok ho fin hf => SF_X23_init (yL Z) (Nat.le_refl 132) b a0 h hok ho fin hf) (lw_meth q1361) q161 q1359 q1360 rfl ⟨by decide +kernel, by decide +kernel, by decide +kernel⟩ rfl (by omega) (by decide) rfl hcat hdg kk
theorem xg_X0_332 {ρ : Type} {fh : ρ → XH} {QQ : XZ ρ → State → Prop} {mn : String} {cc : ByteArray} {nL : Nat} {ret : Option FieldType} {d : Nat} {Z : XZ ρ} {pc : Nat} {lv : List (Nat × AV)} {st : List AV} {h : XH} {res : Option ρ} {a : Int} (hd : decode cc pc = .ok (.getfield 332, 3)) (kk : XG fh QQ RX0 mn cc nL ret d Z (pc + 3) lv ((2, xv h a 0) :: st) h res) : XG fh QQ RX0 mn cc nL ret d Z pc lv ((2, a) :: st) h (ob h a 21 res) := x_getN (C := RX23) (ref := RX23) 21 0 rfl in_X23 (by decide) rfl (by decide) (Or.inl rfl) q1370 hd kk
theorem xg_X0_336 {ρ : Type} {fh : ρ → XH} {QQ : XZ ρ → State → Prop} {mn : String} {cc : ByteArray} {nL : Nat} {ret : Option FieldType} {d : Nat} {Z : XZ ρ} {pc : Nat} {lv : List (Nat × AV)} {st : List AV} {h : XH} {res : Option ρ} {a : Int} (hd : decode cc pc = .ok (.getfield 336, 3)) (kk : XG fh QQ RX0 mn cc nL ret d Z (pc + 3) lv ((0, xv h a 1) :: st) h res) : XG fh QQ RX0 mn cc nL ret d Z pc lv ((2, a) :: st) h (ob h a 21 res) := x_getN (C := RX23) (ref := RX23) 21 1 rfl in_X23 (by decide) rfl (by decide) (Or.inl rfl) q1372 hd kk
theorem xg_X0_339 {ρ : Type} {fh : ρ → XH} {QQ : XZ ρ → State → Prop} {mn : String} {cc : ByteArray} {nL : Nat} {ret : Option FieldType} {d : Nat} {Z : XZ ρ} {pc : Nat} {lv : List (Nat × AV)} {st : List AV} {h : XH} {res : Option ρ} {a : Int} (hd : decode cc pc = .ok (.getfield 339, 3)) (kk : XG fh QQ RX0 mn cc nL ret d Z (pc + 3) lv ((0, xv h a 2) :: st) h res) : XG fh QQ RX0 mn cc nL ret d Z pc lv ((2, a) :: st) h (ob h a 21 res) := x_getN (C := RX23) (ref := RX23) 21 2 rfl in_X23 (by decide) rfl (by decide) (Or.inl rfl) q1374 hd kk
theorem xn_X0_329 {ρ : Type} {fh : ρ → XH} {QQ : XZ ρ → State → Prop} {mn : String} {cc : ByteArray} {nL : Nat} {ret : Option FieldType} {d : Nat} {Z : XZ ρ} {pc : Nat} {lv : List (Nat × AV)} {st : List AV} {h : XH} {f : Int → XH → Option ρ} (hd : decode cc pc = .ok (.new 329, 3)) (kk : ∀ r h1, XG fh QQ RX0 mn cc nL ret d Z (pc + 3) lv ((2, r) :: st) h1 (f r h1)) : XG fh QQ RX0 mn cc nL ret d Z pc lv st h (nw h 21 4 f) := x_new (C := RX23) 21 rfl in_X23 tyX23_ok (by decide) rfl (by decide) xfit_X23 q1357 q1358 q161 hd kk
noncomputable def F_X0_backward_27 (x0 : Int) (x1 : Int) (x2 : Int) (h : XH) : Option XR := nw h 21 4 fun r1 h2 => pz r1 <| mb (F_X23_init r1 x0 h2) fun r3 h4 => if x1 = (-1) then (if x2 = 1 then (ob h4 r1 21 <| some (xv h4 r1 1, h4)) else (ob h4 r1 21 <| some (xv h4 r1 2, h4))) else (ob h4 r1 21 <| ai h4 (xv h4 r1 0) 11 x1 <| ai h4 (xv h4 (xv h4 r1 0) x1) 0 x2 <| some (xv h4 (xv h4 (xv h4 r1 0) x1) x2, h4))
theorem WF_X0_backward_27 {d : Nat} {Z : XZ XR} (hdd : 133 ≤ d) : ∀ x0 x1 x2 h, XG xfh (xQ 0) RX0 "backward" cX0_backward 4 (some .int) d Z 27 [(0, (2, x0)), (1, (0, x1)), (2, (0, x2))] [] h (F_X0_backward_27 x0 x1 x2 h) := by
  intro x0 x1 x2 h
  unfold F_X0_backward_27
  refine xn_X0_329 dX0_backward_27 fun r1 h2 => ?_
  refine x_dup dX0_backward_30 rfl ?_
  refine x_aload_n 0 dX0_backward_31 rfl rfl ?_
  refine cl_X0_331 (by omega) (Nat.le_of_ble_eq_true rfl) dX0_backward_32 fun r3 h4 => ?_
  refine x_astore_n (lv' := [(3, (2, r1)), (0, (2, x0)), (1, (0, x1)), (2, (0, x2))]) dX0_backward_35 rfl (by decide) rfl ?_
  refine x_iload_n 2 dX0_backward_36 rfl rfl ?_
  refine x_ic dX0_backward_37 (by decide) (by decide) ?_
  refine x_icmp_eq 50 dX0_backward_38 (by decide) (fun _ => ?_) (fun _ => ?_)
  · refine x_iload_n 3 dX0_backward_50 rfl rfl ?_
    refine x_ic dX0_backward_51 (by decide) (by decide) ?_
    refine x_icmp_ne 62 dX0_backward_52 (by decide) (fun _ => ?_) (fun _ => ?_)
    · refine x_aload_n 0 dX0_backward_62 rfl rfl ?_
      refine xg_X0_339 dX0_backward_63 ?_
      exact x_iret rfl dX0_backward_66
    · refine x_aload_n 0 dX0_backward_55 rfl rfl ?_
      refine xg_X0_336 dX0_backward_56 ?_
      refine x_goto 66 dX0_backward_59 (by decide) ?_
      exact x_iret rfl dX0_backward_66
  · refine x_aload_n 0 dX0_backward_41 rfl rfl ?_
    refine xg_X0_332 dX0_backward_42 ?_
    refine x_iload_n 2 dX0_backward_45 rfl rfl ?_
    refine x_aaldA dX0_backward_46 ?_
    refine x_iload_n 3 dX0_backward_47 rfl rfl ?_
    refine x_iald dX0_backward_48 ?_
    exact x_iret rfl dX0_backward_49
noncomputable def F_X0_backward (x0 : Int) (x1 : Int) (x2 : Int) (h : XH) : Option XR := mb (F_X0_in x2 1 2 h) fun r1 h2 => if r1 = 0 then (some ((-1), h2)) else (if x1 = (-1) then (F_X0_backward_27 x0 x1 x2 h2) else (ob h2 x0 1 <| mb (F_X0_questionOf x0 x1 h2) fun r3 h4 => if r3 = 0 then (some ((-1), h4)) else (F_X0_backward_27 x0 x1 x2 h4)))
theorem WF_X0_backward {d : Nat} {Z : XZ XR} (hdd : 133 ≤ d) : ∀ x0 x1 x2 h, XG xfh (xQ 0) RX0 "backward" cX0_backward 4 (some .int) d Z 0 [(0, (2, x0)), (1, (0, x1)), (2, (0, x2))] [] h (F_X0_backward x0 x1 x2 h) := by
  intro x0 x1 x2 h
  unfold F_X0_backward
  refine x_iload_n 2 dX0_backward_0 rfl rfl ?_
  refine x_i2l dX0_backward_1 ?_
  refine x_l1 dX0_backward_2 ?_
  refine x_ldc2 (n := 2) q491 dX0_backward_3 (by decide +kernel) ⟨by decide, by decide⟩ ?_
  refine cl_X0_109 (by omega) (Nat.le_of_ble_eq_true rfl) dX0_backward_6 fun r1 h2 => ?_
  refine x_if_eq 25 dX0_backward_9 (by decide) (fun _ => ?_) (fun _ => ?_)
  · refine x_ic dX0_backward_25 (by decide) (by decide) ?_
    exact x_iret rfl dX0_backward_26
  · refine x_iload_n 1 dX0_backward_12 rfl rfl ?_
    refine x_ic dX0_backward_13 (by decide) (by decide) ?_
    refine x_icmp_eq 27 dX0_backward_14 (by decide) (fun _ => ?_) (fun _ => ?_)
    · exact x_sub [0, 1, 2] rfl (WF_X0_backward_27 hdd x0 x1 x2 h2)
    · refine x_aload_n 0 dX0_backward_17 rfl rfl ?_
      refine x_iload_n 1 dX0_backward_18 rfl rfl ?_
      refine cl_X0_147 (by omega) (Nat.le_of_ble_eq_true rfl) dX0_backward_19 fun r3 h4 => ?_
      refine x_ifnonnull 27 dX0_backward_22 (by decide) (fun _ => ?_) (fun _ => ?_)
      · refine x_ic dX0_backward_25 (by decide) (by decide) ?_
        exact x_iret rfl dX0_backward_26
      · exact x_sub [0, 1, 2] rfl (WF_X0_backward_27 hdd x0 x1 x2 h4)
theorem SF_X0_backward (l : Launch) {d : Nat} (hdd : 133 ≤ d) (x0 : Int) (x1 : Int) (x2 : Int) (h : XH) (hok : okH h) (ho : okXs (xn h) [(2, x0), (0, x1), (0, x2)]) (fin : XR) (hf : F_X0_backward x0 x1 x2 h = some fin) : xSpec l yX0_backward cX0_backward 4 (some .int) d 0 [(2, x0), (0, x1), (0, x2)] h fin := x_enter (lv := [(0, (2, x0)), (1, (0, x1)), (2, (0, x2))]) (by decide) rfl rfl (Nat.le_of_ble_eq_true rfl) rfl (fun Z _ => WF_X0_backward hdd x0 x1 x2 h) hok ho fin hf
theorem xg_X0_341 {ρ : Type} {fh : ρ → XH} {QQ : XZ ρ → State → Prop} {mn : String} {cc : ByteArray} {nL : Nat} {ret : Option FieldType} {d : Nat} {Z : XZ ρ} {pc : Nat} {lv : List (Nat × AV)} {st : List AV} {h : XH} {res : Option ρ} {a : Int} (hd : decode cc pc = .ok (.getfield 341, 3)) (kk : XG fh QQ RX0 mn cc nL ret d Z (pc + 3) lv ((2, xv h a 4) :: st) h res) : XG fh QQ RX0 mn cc nL ret d Z pc lv ((2, a) :: st) h (ob h a 2 res) := x_getN (C := RX1) (ref := RX1) 2 4 rfl in_X1 (by decide) rfl (by decide) (Or.inl rfl) q228 hd kk
noncomputable def F_X0_friend_24 (x0 : Int) (h : XH) : Option XR := ob h x0 1 <| mb (F_X0_tell x0 (-1) h) fun r1 h2 => some (r1, h2)
theorem WF_X0_friend_24 {d : Nat} {Z : XZ XR} (hdd : 2 ≤ d) : ∀ x0 h, XG xfh (xQ 0) RX0 "friend" cX0_friend 4 (some .int) d Z 24 [(0, (2, x0))] [] h (F_X0_friend_24 x0 h) := by
  intro x0 h
  unfold F_X0_friend_24
  refine x_aload_n 0 dX0_friend_24 rfl rfl ?_
  refine x_ic dX0_friend_25 (by decide) (by decide) ?_
  refine cl_X0_133 (by omega) (Nat.le_of_ble_eq_true rfl) dX0_friend_26 fun r1 h2 => ?_
  exact x_iret rfl dX0_friend_29
noncomputable def F_X0_friend (x0 : Int) (x1 : Int) (x2 : Int) (h : XH) : Option XR := mb (F_X0_in x1 0 2 h) fun r1 h2 => if r1 = 0 then (F_X0_friend_24 x0 h2) else (mb (F_X0_in x2 0 99 h2) fun r3 h4 => if r3 = 0 then (F_X0_friend_24 x0 h4) else (ob h4 x0 1 <| ob h4 (xv h4 x0 0) 2 <| ai h4 (xv h4 (xv h4 x0 0) 4) 0 x1 <| nm (α := Int) (xv h4 (xv h4 (xv h4 x0 0) 4) x1) fun v5 => ob h4 x0 1 <| ob h4 (xv h4 x0 0) 2 <| ai h4 (xv h4 (xv h4 x0 0) 4) 0 x1 <| nm (hset h4 (xv h4 (xv h4 x0 0) 4) x1 x2) fun h6 => ob h6 x0 1 <| mb (F_X0_was x0 v5 h6) fun r7 h8 => some (r7, h8)))
theorem WF_X0_friend {d : Nat} {Z : XZ XR} (hdd : 2 ≤ d) : ∀ x0 x1 x2 h, XG xfh (xQ 0) RX0 "friend" cX0_friend 4 (some .int) d Z 0 [(0, (2, x0)), (1, (0, x1)), (2, (0, x2))] [] h (F_X0_friend x0 x1 x2 h) := by
  intro x0 x1 x2 h
  unfold F_X0_friend
  refine x_iload_n 1 dX0_friend_0 rfl rfl ?_
  refine x_i2l dX0_friend_1 ?_
  refine x_l0 dX0_friend_2 ?_
  refine x_ldc2 (n := 2) q491 dX0_friend_3 (by decide +kernel) ⟨by decide, by decide⟩ ?_
  refine cl_X0_109 (by omega) (Nat.le_of_ble_eq_true rfl) dX0_friend_6 fun r1 h2 => ?_
  refine x_if_eq 24 dX0_friend_9 (by decide) (fun _ => ?_) (fun _ => ?_)
  · exact x_sub [0] rfl (WF_X0_friend_24 hdd x0 h2)
  · refine x_iload_n 2 dX0_friend_12 rfl rfl ?_
    refine x_i2l dX0_friend_13 ?_
    refine x_l0 dX0_friend_14 ?_
    refine x_ldc2 (n := 99) q358 dX0_friend_15 (by decide +kernel) ⟨by decide, by decide⟩ ?_
    refine cl_X0_109 (by omega) (Nat.le_of_ble_eq_true rfl) dX0_friend_18 fun r3 h4 => ?_
    refine x_if_ne 30 dX0_friend_21 (by decide) (fun _ => ?_) (fun _ => ?_)
    · refine x_aload_n 0 dX0_friend_30 rfl rfl ?_
      refine xg_X0_17 dX0_friend_31 ?_
      refine xg_X0_341 dX0_friend_34 ?_
      refine x_iload_n 1 dX0_friend_37 rfl rfl ?_
      refine x_iald dX0_friend_38 ?_
      refine x_nmT fun v5 => ?_
      refine x_istore_n (lv' := [(3, (0, v5)), (0, (2, x0)), (1, (0, x1)), (2, (0, x2))]) dX0_friend_39 rfl (by decide) rfl ?_
      refine x_aload_n 1 dX0_friend_40 rfl rfl ?_
      refine xg_X0_17 dX0_friend_41 ?_
      refine xg_X0_341 dX0_friend_44 ?_
      refine x_iload_n 2 dX0_friend_47 rfl rfl ?_
      refine x_iload_n 3 dX0_friend_48 rfl rfl ?_
      refine x_iast dX0_friend_49 fun h6 => ?_
      refine x_aload_n 1 dX0_friend_50 rfl rfl ?_
      refine x_iload_n 0 dX0_friend_51 rfl rfl ?_
      refine cl_X0_142 (by omega) (Nat.le_of_ble_eq_true rfl) dX0_friend_52 fun r7 h8 => ?_
      exact x_iret rfl dX0_friend_55
    · exact x_sub [0] rfl (WF_X0_friend_24 hdd x0 h4)
theorem SF_X0_friend (l : Launch) {d : Nat} (hdd : 2 ≤ d) (x0 : Int) (x1 : Int) (x2 : Int) (h : XH) (hok : okH h) (ho : okXs (xn h) [(2, x0), (0, x1), (0, x2)]) (fin : XR) (hf : F_X0_friend x0 x1 x2 h = some fin) : xSpec l yX0_friend cX0_friend 4 (some .int) d 0 [(2, x0), (0, x1), (0, x2)] h fin := x_enter (lv := [(0, (2, x0)), (1, (0, x1)), (2, (0, x2))]) (by decide) rfl rfl (Nat.le_of_ble_eq_true rfl) rfl (fun Z _ => WF_X0_friend hdd x0 x1 x2 h) hok ho fin hf
noncomputable def F_X24_splits_29 (K3 : Int → Int → Int → Int → Int → XH → Option XR) (x1 : Int) (x2 : Int) (x3 : Int) (x4 : Int) (x5 : Int) (h : XH) : Option XR := nm (α := Int) (if x5 = 0 then (-1) else iand (w32 (x5 - 1)) x2) fun v1 => K3 x1 x2 x3 x4 v1 h
theorem WF_X24_splits_29 {d : Nat} {Z : XZ XR} (hdd : 1 ≤ d) {K3 : Int → Int → Int → Int → Int → XH → Option XR} (hK3 : ∀ x1 x2 x3 x4 x5 h, XG xfh (xQ 0) RX24 "splits" cX24_splits 6 (some .boolean) d Z 3 [(1, (2, x1)), (2, (0, x2)), (3, (0, x3)), (4, (0, x4)), (5, (0, x5))] [] h (K3 x1 x2 x3 x4 x5 h)) : ∀ x1 x2 x3 x4 x5 h, XG xfh (xQ 0) RX24 "splits" cX24_splits 6 (some .boolean) d Z 29 [(1, (2, x1)), (2, (0, x2)), (3, (0, x3)), (4, (0, x4)), (5, (0, x5))] [] h (F_X24_splits_29 K3 x1 x2 x3 x4 x5 h) := by
  intro x1 x2 x3 x4 x5 h
  unfold F_X24_splits_29
  refine x_iload 4 dX24_splits_29 rfl ?_
  refine x_join 44 (fun v1 => [(0, v1)]) (fun v1 => ?_) (fun hJ => ?_)
  · refine x_istore (lv' := [(5, (0, v1)), (1, (2, x1)), (2, (0, x2)), (3, (0, x3)), (4, (0, x4))]) dX24_splits_44 (by decide) rfl ?_
    refine x_goto 3 dX24_splits_46 (by decide) ?_
    exact x_sub [1, 2, 3, 4, 0] rfl (hK3 x1 x2 x3 x4 v1 h)
  · refine x_if_neF 38 dX24_splits_31 (by decide) (fun _ => ?_) (fun _ => ?_)
    · refine x_iload 4 dX24_splits_38 rfl ?_
      refine x_ic dX24_splits_40 (by decide) (by decide) ?_
      refine x_isub dX24_splits_41 ?_
      refine x_iload_n 1 dX24_splits_42 rfl rfl ?_
      refine x_iand dX24_splits_43 ?_
      exact hJ _
    · refine x_ic dX24_splits_34 (by decide) (by decide) ?_
      refine x_goto 44 dX24_splits_35 (by decide) ?_
      exact hJ _
noncomputable def F_X24_splits_3 : Nat → Int → Int → Int → Int → Int → XH → Option XR
  | 0, _, _, _, _, _, _ => none
  | n + 1, x1, x2, x3, x4, x5, h => if x5 < 0 then (some (0, h)) else (ai h x1 0 x5 <| if x3 < xv h x1 x5 then (F_X24_splits_29 (F_X24_splits_3 n) x1 x2 x3 x4 x5 h) else (ai h x1 0 (ixor x2 x5) <| if x4 < xv h x1 (ixor x2 x5) then (F_X24_splits_29 (F_X24_splits_3 n) x1 x2 x3 x4 x5 h) else (some (1, h))))
theorem WF_X24_splits_3 {d : Nat} {Z : XZ XR} (hdd : 1 ≤ d) : ∀ n x1 x2 x3 x4 x5 h, XG xfh (xQ 0) RX24 "splits" cX24_splits 6 (some .boolean) d Z 3 [(1, (2, x1)), (2, (0, x2)), (3, (0, x3)), (4, (0, x4)), (5, (0, x5))] [] h (F_X24_splits_3 n x1 x2 x3 x4 x5 h) := by
  intro n
  induction n with
  | zero => intro x1 x2 x3 x4 x5 h; exact x_none
  | succ n ih =>
    intro x1 x2 x3 x4 x5 h
    rw [F_X24_splits_3]
    refine x_iload 4 dX24_splits_3 rfl ?_
    refine x_if_lt 49 dX24_splits_5 (by decide) (fun _ => ?_) (fun _ => ?_)
    · refine x_ic dX24_splits_49 (by decide) (by decide) ?_
      exact x_cb (by decide) (x_zret rfl dX24_splits_50)
    · refine x_aload_n 0 dX24_splits_8 rfl rfl ?_
      refine x_iload 4 dX24_splits_9 rfl ?_
      refine x_iald dX24_splits_11 ?_
      refine x_iload_n 2 dX24_splits_12 rfl rfl ?_
      refine x_icmp_gt 29 dX24_splits_13 (by decide) (fun _ => ?_) (fun _ => ?_)
      · exact x_sub [0, 1, 2, 3, 4] rfl (WF_X24_splits_29 hdd ih x1 x2 x3 x4 x5 h)
      · refine x_aload_n 0 dX24_splits_16 rfl rfl ?_
        refine x_iload_n 1 dX24_splits_17 rfl rfl ?_
        refine x_iload 4 dX24_splits_18 rfl ?_
        refine x_ixor dX24_splits_20 ?_
        refine x_iald dX24_splits_21 ?_
        refine x_iload 3 dX24_splits_22 rfl ?_
        refine x_icmp_gt 29 dX24_splits_24 (by decide) (fun _ => ?_) (fun _ => ?_)
        · exact x_sub [0, 1, 2, 3, 4] rfl (WF_X24_splits_29 hdd ih x1 x2 x3 x4 x5 h)
        · refine x_ic dX24_splits_27 (by decide) (by decide) ?_
          exact x_cb (by decide) (x_zret rfl dX24_splits_28)
noncomputable def F_X24_splits (x0 : Int) (x1 : Int) (x2 : Int) (x3 : Int) (x4 : Int) (h : XH) : Option XR := F_X24_splits_3 FU x1 x2 x3 x4 x2 h
theorem WF_X24_splits {d : Nat} {Z : XZ XR} (hdd : 1 ≤ d) : ∀ x0 x1 x2 x3 x4 h, XG xfh (xQ 0) RX24 "splits" cX24_splits 6 (some .boolean) d Z 0 [(0, (2, x0)), (1, (2, x1)), (2, (0, x2)), (3, (0, x3)), (4, (0, x4))] [] h (F_X24_splits x0 x1 x2 x3 x4 h) := by
  intro x0 x1 x2 x3 x4 h
  unfold F_X24_splits
  refine x_iload_n 2 dX24_splits_0 rfl rfl ?_
  refine x_istore (lv' := [(5, (0, x2)), (0, (2, x0)), (1, (2, x1)), (2, (0, x2)), (3, (0, x3)), (4, (0, x4))]) dX24_splits_1 (by decide) rfl ?_
  exact x_sub [2, 3, 4, 5, 0] rfl (WF_X24_splits_3 hdd FU x1 x2 x3 x4 x2 h)
theorem SF_X24_splits (l : Launch) {d : Nat} (hdd : 1 ≤ d) (x0 : Int) (x1 : Int) (x2 : Int) (x3 : Int) (x4 : Int) (h : XH) (hok : okH h) (ho : okXs (xn h) [(2, x0), (2, x1), (0, x2), (0, x3), (0, x4)]) (fin : XR) (hf : F_X24_splits x0 x1 x2 x3 x4 h = some fin) : xSpec l yX24_splits cX24_splits 6 (some .boolean) d 0 [(2, x0), (2, x1), (0, x2), (0, x3), (0, x4)] h fin := x_enter (lv := [(0, (2, x0)), (1, (2, x1)), (2, (0, x2)), (3, (0, x3)), (4, (0, x4))]) (by decide) rfl rfl (Nat.le_of_ble_eq_true rfl) rfl (fun Z _ => WF_X24_splits hdd x0 x1 x2 x3 x4 h) hok ho fin hf
noncomputable def F_J13_bitCount (x0 : Int) (h : XH) : Option XR := nm (α := Int) (w32 (x0 - (iand (iushr x0 1) 1431655765))) fun v1 => nm (α := Int) (w32 ((iand v1 858993459) + (iand (iushr v1 2) 858993459))) fun v2 => nm (α := Int) (iand (w32 (v2 + (iushr v2 4))) 252645135) fun v3 => nm (α := Int) (w32 (v3 + (iushr v3 8))) fun v4 => nm (α := Int) (w32 (v4 + (iushr v4 16))) fun v5 => some (iand v5 63, h)
theorem WF_J13_bitCount {d : Nat} {Z : XZ XR} (hdd : 1 ≤ d) : ∀ x0 h, XG xfh (xQ 0) RJ13 "bitCount" cJ13_bitCount 1 (some .int) d Z 0 [(0, (0, x0))] [] h (F_J13_bitCount x0 h) := by
  intro x0 h
  unfold F_J13_bitCount
  refine x_iload_n 0 dJ13_bitCount_0 rfl rfl ?_
  refine x_iload_n 0 dJ13_bitCount_1 rfl rfl ?_
  refine x_ic dJ13_bitCount_2 (by decide) (by decide) ?_
  refine x_iushr dJ13_bitCount_3 ?_
  refine x_ldcw (n := 1431655765) q1419 dJ13_bitCount_4 (by decide +kernel) ⟨by decide, by decide⟩ ?_
  refine x_iand dJ13_bitCount_7 ?_
  refine x_isub dJ13_bitCount_8 ?_
  refine x_nmT fun v1 => ?_
  refine x_istore_n (lv' := [(0, (0, v1))]) dJ13_bitCount_9 rfl (by decide) rfl ?_
  refine x_iload_n 0 dJ13_bitCount_10 rfl rfl ?_
  refine x_ldcw (n := 858993459) q1420 dJ13_bitCount_11 (by decide +kernel) ⟨by decide, by decide⟩ ?_
  refine x_iand dJ13_bitCount_14 ?_
  refine x_iload_n 0 dJ13_bitCount_15 rfl rfl ?_
  refine x_ic dJ13_bitCount_16 (by decide) (by decide) ?_
  refine x_iushr dJ13_bitCount_17 ?_
  refine x_ldcw (n := 858993459) q1420 dJ13_bitCount_18 (by decide +kernel) ⟨by decide, by decide⟩ ?_
  refine x_iand dJ13_bitCount_21 ?_
  refine x_iadd dJ13_bitCount_22 ?_
  refine x_nmT fun v2 => ?_
  refine x_istore_n (lv' := [(0, (0, v2))]) dJ13_bitCount_23 rfl (by decide) rfl ?_
  refine x_iload_n 0 dJ13_bitCount_24 rfl rfl ?_
  refine x_iload_n 0 dJ13_bitCount_25 rfl rfl ?_
  refine x_ic dJ13_bitCount_26 (by decide) (by decide) ?_
  refine x_iushr dJ13_bitCount_27 ?_
  refine x_iadd dJ13_bitCount_28 ?_
  refine x_ldcw (n := 252645135) q1421 dJ13_bitCount_29 (by decide +kernel) ⟨by decide, by decide⟩ ?_
  refine x_iand dJ13_bitCount_32 ?_
  refine x_nmT fun v3 => ?_
  refine x_istore_n (lv' := [(0, (0, v3))]) dJ13_bitCount_33 rfl (by decide) rfl ?_
  refine x_iload_n 0 dJ13_bitCount_34 rfl rfl ?_
  refine x_iload_n 0 dJ13_bitCount_35 rfl rfl ?_
  refine x_bp dJ13_bitCount_36 (by decide) (by decide) ?_
  refine x_iushr dJ13_bitCount_38 ?_
  refine x_iadd dJ13_bitCount_39 ?_
  refine x_nmT fun v4 => ?_
  refine x_istore_n (lv' := [(0, (0, v4))]) dJ13_bitCount_40 rfl (by decide) rfl ?_
  refine x_iload_n 0 dJ13_bitCount_41 rfl rfl ?_
  refine x_iload_n 0 dJ13_bitCount_42 rfl rfl ?_
  refine x_bp dJ13_bitCount_43 (by decide) (by decide) ?_
  refine x_iushr dJ13_bitCount_45 ?_
  refine x_iadd dJ13_bitCount_46 ?_
  refine x_nmT fun v5 => ?_
  refine x_istore_n (lv' := [(0, (0, v5))]) dJ13_bitCount_47 rfl (by decide) rfl ?_
  refine x_iload_n 0 dJ13_bitCount_48 rfl rfl ?_
  refine x_bp dJ13_bitCount_49 (by decide) (by decide) ?_
  refine x_iand dJ13_bitCount_51 ?_
  exact x_iret rfl dJ13_bitCount_52
theorem SF_J13_bitCount (l : Launch) {d : Nat} (hdd : 1 ≤ d) (x0 : Int) (h : XH) (hok : okH h) (ho : okXs (xn h) [(0, x0)]) (fin : XR) (hf : F_J13_bitCount x0 h = some fin) : xSpec l yJ13_bitCount cJ13_bitCount 1 (some .int) d 0 [(0, x0)] h fin := x_enter (lv := [(0, (0, x0))]) (by decide) rfl rfl (Nat.le_of_ble_eq_true rfl) rfl (fun Z _ => WF_J13_bitCount hdd x0 h) hok ho fin hf
noncomputable def F_J13_numberOfTrailingZeros_74 (x0 : Int) (x1 : Int) (h : XH) : Option XR := some (w32 (x1 + (iushr x0 1)), h)
theorem WF_J13_numberOfTrailingZeros_74 {d : Nat} {Z : XZ XR} (hdd : 1 ≤ d) : ∀ x0 x1 h, XG xfh (xQ 0) RJ13 "numberOfTrailingZeros" cJ13_numberOfTrailingZeros 2 (some .int) d Z 74 [(0, (0, x0)), (1, (0, x1))] [] h (F_J13_numberOfTrailingZeros_74 x0 x1 h) := by
  intro x0 x1 h
  unfold F_J13_numberOfTrailingZeros_74
  refine x_iload_n 1 dJ13_numberOfTrailingZeros_74 rfl rfl ?_
  refine x_iload_n 0 dJ13_numberOfTrailingZeros_75 rfl rfl ?_
  refine x_ic dJ13_numberOfTrailingZeros_76 (by decide) (by decide) ?_
  refine x_iushr dJ13_numberOfTrailingZeros_77 ?_
  refine x_iadd dJ13_numberOfTrailingZeros_78 ?_
  exact x_iret rfl dJ13_numberOfTrailingZeros_79
noncomputable def F_J13_numberOfTrailingZeros_62 (x0 : Int) (x1 : Int) (h : XH) : Option XR := if x0 ≤ 4 then (F_J13_numberOfTrailingZeros_74 x0 x1 h) else (nm (w32 (x1 + 2)) fun v1 => nm (α := Int) (iushr x0 2) fun v2 => F_J13_numberOfTrailingZeros_74 v2 v1 h)
theorem WF_J13_numberOfTrailingZeros_62 {d : Nat} {Z : XZ XR} (hdd : 1 ≤ d) : ∀ x0 x1 h, XG xfh (xQ 0) RJ13 "numberOfTrailingZeros" cJ13_numberOfTrailingZeros 2 (some .int) d Z 62 [(0, (0, x0)), (1, (0, x1))] [] h (F_J13_numberOfTrailingZeros_62 x0 x1 h) := by
  intro x0 x1 h
  unfold F_J13_numberOfTrailingZeros_62
  refine x_iload_n 0 dJ13_numberOfTrailingZeros_62 rfl rfl ?_
  refine x_ic dJ13_numberOfTrailingZeros_63 (by decide) (by decide) ?_
  refine x_icmp_le 74 dJ13_numberOfTrailingZeros_64 (by decide) (fun _ => ?_) (fun _ => ?_)
  · exact x_sub [0, 1] rfl (WF_J13_numberOfTrailingZeros_74 hdd x0 x1 h)
  · refine x_iinc 1 dJ13_numberOfTrailingZeros_67 rfl (by decide) fun v1 => x_lv (lv' := [(1, (0, v1)), (0, (0, x0))]) rfl ?_
    refine x_iload_n 1 dJ13_numberOfTrailingZeros_70 rfl rfl ?_
    refine x_ic dJ13_numberOfTrailingZeros_71 (by decide) (by decide) ?_
    refine x_iushr dJ13_numberOfTrailingZeros_72 ?_
    refine x_nmT fun v2 => ?_
    refine x_istore_n (lv' := [(0, (0, v2)), (1, (0, v1))]) dJ13_numberOfTrailingZeros_73 rfl (by decide) rfl ?_
    exact x_sub [0, 1] rfl (WF_J13_numberOfTrailingZeros_74 hdd v2 v1 h)
noncomputable def F_J13_numberOfTrailingZeros_49 (x0 : Int) (x1 : Int) (h : XH) : Option XR := if x0 ≤ 16 then (F_J13_numberOfTrailingZeros_62 x0 x1 h) else (nm (w32 (x1 + 4)) fun v1 => nm (α := Int) (iushr x0 4) fun v2 => F_J13_numberOfTrailingZeros_62 v2 v1 h)
theorem WF_J13_numberOfTrailingZeros_49 {d : Nat} {Z : XZ XR} (hdd : 1 ≤ d) : ∀ x0 x1 h, XG xfh (xQ 0) RJ13 "numberOfTrailingZeros" cJ13_numberOfTrailingZeros 2 (some .int) d Z 49 [(0, (0, x0)), (1, (0, x1))] [] h (F_J13_numberOfTrailingZeros_49 x0 x1 h) := by
  intro x0 x1 h
  unfold F_J13_numberOfTrailingZeros_49
  refine x_iload_n 0 dJ13_numberOfTrailingZeros_49 rfl rfl ?_
  refine x_bp dJ13_numberOfTrailingZeros_50 (by decide) (by decide) ?_
  refine x_icmp_le 62 dJ13_numberOfTrailingZeros_52 (by decide) (fun _ => ?_) (fun _ => ?_)
  · exact x_sub [0, 1] rfl (WF_J13_numberOfTrailingZeros_62 hdd x0 x1 h)
  · refine x_iinc 1 dJ13_numberOfTrailingZeros_55 rfl (by decide) fun v1 => x_lv (lv' := [(1, (0, v1)), (0, (0, x0))]) rfl ?_
    refine x_iload_n 1 dJ13_numberOfTrailingZeros_58 rfl rfl ?_
    refine x_ic dJ13_numberOfTrailingZeros_59 (by decide) (by decide) ?_
    refine x_iushr dJ13_numberOfTrailingZeros_60 ?_
    refine x_nmT fun v2 => ?_
    refine x_istore_n (lv' := [(0, (0, v2)), (1, (0, v1))]) dJ13_numberOfTrailingZeros_61 rfl (by decide) rfl ?_
    exact x_sub [0, 1] rfl (WF_J13_numberOfTrailingZeros_62 hdd v2 v1 h)
noncomputable def F_J13_numberOfTrailingZeros_34 (x0 : Int) (x1 : Int) (h : XH) : Option XR := if x0 ≤ 256 then (F_J13_numberOfTrailingZeros_49 x0 x1 h) else (nm (w32 (x1 + 8)) fun v1 => nm (α := Int) (iushr x0 8) fun v2 => F_J13_numberOfTrailingZeros_49 v2 v1 h)
theorem WF_J13_numberOfTrailingZeros_34 {d : Nat} {Z : XZ XR} (hdd : 1 ≤ d) : ∀ x0 x1 h, XG xfh (xQ 0) RJ13 "numberOfTrailingZeros" cJ13_numberOfTrailingZeros 2 (some .int) d Z 34 [(0, (0, x0)), (1, (0, x1))] [] h (F_J13_numberOfTrailingZeros_34 x0 x1 h) := by
  intro x0 x1 h
  unfold F_J13_numberOfTrailingZeros_34
  refine x_iload_n 0 dJ13_numberOfTrailingZeros_34 rfl rfl ?_
  refine x_sp dJ13_numberOfTrailingZeros_35 (by decide) (by decide) ?_
  refine x_icmp_le 49 dJ13_numberOfTrailingZeros_38 (by decide) (fun _ => ?_) (fun _ => ?_)
  · exact x_sub [0, 1] rfl (WF_J13_numberOfTrailingZeros_49 hdd x0 x1 h)
  · refine x_iinc 1 dJ13_numberOfTrailingZeros_41 rfl (by decide) fun v1 => x_lv (lv' := [(1, (0, v1)), (0, (0, x0))]) rfl ?_
    refine x_iload_n 1 dJ13_numberOfTrailingZeros_44 rfl rfl ?_
    refine x_bp dJ13_numberOfTrailingZeros_45 (by decide) (by decide) ?_
    refine x_iushr dJ13_numberOfTrailingZeros_47 ?_
    refine x_nmT fun v2 => ?_
    refine x_istore_n (lv' := [(0, (0, v2)), (1, (0, v1))]) dJ13_numberOfTrailingZeros_48 rfl (by decide) rfl ?_
    exact x_sub [0, 1] rfl (WF_J13_numberOfTrailingZeros_49 hdd v2 v1 h)
noncomputable def F_J13_numberOfTrailingZeros (x0 : Int) (h : XH) : Option XR := nm (α := Int) (iand (ixor x0 (-1)) (w32 (x0 - 1))) fun v1 => if 0 < v1 then (if v1 ≤ 65536 then (F_J13_numberOfTrailingZeros_34 v1 1 h) else (nm (w32 (1 + 16)) fun v2 => nm (α := Int) (iushr v1 16) fun v3 => F_J13_numberOfTrailingZeros_34 v3 v2 h)) else (some (iand v1 32, h))
theorem WF_J13_numberOfTrailingZeros {d : Nat} {Z : XZ XR} (hdd : 1 ≤ d) : ∀ x0 h, XG xfh (xQ 0) RJ13 "numberOfTrailingZeros" cJ13_numberOfTrailingZeros 2 (some .int) d Z 0 [(0, (0, x0))] [] h (F_J13_numberOfTrailingZeros x0 h) := by
  intro x0 h
  unfold F_J13_numberOfTrailingZeros
  refine x_iload_n 0 dJ13_numberOfTrailingZeros_0 rfl rfl ?_
  refine x_ic dJ13_numberOfTrailingZeros_1 (by decide) (by decide) ?_
  refine x_ixor dJ13_numberOfTrailingZeros_2 ?_
  refine x_iload_n 0 dJ13_numberOfTrailingZeros_3 rfl rfl ?_
  refine x_ic dJ13_numberOfTrailingZeros_4 (by decide) (by decide) ?_
  refine x_isub dJ13_numberOfTrailingZeros_5 ?_
  refine x_iand dJ13_numberOfTrailingZeros_6 ?_
  refine x_nmT fun v1 => ?_
  refine x_istore_n (lv' := [(0, (0, v1))]) dJ13_numberOfTrailingZeros_7 rfl (by decide) rfl ?_
  refine x_iload_n 0 dJ13_numberOfTrailingZeros_8 rfl rfl ?_
  refine x_if_gt 17 dJ13_numberOfTrailingZeros_9 (by decide) (fun _ => ?_) (fun _ => ?_)
  · refine x_ic dJ13_numberOfTrailingZeros_17 (by decide) (by decide) ?_
    refine x_istore_n (lv' := [(1, (0, 1)), (0, (0, v1))]) dJ13_numberOfTrailingZeros_18 rfl (by decide) rfl ?_
    refine x_iload_n 1 dJ13_numberOfTrailingZeros_19 rfl rfl ?_
    refine x_ldcw (n := 65536) q1411 dJ13_numberOfTrailingZeros_20 (by decide +kernel) ⟨by decide, by decide⟩ ?_
    refine x_icmp_le 34 dJ13_numberOfTrailingZeros_23 (by decide) (fun _ => ?_) (fun _ => ?_)
    · exact x_sub [1, 0] rfl (WF_J13_numberOfTrailingZeros_34 hdd v1 1 h)
    · refine x_iinc 0 dJ13_numberOfTrailingZeros_26 rfl (by decide) fun v2 => x_lv (lv' := [(1, (0, v2)), (0, (0, v1))]) rfl ?_
      refine x_iload_n 1 dJ13_numberOfTrailingZeros_29 rfl rfl ?_
      refine x_bp dJ13_numberOfTrailingZeros_30 (by decide) (by decide) ?_
      refine x_iushr dJ13_numberOfTrailingZeros_32 ?_
      refine x_nmT fun v3 => ?_
      refine x_istore_n (lv' := [(0, (0, v3)), (1, (0, v2))]) dJ13_numberOfTrailingZeros_33 rfl (by decide) rfl ?_
      exact x_sub [0, 1] rfl (WF_J13_numberOfTrailingZeros_34 hdd v3 v2 h)
  · refine x_iload_n 0 dJ13_numberOfTrailingZeros_12 rfl rfl ?_
    refine x_bp dJ13_numberOfTrailingZeros_13 (by decide) (by decide) ?_
    refine x_iand dJ13_numberOfTrailingZeros_15 ?_
    exact x_iret rfl dJ13_numberOfTrailingZeros_16
theorem SF_J13_numberOfTrailingZeros (l : Launch) {d : Nat} (hdd : 1 ≤ d) (x0 : Int) (h : XH) (hok : okH h) (ho : okXs (xn h) [(0, x0)]) (fin : XR) (hf : F_J13_numberOfTrailingZeros x0 h = some fin) : xSpec l yJ13_numberOfTrailingZeros cJ13_numberOfTrailingZeros 2 (some .int) d 0 [(0, x0)] h fin := x_enter (lv := [(0, (0, x0))]) (by decide) rfl rfl (Nat.le_of_ble_eq_true rfl) rfl (fun Z _ => WF_J13_numberOfTrailingZeros hdd x0 h) hok ho fin hf
theorem cl_X24_67 {ρ : Type} {fh : ρ → XH} {QQ : XZ ρ → State → Prop} {mn : String} {cc : ByteArray} {nL : Nat} {ret : Option FieldType} {d : Nat} {Z : XZ ρ} {pc : Nat} {lv : List (Nat × AV)} {st : List AV} {h : XH} {g : Int → XH → Option ρ} {a0 : Int} (hdd : 2 ≤ d) (hcat : (st.map fun v => if v.1 = 1 then 2 else 1).sum ≤ 8) (hdg : decode cc pc = .ok (.invokestatic 67, 3)) (kk : ∀ r h1, XG fh QQ RX24 mn cc nL ret d Z (pc + 3) lv ((0, r) :: st) h1 (g r h1)) : XG fh QQ RX24 mn cc nL ret d Z pc lv ((0, a0) :: st) h (mb (F_J13_numberOfTrailingZeros a0 h) g) :=
  x_callSi [(0, a0)] 1 (WF_J13_numberOfTrailingZeros (Z := (Z.1, Z.2.1, ((0, h), h))) (Nat.le_refl 1) a0 h).1 (fun hok ho fin hf => SF_J13_numberOfTrailingZeros (yL Z) (Nat.le_refl 1) a0 h hok ho fin hf) (lw_S q1408 q1409 q163 q1410) ⟨by decide +kernel, by decide +kernel, by decide +kernel⟩ rfl (by omega) (by decide) rfl hcat hdg kk
theorem cl_X24_73 {ρ : Type} {fh : ρ → XH} {QQ : XZ ρ → State → Prop} {mn : String} {cc : ByteArray} {nL : Nat} {ret : Option FieldType} {d : Nat} {Z : XZ ρ} {pc : Nat} {lv : List (Nat × AV)} {st : List AV} {h : XH} {g : Int → XH → Option ρ} {b a0 a1 a2 a3 : Int} (hdd : 2 ≤ d) (hcat : (st.map fun v => if v.1 = 1 then 2 else 1).sum ≤ 8) (hdg : decode cc pc = .ok (.invokevirtual 73, 3)) (kk : ∀ r h1, XG fh QQ RX24 mn cc nL ret d Z (pc + 3) lv ((0, r) :: st) h1 (g r h1)) : XG fh QQ RX24 mn cc nL ret d Z pc lv ((0, a3) :: (0, a2) :: (0, a1) :: (2, a0) :: (2, b) :: st) h (ob h b 22 (mb (F_X24_splits b a0 a1 a2 a3 h) g)) :=
  x_callVi [(2, a0), (0, a1), (0, a2), (0, a3)] 4 (WF_X24_splits (Z := (Z.1, Z.2.1, ((0, h), h))) (Nat.le_refl 1) b a0 a1 a2 a3 h).1 (fun hok ho fin hf => SF_X24_splits (yL Z) (Nat.le_refl 1) b a0 a1 a2 a3 h hok ho fin hf) RX24 22 rfl (by decide) (lw_V q1412 q1414 qs53 q162 q1415) ⟨rfl, by decide +kernel, by decide +kernel, by decide +kernel⟩ rfl (by omega) (by decide) rfl hcat hdg kk
theorem cl_X24_77 {ρ : Type} {fh : ρ → XH} {QQ : XZ ρ → State → Prop} {mn : String} {cc : ByteArray} {nL : Nat} {ret : Option FieldType} {d : Nat} {Z : XZ ρ} {pc : Nat} {lv : List (Nat × AV)} {st : List AV} {h : XH} {g : Int → XH → Option ρ} {a0 : Int} (hdd : 2 ≤ d) (hcat : (st.map fun v => if v.1 = 1 then 2 else 1).sum ≤ 8) (hdg : decode cc pc = .ok (.invokestatic 77, 3)) (kk : ∀ r h1, XG fh QQ RX24 mn cc nL ret d Z (pc + 3) lv ((0, r) :: st) h1 (g r h1)) : XG fh QQ RX24 mn cc nL ret d Z pc lv ((0, a0) :: st) h (mb (F_J13_bitCount a0 h) g) :=
  x_callSi [(0, a0)] 1 (WF_J13_bitCount (Z := (Z.1, Z.2.1, ((0, h), h))) (Nat.le_refl 1) a0 h).1 (fun hok ho fin hf => SF_J13_bitCount (yL Z) (Nat.le_refl 1) a0 h hok ho fin hf) (lw_S q1416 q1417 q163 q1418) ⟨by decide +kernel, by decide +kernel, by decide +kernel⟩ rfl (by omega) (by decide) rfl hcat hdg kk
theorem xg_X24_25 {ρ : Type} {fh : ρ → XH} {QQ : XZ ρ → State → Prop} {mn : String} {cc : ByteArray} {nL : Nat} {ret : Option FieldType} {d : Nat} {Z : XZ ρ} {pc : Nat} {lv : List (Nat × AV)} {st : List AV} {h : XH} {res : Option ρ} {a : Int} (hd : decode cc pc = .ok (.getfield 25, 3)) (kk : XG fh QQ RX24 mn cc nL ret d Z (pc + 3) lv ((0, xv h a 0) :: st) h res) : XG fh QQ RX24 mn cc nL ret d Z pc lv ((2, a) :: st) h (ob h a 22 res) := x_get (C := RX24) (ref := RX24) 22 0 rfl in_X24 (by decide) rfl (by decide) (Or.inl rfl) q1422 hd kk
theorem xg_X24_28 {ρ : Type} {fh : ρ → XH} {QQ : XZ ρ → State → Prop} {mn : String} {cc : ByteArray} {nL : Nat} {ret : Option FieldType} {d : Nat} {Z : XZ ρ} {pc : Nat} {lv : List (Nat × AV)} {st : List AV} {h : XH} {res : Option ρ} {a : Int} (hd : decode cc pc = .ok (.getfield 28, 3)) (kk : XG fh QQ RX24 mn cc nL ret d Z (pc + 3) lv ((2, xv h a 1) :: st) h res) : XG fh QQ RX24 mn cc nL ret d Z pc lv ((2, a) :: st) h (ob h a 22 res) := x_get (C := RX24) (ref := RX24) 22 1 rfl in_X24 (by decide) rfl (by decide) (Or.inl rfl) q1424 hd kk
noncomputable def F_X24_most_198 (K112 : Int → Int → Int → Int → Int → Int → XH → Option XR) (x2 : Int) (x3 : Int) (x4 : Int) (x5 : Int) (x6 : Int) (x7 : Int) (h : XH) : Option XR := nm (w32 (x7 + 1)) fun v1 => K112 x2 x3 x4 x5 x6 v1 h
theorem WF_X24_most_198 {d : Nat} {Z : XZ XR} (hdd : 2 ≤ d) {K112 : Int → Int → Int → Int → Int → Int → XH → Option XR} (hK112 : ∀ x2 x3 x4 x5 x6 x7 h, XG xfh (xQ 0) RX24 "most" cX24_most 9 (some .int) d Z 112 [(2, (2, x2)), (3, (0, x3)), (4, (0, x4)), (5, (2, x5)), (6, (2, x6)), (7, (0, x7))] [] h (K112 x2 x3 x4 x5 x6 x7 h)) : ∀ x2 x3 x4 x5 x6 x7 h, XG xfh (xQ 0) RX24 "most" cX24_most 9 (some .int) d Z 198 [(2, (2, x2)), (3, (0, x3)), (4, (0, x4)), (5, (2, x5)), (6, (2, x6)), (7, (0, x7))] [] h (F_X24_most_198 K112 x2 x3 x4 x5 x6 x7 h) := by
  intro x2 x3 x4 x5 x6 x7 h
  unfold F_X24_most_198
  refine x_iinc 5 dX24_most_198 rfl (by decide) fun v1 => x_lv (lv' := [(7, (0, v1)), (2, (2, x2)), (3, (0, x3)), (4, (0, x4)), (5, (2, x5)), (6, (2, x6))]) rfl ?_
  refine x_goto 112 dX24_most_201 (by decide) ?_
  exact x_sub [1, 2, 3, 4, 5, 0] rfl (hK112 x2 x3 x4 x5 x6 v1 h)
noncomputable def F_X24_most_177 (K112 : Int → Int → Int → Int → Int → Int → XH → Option XR) (K137 : Int → Int → Int → Int → Int → Int → Int → XH → Option XR) (x2 : Int) (x3 : Int) (x4 : Int) (x5 : Int) (x6 : Int) (x7 : Int) (x8 : Int) (h : XH) : Option XR := nm (α := Int) (if x8 = 0 then (-1) else iand (w32 (x8 - 1)) x7) fun v1 => K137 x2 x3 x4 x5 x6 x7 v1 h
theorem WF_X24_most_177 {d : Nat} {Z : XZ XR} (hdd : 2 ≤ d) {K112 : Int → Int → Int → Int → Int → Int → XH → Option XR} (hK112 : ∀ x2 x3 x4 x5 x6 x7 h, XG xfh (xQ 0) RX24 "most" cX24_most 9 (some .int) d Z 112 [(2, (2, x2)), (3, (0, x3)), (4, (0, x4)), (5, (2, x5)), (6, (2, x6)), (7, (0, x7))] [] h (K112 x2 x3 x4 x5 x6 x7 h)) {K137 : Int → Int → Int → Int → Int → Int → Int → XH → Option XR} (hK137 : ∀ x2 x3 x4 x5 x6 x7 x8 h, XG xfh (xQ 0) RX24 "most" cX24_most 9 (some .int) d Z 137 [(2, (2, x2)), (3, (0, x3)), (4, (0, x4)), (5, (2, x5)), (6, (2, x6)), (7, (0, x7)), (8, (0, x8))] [] h (K137 x2 x3 x4 x5 x6 x7 x8 h)) : ∀ x2 x3 x4 x5 x6 x7 x8 h, XG xfh (xQ 0) RX24 "most" cX24_most 9 (some .int) d Z 177 [(2, (2, x2)), (3, (0, x3)), (4, (0, x4)), (5, (2, x5)), (6, (2, x6)), (7, (0, x7)), (8, (0, x8))] [] h (F_X24_most_177 K112 K137 x2 x3 x4 x5 x6 x7 x8 h) := by
  intro x2 x3 x4 x5 x6 x7 x8 h
  unfold F_X24_most_177
  refine x_iload 6 dX24_most_177 rfl ?_
  refine x_join 193 (fun v1 => [(0, v1)]) (fun v1 => ?_) (fun hJ => ?_)
  · refine x_istore (lv' := [(8, (0, v1)), (2, (2, x2)), (3, (0, x3)), (4, (0, x4)), (5, (2, x5)), (6, (2, x6)), (7, (0, x7))]) dX24_most_193 (by decide) rfl ?_
    refine x_goto 137 dX24_most_195 (by decide) ?_
    exact x_sub [1, 2, 3, 4, 5, 6, 0] rfl (hK137 x2 x3 x4 x5 x6 x7 v1 h)
  · refine x_if_neF 186 dX24_most_179 (by decide) (fun _ => ?_) (fun _ => ?_)
    · refine x_iload 6 dX24_most_186 rfl ?_
      refine x_ic dX24_most_188 (by decide) (by decide) ?_
      refine x_isub dX24_most_189 ?_
      refine x_iload 5 dX24_most_190 rfl ?_
      refine x_iand dX24_most_192 ?_
      exact hJ _
    · refine x_ic dX24_most_182 (by decide) (by decide) ?_
      refine x_goto 193 dX24_most_183 (by decide) ?_
      exact hJ _
noncomputable def F_X24_most_167 (K112 : Int → Int → Int → Int → Int → Int → XH → Option XR) (x2 : Int) (x3 : Int) (x5 : Int) (x6 : Int) (x7 : Int) (h : XH) : Option XR := mb (F_J13_bitCount x7 h) fun r1 h2 => F_X24_most_198 K112 x2 x3 r1 x5 x6 x7 h2
theorem WF_X24_most_167 {d : Nat} {Z : XZ XR} (hdd : 2 ≤ d) {K112 : Int → Int → Int → Int → Int → Int → XH → Option XR} (hK112 : ∀ x2 x3 x4 x5 x6 x7 h, XG xfh (xQ 0) RX24 "most" cX24_most 9 (some .int) d Z 112 [(2, (2, x2)), (3, (0, x3)), (4, (0, x4)), (5, (2, x5)), (6, (2, x6)), (7, (0, x7))] [] h (K112 x2 x3 x4 x5 x6 x7 h)) : ∀ x2 x3 x5 x6 x7 h, XG xfh (xQ 0) RX24 "most" cX24_most 9 (some .int) d Z 167 [(2, (2, x2)), (3, (0, x3)), (5, (2, x5)), (6, (2, x6)), (7, (0, x7))] [] h (F_X24_most_167 K112 x2 x3 x5 x6 x7 h) := by
  intro x2 x3 x5 x6 x7 h
  unfold F_X24_most_167
  refine x_iload 4 dX24_most_167 rfl ?_
  refine cl_X24_77 (by omega) (Nat.le_of_ble_eq_true rfl) dX24_most_169 fun r1 h2 => ?_
  refine x_istore (lv' := [(4, (0, r1)), (2, (2, x2)), (3, (0, x3)), (5, (2, x5)), (6, (2, x6)), (7, (0, x7))]) dX24_most_172 (by decide) rfl ?_
  refine x_goto 198 dX24_most_174 (by decide) ?_
  exact x_sub [1, 2, 0, 3, 4, 5] rfl (WF_X24_most_198 hdd hK112 x2 x3 r1 x5 x6 x7 h2)
noncomputable def F_X24_most_137 (K112 : Int → Int → Int → Int → Int → Int → XH → Option XR) : Nat → Int → Int → Int → Int → Int → Int → Int → XH → Option XR
  | 0, _, _, _, _, _, _, _, _ => none
  | n + 1, x2, x3, x4, x5, x6, x7, x8, h => if x8 < 0 then (F_X24_most_198 K112 x2 x3 x4 x5 x6 x7 h) else (ai h x5 0 x8 <| ai h x2 0 0 <| if xv h x2 0 < xv h x5 x8 then (F_X24_most_177 K112 (F_X24_most_137 K112 n) x2 x3 x4 x5 x6 x7 x8 h) else (ai h x6 3 (ixor x7 x8) <| if xv h x6 (ixor x7 x8) = 0 then (F_X24_most_177 K112 (F_X24_most_137 K112 n) x2 x3 x4 x5 x6 x7 x8 h) else (F_X24_most_167 K112 x2 x3 x5 x6 x7 h)))
theorem WF_X24_most_137 {d : Nat} {Z : XZ XR} (hdd : 2 ≤ d) {K112 : Int → Int → Int → Int → Int → Int → XH → Option XR} (hK112 : ∀ x2 x3 x4 x5 x6 x7 h, XG xfh (xQ 0) RX24 "most" cX24_most 9 (some .int) d Z 112 [(2, (2, x2)), (3, (0, x3)), (4, (0, x4)), (5, (2, x5)), (6, (2, x6)), (7, (0, x7))] [] h (K112 x2 x3 x4 x5 x6 x7 h)) : ∀ n x2 x3 x4 x5 x6 x7 x8 h, XG xfh (xQ 0) RX24 "most" cX24_most 9 (some .int) d Z 137 [(2, (2, x2)), (3, (0, x3)), (4, (0, x4)), (5, (2, x5)), (6, (2, x6)), (7, (0, x7)), (8, (0, x8))] [] h (F_X24_most_137 K112 n x2 x3 x4 x5 x6 x7 x8 h) := by
  intro n
  induction n with
  | zero => intro x2 x3 x4 x5 x6 x7 x8 h; exact x_none
  | succ n ih =>
    intro x2 x3 x4 x5 x6 x7 x8 h
    rw [F_X24_most_137]
    refine x_iload 6 dX24_most_137 rfl ?_
    refine x_if_lt 198 dX24_most_139 (by decide) (fun _ => ?_) (fun _ => ?_)
    · exact x_sub [0, 1, 2, 3, 4, 5] rfl (WF_X24_most_198 hdd hK112 x2 x3 x4 x5 x6 x7 h)
    · refine x_aload 3 dX24_most_142 rfl ?_
      refine x_iload 6 dX24_most_144 rfl ?_
      refine x_iald dX24_most_146 ?_
      refine x_aload_n 0 dX24_most_147 rfl rfl ?_
      refine x_ic dX24_most_148 (by decide) (by decide) ?_
      refine x_iald dX24_most_149 ?_
      refine x_icmp_gt 177 dX24_most_150 (by decide) (fun _ => ?_) (fun _ => ?_)
      · exact x_sub [0, 1, 2, 3, 4, 5, 6] rfl (WF_X24_most_177 hdd hK112 ih x2 x3 x4 x5 x6 x7 x8 h)
      · refine x_aload 4 dX24_most_153 rfl ?_
        refine x_iload 5 dX24_most_155 rfl ?_
        refine x_iload 6 dX24_most_157 rfl ?_
        refine x_ixor dX24_most_159 ?_
        refine x_zald dX24_most_160 ?_
        refine x_if_ne 167 dX24_most_161 (by decide) (fun _ => ?_) (fun _ => ?_)
        · exact x_sub [0, 1, 3, 4, 5] rfl (WF_X24_most_167 hdd hK112 x2 x3 x5 x6 x7 h)
        · refine x_goto 177 dX24_most_164 (by decide) ?_
          exact x_sub [0, 1, 2, 3, 4, 5, 6] rfl (WF_X24_most_177 hdd hK112 ih x2 x3 x4 x5 x6 x7 x8 h)
noncomputable def F_X24_most_112 : Nat → Int → Int → Int → Int → Int → Int → XH → Option XR
  | 0, _, _, _, _, _, _, _ => none
  | n + 1, x2, x3, x4, x5, x6, x7, h => if ishl 1 x3 ≤ x7 then (some (x4, h)) else (mb (F_J13_bitCount x7 h) fun r1 h2 => if x4 < r1 then (F_X24_most_137 (F_X24_most_112 n) FU x2 x3 x4 x5 x6 x7 x7 h2) else (F_X24_most_198 (F_X24_most_112 n) x2 x3 x4 x5 x6 x7 h2))
theorem WF_X24_most_112 {d : Nat} {Z : XZ XR} (hdd : 2 ≤ d) : ∀ n x2 x3 x4 x5 x6 x7 h, XG xfh (xQ 0) RX24 "most" cX24_most 9 (some .int) d Z 112 [(2, (2, x2)), (3, (0, x3)), (4, (0, x4)), (5, (2, x5)), (6, (2, x6)), (7, (0, x7))] [] h (F_X24_most_112 n x2 x3 x4 x5 x6 x7 h) := by
  intro n
  induction n with
  | zero => intro x2 x3 x4 x5 x6 x7 h; exact x_none
  | succ n ih =>
    intro x2 x3 x4 x5 x6 x7 h
    rw [F_X24_most_112]
    refine x_iload 5 dX24_most_112 rfl ?_
    refine x_ic dX24_most_114 (by decide) (by decide) ?_
    refine x_iload_n 1 dX24_most_115 rfl rfl ?_
    refine x_ishl dX24_most_116 ?_
    refine x_icmp_ge 204 dX24_most_117 (by decide) (fun _ => ?_) (fun _ => ?_)
    · refine x_iload 2 dX24_most_204 rfl ?_
      exact x_iret rfl dX24_most_206
    · refine x_iload 5 dX24_most_120 rfl ?_
      refine cl_X24_77 (by omega) (Nat.le_of_ble_eq_true rfl) dX24_most_122 fun r1 h2 => ?_
      refine x_iload 2 dX24_most_125 rfl ?_
      refine x_icmp_gt 133 dX24_most_127 (by decide) (fun _ => ?_) (fun _ => ?_)
      · refine x_iload 5 dX24_most_133 rfl ?_
        refine x_istore (lv' := [(8, (0, x7)), (2, (2, x2)), (3, (0, x3)), (4, (0, x4)), (5, (2, x5)), (6, (2, x6)), (7, (0, x7))]) dX24_most_135 (by decide) rfl ?_
        exact x_sub [1, 2, 3, 4, 5, 6, 0] rfl (WF_X24_most_137 hdd ih FU x2 x3 x4 x5 x6 x7 x7 h2)
      · refine x_goto 198 dX24_most_130 (by decide) ?_
        exact x_sub [0, 1, 2, 3, 4, 5] rfl (WF_X24_most_198 hdd ih x2 x3 x4 x5 x6 x7 h2)
noncomputable def F_X24_most_109 (x2 : Int) (x3 : Int) (x4 : Int) (x5 : Int) (x6 : Int) (h : XH) : Option XR := F_X24_most_112 FU x2 x3 x4 x5 x6 0 h
theorem WF_X24_most_109 {d : Nat} {Z : XZ XR} (hdd : 2 ≤ d) : ∀ x2 x3 x4 x5 x6 h, XG xfh (xQ 0) RX24 "most" cX24_most 9 (some .int) d Z 109 [(2, (2, x2)), (3, (0, x3)), (4, (0, x4)), (5, (2, x5)), (6, (2, x6))] [] h (F_X24_most_109 x2 x3 x4 x5 x6 h) := by
  intro x2 x3 x4 x5 x6 h
  unfold F_X24_most_109
  refine x_ic dX24_most_109 (by decide) (by decide) ?_
  refine x_istore (lv' := [(7, (0, 0)), (2, (2, x2)), (3, (0, x3)), (4, (0, x4)), (5, (2, x5)), (6, (2, x6))]) dX24_most_110 (by decide) rfl ?_
  exact x_sub [1, 2, 3, 4, 5, 0] rfl (WF_X24_most_112 hdd FU x2 x3 x4 x5 x6 0 h)
noncomputable def F_X24_most_76 : Nat → Int → Int → Int → Int → Int → Int → Int → XH → Option XR
  | 0, _, _, _, _, _, _, _, _ => none
  | n + 1, x0, x2, x3, x4, x5, x6, x7, h => if ishl 1 x3 ≤ x7 then (F_X24_most_109 x2 x3 x4 x5 x6 h) else (ai h x2 0 1 <| ai h x2 0 2 <| ob h x0 22 <| mb (F_X24_splits x0 x5 x7 (xv h x2 1) (xv h x2 2) h) fun r1 h2 => cb r1 <| ai h2 x6 3 x7 <| nm (hset h2 x6 x7 r1) fun h3 => nm (w32 (x7 + 1)) fun v4 => F_X24_most_76 n x0 x2 x3 x4 x5 x6 v4 h3)
theorem WF_X24_most_76 {d : Nat} {Z : XZ XR} (hdd : 2 ≤ d) : ∀ n x0 x2 x3 x4 x5 x6 x7 h, XG xfh (xQ 0) RX24 "most" cX24_most 9 (some .int) d Z 76 [(0, (2, x0)), (2, (2, x2)), (3, (0, x3)), (4, (0, x4)), (5, (2, x5)), (6, (2, x6)), (7, (0, x7))] [] h (F_X24_most_76 n x0 x2 x3 x4 x5 x6 x7 h) := by
  intro n
  induction n with
  | zero => intro x0 x2 x3 x4 x5 x6 x7 h; exact x_none
  | succ n ih =>
    intro x0 x2 x3 x4 x5 x6 x7 h
    rw [F_X24_most_76]
    refine x_iload 6 dX24_most_76 rfl ?_
    refine x_ic dX24_most_78 (by decide) (by decide) ?_
    refine x_iload_n 2 dX24_most_79 rfl rfl ?_
    refine x_ishl dX24_most_80 ?_
    refine x_icmp_ge 109 dX24_most_81 (by decide) (fun _ => ?_) (fun _ => ?_)
    · exact x_sub [1, 2, 3, 4, 5] rfl (WF_X24_most_109 hdd x2 x3 x4 x5 x6 h)
    · refine x_aload 5 dX24_most_84 rfl ?_
      refine x_iload 6 dX24_most_86 rfl ?_
      refine x_aload_n 0 dX24_most_88 rfl rfl ?_
      refine x_aload 4 dX24_most_89 rfl ?_
      refine x_iload 6 dX24_most_91 rfl ?_
      refine x_aload_n 1 dX24_most_93 rfl rfl ?_
      refine x_ic dX24_most_94 (by decide) (by decide) ?_
      refine x_iald dX24_most_95 ?_
      refine x_aload_n 1 dX24_most_96 rfl rfl ?_
      refine x_ic dX24_most_97 (by decide) (by decide) ?_
      refine x_iald dX24_most_98 ?_
      refine cl_X24_73 (by omega) (Nat.le_of_ble_eq_true rfl) dX24_most_99 fun r1 h2 => ?_
      refine x_zast dX24_most_102 fun h3 => ?_
      refine x_iinc 6 dX24_most_103 rfl (by decide) fun v4 => x_lv (lv' := [(7, (0, v4)), (0, (2, x0)), (2, (2, x2)), (3, (0, x3)), (4, (0, x4)), (5, (2, x5)), (6, (2, x6))]) rfl ?_
      refine x_goto 76 dX24_most_106 (by decide) ?_
      exact x_sub [1, 2, 3, 4, 5, 6, 0] rfl (ih x0 x2 x3 x4 x5 x6 v4 h3)
noncomputable def F_X24_most_66 (x0 : Int) (x2 : Int) (x3 : Int) (x4 : Int) (x5 : Int) (h : XH) : Option XR := na h 3 (ishl 1 x3) fun r1 h2 => F_X24_most_76 FU x0 x2 x3 x4 x5 r1 0 h2
theorem WF_X24_most_66 {d : Nat} {Z : XZ XR} (hdd : 2 ≤ d) : ∀ x0 x2 x3 x4 x5 h, XG xfh (xQ 0) RX24 "most" cX24_most 9 (some .int) d Z 66 [(0, (2, x0)), (2, (2, x2)), (3, (0, x3)), (4, (0, x4)), (5, (2, x5))] [] h (F_X24_most_66 x0 x2 x3 x4 x5 h) := by
  intro x0 x2 x3 x4 x5 h
  unfold F_X24_most_66
  refine x_ic dX24_most_66 (by decide) (by decide) ?_
  refine x_iload_n 2 dX24_most_67 rfl rfl ?_
  refine x_ishl dX24_most_68 ?_
  refine x_newarr (atype := .boolean) 3 (by decide) rfl rfl q1441 dX24_most_69 fun r1 h2 => ?_
  refine x_astore (lv' := [(6, (2, r1)), (0, (2, x0)), (2, (2, x2)), (3, (0, x3)), (4, (0, x4)), (5, (2, x5))]) dX24_most_71 (by decide) rfl ?_
  refine x_ic dX24_most_73 (by decide) (by decide) ?_
  refine x_istore (lv' := [(7, (0, 0)), (6, (2, r1)), (0, (2, x0)), (2, (2, x2)), (3, (0, x3)), (4, (0, x4)), (5, (2, x5))]) dX24_most_74 (by decide) rfl ?_
  exact x_sub [2, 3, 4, 5, 6, 1, 0] rfl (WF_X24_most_76 hdd FU x0 x2 x3 x4 x5 r1 0 h2)
noncomputable def F_X24_most_20 : Nat → Int → Int → Int → Int → Int → Int → Int → XH → Option XR
  | 0, _, _, _, _, _, _, _, _ => none
  | n + 1, x0, x1, x2, x3, x4, x5, x6, h => if ishl 1 x3 ≤ x6 then (F_X24_most_66 x0 x2 x3 x4 x5 h) else (mb (F_J13_numberOfTrailingZeros x6 h) fun r1 h2 => ai h2 x5 0 (iand x6 (w32 (x6 - 1))) <| ob h2 x0 22 <| ai h2 (xv h2 x0 1) 0 (w32 (x1 + r1)) <| ai h2 x5 0 x6 <| nm (hset h2 x5 x6 (w32 ((xv h2 x5 (iand x6 (w32 (x6 - 1)))) + (xv h2 (xv h2 x0 1) (w32 (x1 + r1)))))) fun h3 => nm (w32 (x6 + 1)) fun v4 => F_X24_most_20 n x0 x1 x2 x3 x4 x5 v4 h3)
theorem WF_X24_most_20 {d : Nat} {Z : XZ XR} (hdd : 2 ≤ d) : ∀ n x0 x1 x2 x3 x4 x5 x6 h, XG xfh (xQ 0) RX24 "most" cX24_most 9 (some .int) d Z 20 [(0, (2, x0)), (1, (0, x1)), (2, (2, x2)), (3, (0, x3)), (4, (0, x4)), (5, (2, x5)), (6, (0, x6))] [] h (F_X24_most_20 n x0 x1 x2 x3 x4 x5 x6 h) := by
  intro n
  induction n with
  | zero => intro x0 x1 x2 x3 x4 x5 x6 h; exact x_none
  | succ n ih =>
    intro x0 x1 x2 x3 x4 x5 x6 h
    rw [F_X24_most_20]
    refine x_iload 6 dX24_most_20 rfl ?_
    refine x_ic dX24_most_22 (by decide) (by decide) ?_
    refine x_iload_n 3 dX24_most_23 rfl rfl ?_
    refine x_ishl dX24_most_24 ?_
    refine x_icmp_ge 66 dX24_most_25 (by decide) (fun _ => ?_) (fun _ => ?_)
    · exact x_sub [0, 2, 3, 4, 5] rfl (WF_X24_most_66 hdd x0 x2 x3 x4 x5 h)
    · refine x_iload 6 dX24_most_28 rfl ?_
      refine cl_X24_67 (by omega) (Nat.le_of_ble_eq_true rfl) dX24_most_30 fun r1 h2 => ?_
      refine x_istore (lv' := [(7, (0, r1)), (0, (2, x0)), (1, (0, x1)), (2, (2, x2)), (3, (0, x3)), (4, (0, x4)), (5, (2, x5)), (6, (0, x6))]) dX24_most_33 (by decide) rfl ?_
      refine x_aload 6 dX24_most_35 rfl ?_
      refine x_iload 7 dX24_most_37 rfl ?_
      refine x_aload 6 dX24_most_39 rfl ?_
      refine x_iload 7 dX24_most_41 rfl ?_
      refine x_iload 7 dX24_most_43 rfl ?_
      refine x_ic dX24_most_45 (by decide) (by decide) ?_
      refine x_isub dX24_most_46 ?_
      refine x_iand dX24_most_47 ?_
      refine x_iald dX24_most_48 ?_
      refine x_aload_n 1 dX24_most_49 rfl rfl ?_
      refine xg_X24_28 dX24_most_50 ?_
      refine x_iload_n 2 dX24_most_53 rfl rfl ?_
      refine x_iload 0 dX24_most_54 rfl ?_
      refine x_iadd dX24_most_56 ?_
      refine x_iald dX24_most_57 ?_
      refine x_iadd dX24_most_58 ?_
      refine x_iast dX24_most_59 fun h3 => ?_
      refine x_iinc 7 dX24_most_60 rfl (by decide) fun v4 => x_lv (lv' := [(6, (0, v4)), (7, (0, r1)), (0, (2, x0)), (1, (0, x1)), (2, (2, x2)), (3, (0, x3)), (4, (0, x4)), (5, (2, x5))]) rfl ?_
      refine x_goto 20 dX24_most_63 (by decide) ?_
      exact x_sub [2, 3, 4, 5, 6, 7, 0] rfl (ih x0 x1 x2 x3 x4 x5 v4 h3)
noncomputable def F_X24_most (x0 : Int) (x1 : Int) (x2 : Int) (h : XH) : Option XR := ob h x0 22 <| nm (α := Int) (w32 ((xv h x0 0) - x1)) fun v1 => na h 0 (ishl 1 v1) fun r2 h3 => F_X24_most_20 FU x0 x1 x2 v1 0 r2 1 h3
theorem WF_X24_most {d : Nat} {Z : XZ XR} (hdd : 2 ≤ d) : ∀ x0 x1 x2 h, XG xfh (xQ 0) RX24 "most" cX24_most 9 (some .int) d Z 0 [(0, (2, x0)), (1, (0, x1)), (2, (2, x2))] [] h (F_X24_most x0 x1 x2 h) := by
  intro x0 x1 x2 h
  unfold F_X24_most
  refine x_aload_n 0 dX24_most_0 rfl rfl ?_
  refine xg_X24_25 dX24_most_1 ?_
  refine x_iload_n 1 dX24_most_4 rfl rfl ?_
  refine x_isub dX24_most_5 ?_
  refine x_nmT fun v1 => ?_
  refine x_istore_n (lv' := [(3, (0, v1)), (0, (2, x0)), (1, (0, x1)), (2, (2, x2))]) dX24_most_6 rfl (by decide) rfl ?_
  refine x_ic dX24_most_7 (by decide) (by decide) ?_
  refine x_istore (lv' := [(4, (0, 0)), (3, (0, v1)), (0, (2, x0)), (1, (0, x1)), (2, (2, x2))]) dX24_most_8 (by decide) rfl ?_
  refine x_ic dX24_most_10 (by decide) (by decide) ?_
  refine x_iload_n 1 dX24_most_11 rfl rfl ?_
  refine x_ishl dX24_most_12 ?_
  refine x_newarr (atype := .int) 0 (by decide) rfl rfl q252 dX24_most_13 fun r2 h3 => ?_
  refine x_astore (lv' := [(5, (2, r2)), (4, (0, 0)), (3, (0, v1)), (0, (2, x0)), (1, (0, x1)), (2, (2, x2))]) dX24_most_15 (by decide) rfl ?_
  refine x_ic dX24_most_17 (by decide) (by decide) ?_
  refine x_istore (lv' := [(6, (0, 1)), (5, (2, r2)), (4, (0, 0)), (3, (0, v1)), (0, (2, x0)), (1, (0, x1)), (2, (2, x2))]) dX24_most_18 (by decide) rfl ?_
  exact x_sub [4, 5, 6, 3, 2, 1, 0] rfl (WF_X24_most_20 hdd FU x0 x1 x2 v1 0 r2 1 h3)
theorem SF_X24_most (l : Launch) {d : Nat} (hdd : 2 ≤ d) (x0 : Int) (x1 : Int) (x2 : Int) (h : XH) (hok : okH h) (ho : okXs (xn h) [(2, x0), (0, x1), (2, x2)]) (fin : XR) (hf : F_X24_most x0 x1 x2 h = some fin) : xSpec l yX24_most cX24_most 9 (some .int) d 0 [(2, x0), (0, x1), (2, x2)] h fin := x_enter (lv := [(0, (2, x0)), (1, (0, x1)), (2, (2, x2))]) (by decide) rfl rfl (Nat.le_of_ble_eq_true rfl) rfl (fun Z _ => WF_X24_most hdd x0 x1 x2 h) hok ho fin hf
theorem cl_X24_15 {ρ : Type} {fh : ρ → XH} {QQ : XZ ρ → State → Prop} {mn : String} {cc : ByteArray} {nL : Nat} {ret : Option FieldType} {d : Nat} {Z : XZ ρ} {pc : Nat} {lv : List (Nat × AV)} {st : List AV} {h : XH} {g : Int → XH → Option ρ} {b : Int} (hdd : 3 ≤ d) (hcat : (st.map fun v => if v.1 = 1 then 2 else 1).sum ≤ 8) (hdg : decode cc pc = .ok (.invokevirtual 15, 3)) (kk : ∀ r h1, XG fh QQ RX24 mn cc nL ret d Z (pc + 3) lv ((0, r) :: st) h1 (g r h1)) : XG fh QQ RX24 mn cc nL ret d Z pc lv ((2, b) :: st) h (ob h b 1 (mb (F_X0_many b h) g)) :=
  x_callPi [] 0 (WF_X0_many (Z := (Z.1, Z.2.1, ((0, h), h))) (Nat.le_refl 2) b h).1 (fun hok ho fin hf => SF_X0_many (yL Z) (Nat.le_refl 2) b h hok ho fin hf) RX0 1 rfl (by decide) q1399 q124 q368 qs2 (lw_meth q369) ⟨by decide +kernel, by decide +kernel, by decide +kernel⟩ rfl (by omega) (by decide) rfl hcat hdg kk
theorem cl_X24_45 {ρ : Type} {fh : ρ → XH} {QQ : XZ ρ → State → Prop} {mn : String} {cc : ByteArray} {nL : Nat} {ret : Option FieldType} {d : Nat} {Z : XZ ρ} {pc : Nat} {lv : List (Nat × AV)} {st : List AV} {h : XH} {g : Int → XH → Option ρ} {b a0 : Int} (hdd : 4 ≤ d) (hcat : (st.map fun v => if v.1 = 1 then 2 else 1).sum ≤ 8) (hdg : decode cc pc = .ok (.invokevirtual 45, 3)) (kk : ∀ r h1, XG fh QQ RX24 mn cc nL ret d Z (pc + 3) lv ((2, r) :: st) h1 (g r h1)) : XG fh QQ RX24 mn cc nL ret d Z pc lv ((0, a0) :: (2, b) :: st) h (ob h b 26 (mb (F_J2_get b a0 h) g)) :=
  x_callVr [(0, a0)] 1 (WF_J2_get (Z := (Z.1, Z.2.1, ((0, h), h))) (Nat.le_refl 3) b a0 h).1 (fun hok ho fin hf => SF_J2_get (yL Z) (Nat.le_refl 3) b a0 h hok ho fin hf) RJ2 26 rfl (by decide) (lw_V q1401 q497 q498 q128 q499) ⟨rfl, by decide +kernel, by decide +kernel, by decide +kernel⟩ rfl (by omega) (by decide) rfl hcat hdg kk
theorem cl_X24_53 {ρ : Type} {fh : ρ → XH} {QQ : XZ ρ → State → Prop} {mn : String} {cc : ByteArray} {nL : Nat} {ret : Option FieldType} {d : Nat} {Z : XZ ρ} {pc : Nat} {lv : List (Nat × AV)} {st : List AV} {h : XH} {g : Int → XH → Option ρ} {b a0 a1 a2 a3 : Int} (hdd : 127 ≤ d) (hcat : (st.map fun v => if v.1 = 1 then 2 else 1).sum ≤ 8) (hdg : decode cc pc = .ok (.invokevirtual 53, 3)) (kk : ∀ r h1, XG fh QQ RX24 mn cc nL ret d Z (pc + 3) lv ((0, r) :: st) h1 (g r h1)) : XG fh QQ RX24 mn cc nL ret d Z pc lv ((0, a3) :: (0, a2) :: (0, a1) :: (2, a0) :: (2, b) :: st) h (ob h b 1 (mb (F_X0_takes_2 b a0 a1 a2 a3 h) g)) :=
  x_callPi [(2, a0), (0, a1), (0, a2), (0, a3)] 4 (WF_X0_takes_2 (Z := (Z.1, Z.2.1, ((0, h), h))) (Nat.le_refl 126) b a0 a1 a2 a3 h).1 (fun hok ho fin hf => SF_X0_takes_2 (yL Z) (Nat.le_refl 126) b a0 a1 a2 a3 h hok ho fin hf) RX0 1 rfl (by decide) q1403 q124 q911 qs28 (lw_meth q912) ⟨by decide +kernel, by decide +kernel, by decide +kernel⟩ rfl (by omega) (by decide) rfl hcat hdg kk
theorem cl_X24_60 {ρ : Type} {fh : ρ → XH} {QQ : XZ ρ → State → Prop} {mn : String} {cc : ByteArray} {nL : Nat} {ret : Option FieldType} {d : Nat} {Z : XZ ρ} {pc : Nat} {lv : List (Nat × AV)} {st : List AV} {h : XH} {g : Int → XH → Option ρ} {b a0 a1 : Int} (hdd : 3 ≤ d) (hcat : (st.map fun v => if v.1 = 1 then 2 else 1).sum ≤ 8) (hdg : decode cc pc = .ok (.invokevirtual 60, 3)) (kk : ∀ r h1, XG fh QQ RX24 mn cc nL ret d Z (pc + 3) lv ((0, r) :: st) h1 (g r h1)) : XG fh QQ RX24 mn cc nL ret d Z pc lv ((2, a1) :: (0, a0) :: (2, b) :: st) h (ob h b 22 (mb (F_X24_most b a0 a1 h) g)) :=
  x_callVi [(0, a0), (2, a1)] 2 (WF_X24_most (Z := (Z.1, Z.2.1, ((0, h), h))) (Nat.le_refl 2) b a0 a1 h).1 (fun hok ho fin hf => SF_X24_most (yL Z) (Nat.le_refl 2) b a0 a1 h hok ho fin hf) RX24 22 rfl (by decide) (lw_V q1404 q1406 qs52 q162 q1407) ⟨rfl, by decide +kernel, by decide +kernel, by decide +kernel⟩ rfl (by omega) (by decide) rfl hcat hdg kk
theorem xpF_X24_25 {ρ : Type} {fh : ρ → XH} {QQ : XZ ρ → State → Prop} {cc : ByteArray} {nL : Nat} {ret : Option FieldType} {d : Nat} {Z : XZ ρ} {pc : Nat} {lv : List (Nat × AV)} {st : List AV} {h : XH} {f : XH → Option ρ} {a x : Int} (hd : decode cc pc = .ok (.putfield 25, 3)) (kk : ∀ h1, XG fh QQ RX24 "<init>" cc nL ret d Z (pc + 3) lv st h1 (f h1)) : XG fh QQ RX24 "<init>" cc nL ret d Z pc lv ((0, x) :: (2, a) :: st) h (ob h a 22 (nm (hset h a 0 x) f)) := x_putF (C := RX24) (ref := RX24) 22 0 rfl in_X24 tyX24_ok nmX24 (by decide) rfl (by decide) (Or.inl rfl) rfl rfl rfl (xfit_X24 0 (by decide)) 0 rfl q1422 hd kk
theorem xpF_X24_28 {ρ : Type} {fh : ρ → XH} {QQ : XZ ρ → State → Prop} {cc : ByteArray} {nL : Nat} {ret : Option FieldType} {d : Nat} {Z : XZ ρ} {pc : Nat} {lv : List (Nat × AV)} {st : List AV} {h : XH} {f : XH → Option ρ} {a x : Int} (hd : decode cc pc = .ok (.putfield 28, 3)) (kk : ∀ h1, XG fh QQ RX24 "<init>" cc nL ret d Z (pc + 3) lv st h1 (f h1)) : XG fh QQ RX24 "<init>" cc nL ret d Z pc lv ((2, x) :: (2, a) :: st) h (ob h a 22 (nm (hset h a 1 x) f)) := x_putF (C := RX24) (ref := RX24) 22 1 rfl in_X24 tyX24_ok nmX24 (by decide) rfl (by decide) (Or.inl rfl) rfl rfl rfl (xfit_X24 1 (by decide)) 2 rfl q1424 hd kk
theorem xg_X24_3 {ρ : Type} {fh : ρ → XH} {QQ : XZ ρ → State → Prop} {mn : String} {cc : ByteArray} {nL : Nat} {ret : Option FieldType} {d : Nat} {Z : XZ ρ} {pc : Nat} {lv : List (Nat × AV)} {st : List AV} {h : XH} {res : Option ρ} {a : Int} (hd : decode cc pc = .ok (.getfield 3, 3)) (kk : XG fh QQ RX24 mn cc nL ret d Z (pc + 3) lv ((2, xv h a 4) :: st) h res) : XG fh QQ RX24 mn cc nL ret d Z pc lv ((2, a) :: st) h (ob h a 22 res) := x_get (C := RX24) (ref := RX24) 22 4 rfl in_X24 (by decide) rfl (by decide) (Or.inl rfl) q1429 hd kk
theorem xpF_X24_3 {ρ : Type} {fh : ρ → XH} {QQ : XZ ρ → State → Prop} {cc : ByteArray} {nL : Nat} {ret : Option FieldType} {d : Nat} {Z : XZ ρ} {pc : Nat} {lv : List (Nat × AV)} {st : List AV} {h : XH} {f : XH → Option ρ} {a x : Int} (hd : decode cc pc = .ok (.putfield 3, 3)) (kk : ∀ h1, XG fh QQ RX24 "<init>" cc nL ret d Z (pc + 3) lv st h1 (f h1)) : XG fh QQ RX24 "<init>" cc nL ret d Z pc lv ((2, x) :: (2, a) :: st) h (ob h a 22 (nm (hset h a 4 x) f)) := x_putF (C := RX24) (ref := RX24) 22 4 rfl in_X24 tyX24_ok nmX24 (by decide) rfl (by decide) (Or.inl rfl) rfl rfl rfl (xfit_X24 4 (by decide)) 2 rfl q1429 hd kk
theorem xg_X24_32 {ρ : Type} {fh : ρ → XH} {QQ : XZ ρ → State → Prop} {mn : String} {cc : ByteArray} {nL : Nat} {ret : Option FieldType} {d : Nat} {Z : XZ ρ} {pc : Nat} {lv : List (Nat × AV)} {st : List AV} {h : XH} {res : Option ρ} {a : Int} (hd : decode cc pc = .ok (.getfield 32, 3)) (kk : XG fh QQ RX24 mn cc nL ret d Z (pc + 3) lv ((2, xv h a 2) :: st) h res) : XG fh QQ RX24 mn cc nL ret d Z pc lv ((2, a) :: st) h (ob h a 22 res) := x_get (C := RX24) (ref := RX24) 22 2 rfl in_X24 (by decide) rfl (by decide) (Or.inl rfl) q1425 hd kk
theorem xpF_X24_32 {ρ : Type} {fh : ρ → XH} {QQ : XZ ρ → State → Prop} {cc : ByteArray} {nL : Nat} {ret : Option FieldType} {d : Nat} {Z : XZ ρ} {pc : Nat} {lv : List (Nat × AV)} {st : List AV} {h : XH} {f : XH → Option ρ} {a x : Int} (hd : decode cc pc = .ok (.putfield 32, 3)) (kk : ∀ h1, XG fh QQ RX24 "<init>" cc nL ret d Z (pc + 3) lv st h1 (f h1)) : XG fh QQ RX24 "<init>" cc nL ret d Z pc lv ((2, x) :: (2, a) :: st) h (ob h a 22 (nm (hset h a 2 x) f)) := x_putF (C := RX24) (ref := RX24) 22 2 rfl in_X24 tyX24_ok nmX24 (by decide) rfl (by decide) (Or.inl rfl) rfl rfl rfl (xfit_X24 2 (by decide)) 2 rfl q1425 hd kk
theorem xg_X24_35 {ρ : Type} {fh : ρ → XH} {QQ : XZ ρ → State → Prop} {mn : String} {cc : ByteArray} {nL : Nat} {ret : Option FieldType} {d : Nat} {Z : XZ ρ} {pc : Nat} {lv : List (Nat × AV)} {st : List AV} {h : XH} {res : Option ρ} {a : Int} (hd : decode cc pc = .ok (.getfield 35, 3)) (kk : XG fh QQ RX24 mn cc nL ret d Z (pc + 3) lv ((2, xv h a 0) :: st) h res) : XG fh QQ RX24 mn cc nL ret d Z pc lv ((2, a) :: st) h (ob h a 1 res) := x_getN (C := RX0) (ref := RX0) 1 0 rfl in_X0 (by decide) rfl (by decide) (Or.inl rfl) q291 hd kk
theorem xg_X24_39 {ρ : Type} {fh : ρ → XH} {QQ : XZ ρ → State → Prop} {mn : String} {cc : ByteArray} {nL : Nat} {ret : Option FieldType} {d : Nat} {Z : XZ ρ} {pc : Nat} {lv : List (Nat × AV)} {st : List AV} {h : XH} {res : Option ρ} {a : Int} (hd : decode cc pc = .ok (.getfield 39, 3)) (kk : XG fh QQ RX24 mn cc nL ret d Z (pc + 3) lv ((2, xv h a 0) :: st) h res) : XG fh QQ RX24 mn cc nL ret d Z pc lv ((2, a) :: st) h (ob h a 2 res) := x_getN (C := RX1) (ref := RX1) 2 0 rfl in_X1 (by decide) rfl (by decide) (Or.inl rfl) q212 hd kk
theorem xg_X24_57 {ρ : Type} {fh : ρ → XH} {QQ : XZ ρ → State → Prop} {mn : String} {cc : ByteArray} {nL : Nat} {ret : Option FieldType} {d : Nat} {Z : XZ ρ} {pc : Nat} {lv : List (Nat × AV)} {st : List AV} {h : XH} {res : Option ρ} {a : Int} (hd : decode cc pc = .ok (.getfield 57, 3)) (kk : XG fh QQ RX24 mn cc nL ret d Z (pc + 3) lv ((2, xv h a 4) :: st) h res) : XG fh QQ RX24 mn cc nL ret d Z pc lv ((2, a) :: st) h (ob h a 2 res) := x_getN (C := RX1) (ref := RX1) 2 4 rfl in_X1 (by decide) rfl (by decide) (Or.inl rfl) q227 hd kk
theorem xg_X24_64 {ρ : Type} {fh : ρ → XH} {QQ : XZ ρ → State → Prop} {mn : String} {cc : ByteArray} {nL : Nat} {ret : Option FieldType} {d : Nat} {Z : XZ ρ} {pc : Nat} {lv : List (Nat × AV)} {st : List AV} {h : XH} {res : Option ρ} {a : Int} (hd : decode cc pc = .ok (.getfield 64, 3)) (kk : XG fh QQ RX24 mn cc nL ret d Z (pc + 3) lv ((0, xv h a 3) :: st) h res) : XG fh QQ RX24 mn cc nL ret d Z pc lv ((2, a) :: st) h (ob h a 22 res) := x_get (C := RX24) (ref := RX24) 22 3 rfl in_X24 (by decide) rfl (by decide) (Or.inl rfl) q1427 hd kk
theorem xp_X24_64 {ρ : Type} {fh : ρ → XH} {QQ : XZ ρ → State → Prop} {mn : String} {cc : ByteArray} {nL : Nat} {ret : Option FieldType} {d : Nat} {Z : XZ ρ} {pc : Nat} {lv : List (Nat × AV)} {st : List AV} {h : XH} {f : XH → Option ρ} {a x : Int} (hd : decode cc pc = .ok (.putfield 64, 3)) (kk : ∀ h1, XG fh QQ RX24 mn cc nL ret d Z (pc + 3) lv st h1 (f h1)) : XG fh QQ RX24 mn cc nL ret d Z pc lv ((0, x) :: (2, a) :: st) h (ob h a 22 (nm (hset h a 3 x) f)) := x_put (C := RX24) (ref := RX24) 22 3 rfl in_X24 tyX24_ok nmX24 (by decide) rfl (by decide) (Or.inl rfl) (by decide) (xfit_X24 3 (by decide)) 0 rfl q1427 hd kk
noncomputable def F_X24_init_266 (K157 : Int → Int → Int → Int → XH → Option XR) (K177 : Int → Int → Int → Int → Int → XH → Option XR) (x0 : Int) (x2 : Int) (x3 : Int) (x4 : Int) (x5 : Int) (h : XH) : Option XR := nm (w32 (x5 + 1)) fun v1 => K177 x0 x2 x3 x4 v1 h
theorem WF_X24_init_266 {d : Nat} {Z : XZ XR} (hdd : 127 ≤ d) {K157 : Int → Int → Int → Int → XH → Option XR} (hK157 : ∀ x0 x2 x3 x4 h, XG xfh (xQ 2) RX24 "<init>" cX24_init 6 none d Z 157 [(0, (2, x0)), (2, (2, x2)), (3, (0, x3)), (4, (0, x4))] [] h (K157 x0 x2 x3 x4 h)) {K177 : Int → Int → Int → Int → Int → XH → Option XR} (hK177 : ∀ x0 x2 x3 x4 x5 h, XG xfh (xQ 2) RX24 "<init>" cX24_init 6 none d Z 177 [(0, (2, x0)), (2, (2, x2)), (3, (0, x3)), (4, (0, x4)), (5, (0, x5))] [] h (K177 x0 x2 x3 x4 x5 h)) : ∀ x0 x2 x3 x4 x5 h, XG xfh (xQ 2) RX24 "<init>" cX24_init 6 none d Z 266 [(0, (2, x0)), (2, (2, x2)), (3, (0, x3)), (4, (0, x4)), (5, (0, x5))] [] h (F_X24_init_266 K157 K177 x0 x2 x3 x4 x5 h) := by
  intro x0 x2 x3 x4 x5 h
  unfold F_X24_init_266
  refine x_iinc 4 dX24_init_266 rfl (by decide) fun v1 => x_lv (lv' := [(5, (0, v1)), (0, (2, x0)), (2, (2, x2)), (3, (0, x3)), (4, (0, x4))]) rfl ?_
  refine x_goto 177 dX24_init_269 (by decide) ?_
  exact x_sub [1, 2, 3, 4, 0] rfl (hK177 x0 x2 x3 x4 v1 h)
noncomputable def F_X24_init_272 (K157 : Int → Int → Int → Int → XH → Option XR) (x0 : Int) (x2 : Int) (x3 : Int) (x4 : Int) (h : XH) : Option XR := ob h x0 22 <| ai h (xv h x0 2) 0 x4 <| nm (α := Int) (if xv h (xv h x0 2) x4 = (-1) then 0 else 1) fun v1 => nm (α := Int) (w32 (x3 - v1)) fun v2 => nm (w32 (x4 + 1)) fun v3 => K157 x0 x2 v2 v3 h
theorem WF_X24_init_272 {d : Nat} {Z : XZ XR} (hdd : 127 ≤ d) {K157 : Int → Int → Int → Int → XH → Option XR} (hK157 : ∀ x0 x2 x3 x4 h, XG xfh (xQ 2) RX24 "<init>" cX24_init 6 none d Z 157 [(0, (2, x0)), (2, (2, x2)), (3, (0, x3)), (4, (0, x4))] [] h (K157 x0 x2 x3 x4 h)) : ∀ x0 x2 x3 x4 h, XG xfh (xQ 2) RX24 "<init>" cX24_init 6 none d Z 272 [(0, (2, x0)), (2, (2, x2)), (3, (0, x3)), (4, (0, x4))] [] h (F_X24_init_272 K157 x0 x2 x3 x4 h) := by
  intro x0 x2 x3 x4 h
  unfold F_X24_init_272
  refine x_iload_n 2 dX24_init_272 rfl rfl ?_
  refine x_aload_n 0 dX24_init_273 rfl rfl ?_
  refine xg_X24_32 dX24_init_274 ?_
  refine x_iload 3 dX24_init_277 rfl ?_
  refine x_iald dX24_init_279 ?_
  refine x_ic dX24_init_280 (by decide) (by decide) ?_
  refine x_join 289 (fun v1 => [(0, v1), (0, x3)]) (fun v1 => ?_) (fun hJ => ?_)
  · refine x_isub dX24_init_289 ?_
    refine x_nmT fun v2 => ?_
    refine x_istore_n (lv' := [(3, (0, v2)), (0, (2, x0)), (2, (2, x2)), (4, (0, x4))]) dX24_init_290 rfl (by decide) rfl ?_
    refine x_iinc 3 dX24_init_291 rfl (by decide) fun v3 => x_lv (lv' := [(4, (0, v3)), (3, (0, v2)), (0, (2, x0)), (2, (2, x2))]) rfl ?_
    refine x_goto 157 dX24_init_294 (by decide) ?_
    exact x_sub [2, 3, 1, 0] rfl (hK157 x0 x2 v2 v3 h)
  · refine x_icmp_neF 288 dX24_init_281 (by decide) (fun _ => ?_) (fun _ => ?_)
    · refine x_ic dX24_init_288 (by decide) (by decide) ?_
      exact hJ _
    · refine x_ic dX24_init_284 (by decide) (by decide) ?_
      refine x_goto 289 dX24_init_285 (by decide) ?_
      exact hJ _
noncomputable def F_X24_init_177 (K157 : Int → Int → Int → Int → XH → Option XR) : Nat → Int → Int → Int → Int → Int → XH → Option XR
  | 0, _, _, _, _, _, _ => none
  | n + 1, x0, x2, x3, x4, x5, h => if 3 ≤ x5 then (F_X24_init_272 K157 x0 x2 x3 x4 h) else (ob h x0 22 <| ai h (xv h x0 2) 0 x4 <| if xv h (xv h x0 2) x4 = (-1) then (ob h x0 22 <| ai h (xv h x0 1) 0 x4 <| ai h x2 0 x5 <| if xv h (xv h x0 1) x4 ≤ xv h x2 x5 then (ai h x2 0 x5 <| ob h x0 22 <| ai h (xv h x0 1) 0 x4 <| ai h x2 0 x5 <| nm (hset h x2 x5 (w32 ((xv h x2 x5) - (xv h (xv h x0 1) x4)))) fun h1 => ob h1 x0 22 <| mb (F_X24_most x0 (w32 (x4 + 1)) x2 h1) fun r2 h3 => if w32 (1 + r2) = x3 then (ob h3 x0 22 <| ai h3 (xv h3 x0 2) 0 x4 <| nm (hset h3 (xv h3 x0 2) x4 x5) fun h5 => F_X24_init_266 K157 (F_X24_init_177 K157 n) x0 x2 x3 x4 x5 h5) else (ai h3 x2 0 x5 <| ob h3 x0 22 <| ai h3 (xv h3 x0 1) 0 x4 <| ai h3 x2 0 x5 <| nm (hset h3 x2 x5 (w32 ((xv h3 x2 x5) + (xv h3 (xv h3 x0 1) x4)))) fun h4 => F_X24_init_266 K157 (F_X24_init_177 K157 n) x0 x2 x3 x4 x5 h4)) else (F_X24_init_266 K157 (F_X24_init_177 K157 n) x0 x2 x3 x4 x5 h)) else (F_X24_init_272 K157 x0 x2 x3 x4 h))
theorem WF_X24_init_177 {d : Nat} {Z : XZ XR} (hdd : 127 ≤ d) {K157 : Int → Int → Int → Int → XH → Option XR} (hK157 : ∀ x0 x2 x3 x4 h, XG xfh (xQ 2) RX24 "<init>" cX24_init 6 none d Z 157 [(0, (2, x0)), (2, (2, x2)), (3, (0, x3)), (4, (0, x4))] [] h (K157 x0 x2 x3 x4 h)) : ∀ n x0 x2 x3 x4 x5 h, XG xfh (xQ 2) RX24 "<init>" cX24_init 6 none d Z 177 [(0, (2, x0)), (2, (2, x2)), (3, (0, x3)), (4, (0, x4)), (5, (0, x5))] [] h (F_X24_init_177 K157 n x0 x2 x3 x4 x5 h) := by
  intro n
  induction n with
  | zero => intro x0 x2 x3 x4 x5 h; exact x_none
  | succ n ih =>
    intro x0 x2 x3 x4 x5 h
    rw [F_X24_init_177]
    refine x_iload 4 dX24_init_177 rfl ?_
    refine x_ic dX24_init_179 (by decide) (by decide) ?_
    refine x_icmp_ge 272 dX24_init_180 (by decide) (fun _ => ?_) (fun _ => ?_)
    · exact x_sub [0, 1, 2, 3] rfl (WF_X24_init_272 hdd hK157 x0 x2 x3 x4 h)
    · refine x_aload_n 0 dX24_init_183 rfl rfl ?_
      refine xg_X24_32 dX24_init_184 ?_
      refine x_iload 3 dX24_init_187 rfl ?_
      refine x_iald dX24_init_189 ?_
      refine x_ic dX24_init_190 (by decide) (by decide) ?_
      refine x_icmp_ne 272 dX24_init_191 (by decide) (fun _ => ?_) (fun _ => ?_)
      · exact x_sub [0, 1, 2, 3] rfl (WF_X24_init_272 hdd hK157 x0 x2 x3 x4 h)
      · refine x_aload_n 0 dX24_init_194 rfl rfl ?_
        refine xg_X24_28 dX24_init_195 ?_
        refine x_iload 3 dX24_init_198 rfl ?_
        refine x_iald dX24_init_200 ?_
        refine x_aload_n 1 dX24_init_201 rfl rfl ?_
        refine x_iload 4 dX24_init_202 rfl ?_
        refine x_iald dX24_init_204 ?_
        refine x_icmp_le 211 dX24_init_205 (by decide) (fun _ => ?_) (fun _ => ?_)
        · refine x_aload_n 1 dX24_init_211 rfl rfl ?_
          refine x_iload 4 dX24_init_212 rfl ?_
          refine x_dup2 dX24_init_214 rfl rfl ?_
          refine x_iald dX24_init_215 ?_
          refine x_aload_n 0 dX24_init_216 rfl rfl ?_
          refine xg_X24_28 dX24_init_217 ?_
          refine x_iload 3 dX24_init_220 rfl ?_
          refine x_iald dX24_init_222 ?_
          refine x_isub dX24_init_223 ?_
          refine x_iast dX24_init_224 fun h1 => ?_
          refine x_ic dX24_init_225 (by decide) (by decide) ?_
          refine x_aload_n 0 dX24_init_226 rfl rfl ?_
          refine x_iload 3 dX24_init_227 rfl ?_
          refine x_ic dX24_init_229 (by decide) (by decide) ?_
          refine x_iadd dX24_init_230 ?_
          refine x_aload_n 1 dX24_init_231 rfl rfl ?_
          refine cl_X24_60 (by omega) (Nat.le_of_ble_eq_true rfl) dX24_init_232 fun r2 h3 => ?_
          refine x_iadd dX24_init_235 ?_
          refine x_iload_n 2 dX24_init_236 rfl rfl ?_
          refine x_icmp_ne 252 dX24_init_237 (by decide) (fun _ => ?_) (fun _ => ?_)
          · refine x_aload_n 1 dX24_init_252 rfl rfl ?_
            refine x_iload 4 dX24_init_253 rfl ?_
            refine x_dup2 dX24_init_255 rfl rfl ?_
            refine x_iald dX24_init_256 ?_
            refine x_aload_n 0 dX24_init_257 rfl rfl ?_
            refine xg_X24_28 dX24_init_258 ?_
            refine x_iload 3 dX24_init_261 rfl ?_
            refine x_iald dX24_init_263 ?_
            refine x_iadd dX24_init_264 ?_
            refine x_iast dX24_init_265 fun h4 => ?_
            exact x_sub [0, 1, 2, 3, 4] rfl (WF_X24_init_266 hdd hK157 ih x0 x2 x3 x4 x5 h4)
          · refine x_aload_n 0 dX24_init_240 rfl rfl ?_
            refine xg_X24_32 dX24_init_241 ?_
            refine x_iload 3 dX24_init_244 rfl ?_
            refine x_iload 4 dX24_init_246 rfl ?_
            refine x_iast dX24_init_248 fun h5 => ?_
            refine x_goto 266 dX24_init_249 (by decide) ?_
            exact x_sub [0, 1, 2, 3, 4] rfl (WF_X24_init_266 hdd hK157 ih x0 x2 x3 x4 x5 h5)
        · refine x_goto 266 dX24_init_208 (by decide) ?_
          exact x_sub [0, 1, 2, 3, 4] rfl (WF_X24_init_266 hdd hK157 ih x0 x2 x3 x4 x5 h)
noncomputable def F_X24_init_157 : Nat → Int → Int → Int → Int → XH → Option XR
  | 0, _, _, _, _, _ => none
  | n + 1, x0, x2, x3, x4, h => ob h x0 22 <| if xv h x0 0 ≤ x4 then (some (0, h)) else (ob h x0 22 <| ai h (xv h x0 2) 0 x4 <| nm (hset h (xv h x0 2) x4 (-1)) fun h1 => F_X24_init_177 (F_X24_init_157 n) FU x0 x2 x3 x4 0 h1)
theorem WF_X24_init_157 {d : Nat} {Z : XZ XR} (hdd : 127 ≤ d) : ∀ n x0 x2 x3 x4 h, XG xfh (xQ 2) RX24 "<init>" cX24_init 6 none d Z 157 [(0, (2, x0)), (2, (2, x2)), (3, (0, x3)), (4, (0, x4))] [] h (F_X24_init_157 n x0 x2 x3 x4 h) := by
  intro n
  induction n with
  | zero => intro x0 x2 x3 x4 h; exact x_none
  | succ n ih =>
    intro x0 x2 x3 x4 h
    rw [F_X24_init_157]
    refine x_iload 3 dX24_init_157 rfl ?_
    refine x_aload_n 0 dX24_init_159 rfl rfl ?_
    refine xg_X24_25 dX24_init_160 ?_
    refine x_icmp_ge 297 dX24_init_163 (by decide) (fun _ => ?_) (fun _ => ?_)
    · exact x_vret rfl dX24_init_297
    · refine x_aload_n 0 dX24_init_166 rfl rfl ?_
      refine xg_X24_32 dX24_init_167 ?_
      refine x_iload 3 dX24_init_170 rfl ?_
      refine x_ic dX24_init_172 (by decide) (by decide) ?_
      refine x_iast dX24_init_173 fun h1 => ?_
      refine x_ic dX24_init_174 (by decide) (by decide) ?_
      refine x_istore (lv' := [(5, (0, 0)), (0, (2, x0)), (2, (2, x2)), (3, (0, x3)), (4, (0, x4))]) dX24_init_175 (by decide) rfl ?_
      exact x_sub [1, 2, 3, 4, 0] rfl (WF_X24_init_177 hdd ih FU x0 x2 x3 x4 0 h1)
noncomputable def F_X24_init_99 (x0 : Int) (x1 : Int) (h : XH) : Option XR := na h 0 3 fun r1 h2 => ob h2 x1 1 <| ob h2 (xv h2 x1 0) 2 <| ai h2 (xv h2 (xv h2 x1 0) 4) 0 0 <| ai h2 r1 0 0 <| nm (hset h2 r1 0 (xv h2 (xv h2 (xv h2 x1 0) 4) 0)) fun h3 => ob h3 x1 1 <| ob h3 (xv h3 x1 0) 2 <| ai h3 (xv h3 (xv h3 x1 0) 4) 0 1 <| ai h3 r1 0 1 <| nm (hset h3 r1 1 (xv h3 (xv h3 (xv h3 x1 0) 4) 1)) fun h4 => ob h4 x1 1 <| ob h4 (xv h4 x1 0) 2 <| ai h4 (xv h4 (xv h4 x1 0) 4) 0 2 <| ai h4 r1 0 2 <| nm (hset h4 r1 2 (xv h4 (xv h4 (xv h4 x1 0) 4) 2)) fun h5 => ob h5 x0 22 <| mb (F_X24_most x0 0 r1 h5) fun r6 h7 => ob h7 x0 22 <| nm (hset h7 x0 3 r6) fun h8 => ob h8 x0 22 <| nm (α := Int) (xv h8 x0 3) fun v9 => F_X24_init_157 FU x0 r1 v9 0 h8
theorem WF_X24_init_99 {d : Nat} {Z : XZ XR} (hdd : 127 ≤ d) : ∀ x0 x1 h, XG xfh (xQ 2) RX24 "<init>" cX24_init 6 none d Z 99 [(0, (2, x0)), (1, (2, x1))] [] h (F_X24_init_99 x0 x1 h) := by
  intro x0 x1 h
  unfold F_X24_init_99
  refine x_ic dX24_init_99 (by decide) (by decide) ?_
  refine x_newarr (atype := .int) 0 (by decide) rfl rfl q252 dX24_init_100 fun r1 h2 => ?_
  refine x_dup dX24_init_102 rfl ?_
  refine x_ic dX24_init_103 (by decide) (by decide) ?_
  refine x_aload_n 1 dX24_init_104 rfl rfl ?_
  refine xg_X24_35 dX24_init_105 ?_
  refine xg_X24_57 dX24_init_108 ?_
  refine x_ic dX24_init_111 (by decide) (by decide) ?_
  refine x_iald dX24_init_112 ?_
  refine x_iast dX24_init_113 fun h3 => ?_
  refine x_dup dX24_init_114 rfl ?_
  refine x_ic dX24_init_115 (by decide) (by decide) ?_
  refine x_aload_n 1 dX24_init_116 rfl rfl ?_
  refine xg_X24_35 dX24_init_117 ?_
  refine xg_X24_57 dX24_init_120 ?_
  refine x_ic dX24_init_123 (by decide) (by decide) ?_
  refine x_iald dX24_init_124 ?_
  refine x_iast dX24_init_125 fun h4 => ?_
  refine x_dup dX24_init_126 rfl ?_
  refine x_ic dX24_init_127 (by decide) (by decide) ?_
  refine x_aload_n 1 dX24_init_128 rfl rfl ?_
  refine xg_X24_35 dX24_init_129 ?_
  refine xg_X24_57 dX24_init_132 ?_
  refine x_ic dX24_init_135 (by decide) (by decide) ?_
  refine x_iald dX24_init_136 ?_
  refine x_iast dX24_init_137 fun h5 => ?_
  refine x_astore_n (lv' := [(2, (2, r1)), (0, (2, x0)), (1, (2, x1))]) dX24_init_138 rfl (by decide) rfl ?_
  refine x_aload_n 1 dX24_init_139 rfl rfl ?_
  refine x_aload_n 1 dX24_init_140 rfl rfl ?_
  refine x_ic dX24_init_141 (by decide) (by decide) ?_
  refine x_aload_n 0 dX24_init_142 rfl rfl ?_
  refine cl_X24_60 (by omega) (Nat.le_of_ble_eq_true rfl) dX24_init_143 fun r6 h7 => ?_
  refine xp_X24_64 dX24_init_146 fun h8 => ?_
  refine x_aload_n 1 dX24_init_149 rfl rfl ?_
  refine xg_X24_64 dX24_init_150 ?_
  refine x_nmT fun v9 => ?_
  refine x_istore_n (lv' := [(3, (0, v9)), (2, (2, r1)), (0, (2, x0)), (1, (2, x1))]) dX24_init_153 rfl (by decide) rfl ?_
  refine x_ic dX24_init_154 (by decide) (by decide) ?_
  refine x_istore (lv' := [(4, (0, 0)), (3, (0, v9)), (2, (2, r1)), (0, (2, x0)), (1, (2, x1))]) dX24_init_155 (by decide) rfl ?_
  exact x_sub [3, 2, 1, 0] rfl (WF_X24_init_157 hdd FU x0 r1 v9 0 h8)
noncomputable def F_X24_init_47 : Nat → Int → Int → Int → XH → Option XR
  | 0, _, _, _, _ => none
  | n + 1, x0, x1, x2, h => ob h x0 22 <| if xv h x0 0 ≤ x2 then (F_X24_init_99 x0 x1 h) else (ob h x1 1 <| ob h (xv h x1 0) 2 <| ob h (xv h (xv h x1 0) 0) 26 <| mb (F_J2_get (xv h (xv h x1 0) 0) x2 h) fun r1 h2 => ob h2 r1 5 <| ob h2 x0 22 <| ob h2 x1 1 <| mb (F_X0_takes_2 x1 r1 1 0 0 h2) fun r3 h4 => ob h4 x1 1 <| mb (F_X0_takes_2 x1 r1 2 0 0 h4) fun r5 h6 => ai h6 (xv h2 x0 1) 0 x2 <| nm (hset h6 (xv h2 x0 1) x2 (w32 (r3 + r5))) fun h7 => nm (w32 (x2 + 1)) fun v8 => F_X24_init_47 n x0 x1 v8 h7)
theorem WF_X24_init_47 {d : Nat} {Z : XZ XR} (hdd : 127 ≤ d) : ∀ n x0 x1 x2 h, XG xfh (xQ 2) RX24 "<init>" cX24_init 6 none d Z 47 [(0, (2, x0)), (1, (2, x1)), (2, (0, x2))] [] h (F_X24_init_47 n x0 x1 x2 h) := by
  intro n
  induction n with
  | zero => intro x0 x1 x2 h; exact x_none
  | succ n ih =>
    intro x0 x1 x2 h
    rw [F_X24_init_47]
    refine x_iload_n 2 dX24_init_47 rfl rfl ?_
    refine x_aload_n 0 dX24_init_48 rfl rfl ?_
    refine xg_X24_25 dX24_init_49 ?_
    refine x_icmp_ge 99 dX24_init_52 (by decide) (fun _ => ?_) (fun _ => ?_)
    · exact x_sub [0, 1] rfl (WF_X24_init_99 hdd x0 x1 h)
    · refine x_aload_n 1 dX24_init_55 rfl rfl ?_
      refine xg_X24_35 dX24_init_56 ?_
      refine xg_X24_39 dX24_init_59 ?_
      refine x_iload_n 2 dX24_init_62 rfl rfl ?_
      refine cl_X24_45 (by omega) (Nat.le_of_ble_eq_true rfl) dX24_init_63 fun r1 h2 => ?_
      refine x_cast (C := RX5) 5 rfl (by decide) q1402 dX24_init_66 ?_
      refine x_astore_n (lv' := [(3, (2, r1)), (0, (2, x0)), (1, (2, x1)), (2, (0, x2))]) dX24_init_69 rfl (by decide) rfl ?_
      refine x_aload_n 1 dX24_init_70 rfl rfl ?_
      refine xg_X24_28 dX24_init_71 ?_
      refine x_iload_n 3 dX24_init_74 rfl rfl ?_
      refine x_aload_n 2 dX24_init_75 rfl rfl ?_
      refine x_aload_n 0 dX24_init_76 rfl rfl ?_
      refine x_ic dX24_init_77 (by decide) (by decide) ?_
      refine x_ic dX24_init_78 (by decide) (by decide) ?_
      refine x_ic dX24_init_79 (by decide) (by decide) ?_
      refine cl_X24_53 (by omega) (Nat.le_of_ble_eq_true rfl) dX24_init_80 fun r3 h4 => ?_
      refine x_aload_n 2 dX24_init_83 rfl rfl ?_
      refine x_aload_n 0 dX24_init_84 rfl rfl ?_
      refine x_ic dX24_init_85 (by decide) (by decide) ?_
      refine x_ic dX24_init_86 (by decide) (by decide) ?_
      refine x_ic dX24_init_87 (by decide) (by decide) ?_
      refine cl_X24_53 (by omega) (Nat.le_of_ble_eq_true rfl) dX24_init_88 fun r5 h6 => ?_
      refine x_iadd dX24_init_91 ?_
      refine x_iast dX24_init_92 fun h7 => ?_
      refine x_iinc 3 dX24_init_93 rfl (by decide) fun v8 => x_lv (lv' := [(2, (0, v8)), (3, (2, r1)), (0, (2, x0)), (1, (2, x1))]) rfl ?_
      refine x_goto 47 dX24_init_96 (by decide) ?_
      exact x_sub [2, 3, 0] rfl (ih x0 x1 v8 h7)
noncomputable def F_X24_init (x0 : Int) (x1 : Int) (h : XH) : Option XR := ob h x0 22 <| nm (hset h x0 4 x1) fun h1 => pz x0 <| ob h1 x0 22 <| ob h1 (xv h1 x0 4) 1 <| mb (F_X0_many (xv h1 x0 4) h1) fun r2 h3 => nm (α := Int) (if r2 < (12 : Int) then r2 else (12 : Int)) fun v4 => ob h3 x0 22 <| nm (hset h3 x0 0 v4) fun h5 => ob h5 x0 22 <| na h5 0 (xv h5 x0 0) fun r6 h7 => ob h7 x0 22 <| nm (hset h7 x0 1 r6) fun h8 => ob h8 x0 22 <| na h8 0 (xv h8 x0 0) fun r9 h10 => ob h10 x0 22 <| nm (hset h10 x0 2 r9) fun h11 => F_X24_init_47 FU x0 x1 0 h11
theorem WF_X24_init {d : Nat} {Z : XZ XR} (hdd : 127 ≤ d) : ∀ x0 x1 h, XG xfh (xQ 2) RX24 "<init>" cX24_init 6 none d Z 0 [(0, (2, x0)), (1, (2, x1))] [] h (F_X24_init x0 x1 h) := by
  intro x0 x1 h
  unfold F_X24_init
  refine x_aload_n 0 dX24_init_0 rfl rfl ?_
  refine x_aload_n 1 dX24_init_1 rfl rfl ?_
  refine xpF_X24_3 dX24_init_2 fun h1 => ?_
  refine x_aload_n 0 dX24_init_5 rfl rfl ?_
  refine x_objinit q1398 q176 q177 (by omega) (Nat.le_of_ble_eq_true rfl) dX24_init_6 ?_
  refine x_aload_n 0 dX24_init_9 rfl rfl ?_
  refine x_bp dX24_init_10 (by decide) (by decide) ?_
  refine x_aload_n 0 dX24_init_12 rfl rfl ?_
  refine xg_X24_3 dX24_init_13 ?_
  refine cl_X24_15 (by omega) (Nat.le_of_ble_eq_true rfl) dX24_init_16 fun r2 h3 => ?_
  refine x_mmin q1400 q364 q132 q365 (by omega) (Nat.le_of_ble_eq_true rfl) dX24_init_19 ?_
  refine x_nmT fun v4 => ?_
  refine xpF_X24_25 dX24_init_22 fun h5 => ?_
  refine x_aload_n 0 dX24_init_25 rfl rfl ?_
  refine x_aload_n 0 dX24_init_26 rfl rfl ?_
  refine xg_X24_25 dX24_init_27 ?_
  refine x_newarr (atype := .int) 0 (by decide) rfl rfl q252 dX24_init_30 fun r6 h7 => ?_
  refine xpF_X24_28 dX24_init_32 fun h8 => ?_
  refine x_aload_n 0 dX24_init_35 rfl rfl ?_
  refine x_aload_n 0 dX24_init_36 rfl rfl ?_
  refine xg_X24_25 dX24_init_37 ?_
  refine x_newarr (atype := .int) 0 (by decide) rfl rfl q252 dX24_init_40 fun r9 h10 => ?_
  refine xpF_X24_32 dX24_init_42 fun h11 => ?_
  refine x_ic dX24_init_45 (by decide) (by decide) ?_
  refine x_istore_n (lv' := [(2, (0, 0)), (0, (2, x0)), (1, (2, x1))]) dX24_init_46 rfl (by decide) rfl ?_
  exact x_sub [1, 2, 0] rfl (WF_X24_init_47 hdd FU x0 x1 0 h11)
theorem SF_X24_init (l : Launch) {d : Nat} (hdd : 127 ≤ d) (x0 : Int) (x1 : Int) (h : XH) (hok : okH h) (ho : okXs (xn h) [(2, x0), (2, x1)]) (fin : XR) (hf : F_X24_init x0 x1 h = some fin) : xSpec l yX24_init cX24_init 6 none d 2 [(2, x0), (2, x1)] h fin := x_enter (lv := [(0, (2, x0)), (1, (2, x1))]) (by decide) rfl rfl (Nat.le_of_ble_eq_true rfl) rfl (fun Z _ => WF_X24_init hdd x0 x1 h) hok ho fin hf
theorem cl_X0_346 {ρ : Type} {fh : ρ → XH} {QQ : XZ ρ → State → Prop} {mn : String} {cc : ByteArray} {nL : Nat} {ret : Option FieldType} {d : Nat} {Z : XZ ρ} {pc : Nat} {lv : List (Nat × AV)} {st : List AV} {h : XH} {g : Int → XH → Option ρ} {b a0 : Int} (hdd : 128 ≤ d) (hcat : (st.map fun v => if v.1 = 1 then 2 else 1).sum ≤ 8) (hdg : decode cc pc = .ok (.invokespecial 346, 3)) (kk : ∀ r h1, XG fh QQ RX0 mn cc nL ret d Z (pc + 3) lv st h1 (g r h1)) : XG fh QQ RX0 mn cc nL ret d Z pc lv ((2, a0) :: (2, b) :: st) h (pz b (mb (F_X24_init b a0 h) g)) :=
  x_callIv [(2, a0)] 1 (WF_X24_init (Z := (Z.1, Z.2.1, ((0, h), h))) (Nat.le_refl 127) b a0 h).1 (fun hok ho fin hf => SF_X24_init (yL Z) (Nat.le_refl 127) b a0 h hok ho fin hf) (lw_meth q1397) q162 q1395 q1396 rfl ⟨by decide +kernel, by decide +kernel, by decide +kernel⟩ rfl (by omega) (by decide) rfl hcat hdg kk
theorem xg_X0_347 {ρ : Type} {fh : ρ → XH} {QQ : XZ ρ → State → Prop} {mn : String} {cc : ByteArray} {nL : Nat} {ret : Option FieldType} {d : Nat} {Z : XZ ρ} {pc : Nat} {lv : List (Nat × AV)} {st : List AV} {h : XH} {res : Option ρ} {a : Int} (hd : decode cc pc = .ok (.getfield 347, 3)) (kk : XG fh QQ RX0 mn cc nL ret d Z (pc + 3) lv ((0, xv h a 3) :: st) h res) : XG fh QQ RX0 mn cc nL ret d Z pc lv ((2, a) :: st) h (ob h a 22 res) := x_getN (C := RX24) (ref := RX24) 22 3 rfl in_X24 (by decide) rfl (by decide) (Or.inl rfl) q1428 hd kk
theorem xg_X0_349 {ρ : Type} {fh : ρ → XH} {QQ : XZ ρ → State → Prop} {mn : String} {cc : ByteArray} {nL : Nat} {ret : Option FieldType} {d : Nat} {Z : XZ ρ} {pc : Nat} {lv : List (Nat × AV)} {st : List AV} {h : XH} {res : Option ρ} {a : Int} (hd : decode cc pc = .ok (.getfield 349, 3)) (kk : XG fh QQ RX0 mn cc nL ret d Z (pc + 3) lv ((0, xv h a 0) :: st) h res) : XG fh QQ RX0 mn cc nL ret d Z pc lv ((2, a) :: st) h (ob h a 22 res) := x_getN (C := RX24) (ref := RX24) 22 0 rfl in_X24 (by decide) rfl (by decide) (Or.inl rfl) q1423 hd kk
theorem xg_X0_351 {ρ : Type} {fh : ρ → XH} {QQ : XZ ρ → State → Prop} {mn : String} {cc : ByteArray} {nL : Nat} {ret : Option FieldType} {d : Nat} {Z : XZ ρ} {pc : Nat} {lv : List (Nat × AV)} {st : List AV} {h : XH} {res : Option ρ} {a : Int} (hd : decode cc pc = .ok (.getfield 351, 3)) (kk : XG fh QQ RX0 mn cc nL ret d Z (pc + 3) lv ((2, xv h a 2) :: st) h res) : XG fh QQ RX0 mn cc nL ret d Z pc lv ((2, a) :: st) h (ob h a 22 res) := x_getN (C := RX24) (ref := RX24) 22 2 rfl in_X24 (by decide) rfl (by decide) (Or.inl rfl) q1426 hd kk
theorem xn_X0_344 {ρ : Type} {fh : ρ → XH} {QQ : XZ ρ → State → Prop} {mn : String} {cc : ByteArray} {nL : Nat} {ret : Option FieldType} {d : Nat} {Z : XZ ρ} {pc : Nat} {lv : List (Nat × AV)} {st : List AV} {h : XH} {f : Int → XH → Option ρ} (hd : decode cc pc = .ok (.new 344, 3)) (kk : ∀ r h1, XG fh QQ RX0 mn cc nL ret d Z (pc + 3) lv ((2, r) :: st) h1 (f r h1)) : XG fh QQ RX0 mn cc nL ret d Z pc lv st h (nw h 22 5 f) := x_new (C := RX24) 22 rfl in_X24 tyX24_ok (by decide) rfl (by decide) xfit_X24 q1393 q1394 q162 hd kk
noncomputable def F_X0_share_15 (x0 : Int) (x1 : Int) (h : XH) : Option XR := nw h 22 5 fun r1 h2 => pz r1 <| mb (F_X24_init r1 x0 h2) fun r3 h4 => if x1 = (-1) then (ob h4 r1 22 <| some (xv h4 r1 3, h4)) else (ob h4 r1 22 <| if xv h4 r1 0 ≤ x1 then (some ((-1), h4)) else (ob h4 r1 22 <| ai h4 (xv h4 r1 2) 0 x1 <| some (xv h4 (xv h4 r1 2) x1, h4)))
theorem WF_X0_share_15 {d : Nat} {Z : XZ XR} (hdd : 128 ≤ d) : ∀ x0 x1 h, XG xfh (xQ 0) RX0 "share" cX0_share 3 (some .int) d Z 15 [(0, (2, x0)), (1, (0, x1))] [] h (F_X0_share_15 x0 x1 h) := by
  intro x0 x1 h
  unfold F_X0_share_15
  refine xn_X0_344 dX0_share_15 fun r1 h2 => ?_
  refine x_dup dX0_share_18 rfl ?_
  refine x_aload_n 0 dX0_share_19 rfl rfl ?_
  refine cl_X0_346 (by omega) (Nat.le_of_ble_eq_true rfl) dX0_share_20 fun r3 h4 => ?_
  refine x_astore_n (lv' := [(2, (2, r1)), (0, (2, x0)), (1, (0, x1))]) dX0_share_23 rfl (by decide) rfl ?_
  refine x_iload_n 2 dX0_share_24 rfl rfl ?_
  refine x_ic dX0_share_25 (by decide) (by decide) ?_
  refine x_icmp_ne 34 dX0_share_26 (by decide) (fun _ => ?_) (fun _ => ?_)
  · refine x_iload_n 2 dX0_share_34 rfl rfl ?_
    refine x_aload_n 0 dX0_share_35 rfl rfl ?_
    refine xg_X0_349 dX0_share_36 ?_
    refine x_icmp_ge 51 dX0_share_39 (by decide) (fun _ => ?_) (fun _ => ?_)
    · refine x_ic dX0_share_51 (by decide) (by decide) ?_
      exact x_iret rfl dX0_share_52
    · refine x_aload_n 0 dX0_share_42 rfl rfl ?_
      refine xg_X0_351 dX0_share_43 ?_
      refine x_iload_n 2 dX0_share_46 rfl rfl ?_
      refine x_iald dX0_share_47 ?_
      refine x_goto 52 dX0_share_48 (by decide) ?_
      exact x_iret rfl dX0_share_52
  · refine x_aload_n 0 dX0_share_29 rfl rfl ?_
    refine xg_X0_347 dX0_share_30 ?_
    exact x_iret rfl dX0_share_33
noncomputable def F_X0_share (x0 : Int) (x1 : Int) (h : XH) : Option XR := if x1 = (-1) then (F_X0_share_15 x0 x1 h) else (ob h x0 1 <| mb (F_X0_questionOf x0 x1 h) fun r1 h2 => if r1 = 0 then (some ((-1), h2)) else (F_X0_share_15 x0 x1 h2))
theorem WF_X0_share {d : Nat} {Z : XZ XR} (hdd : 128 ≤ d) : ∀ x0 x1 h, XG xfh (xQ 0) RX0 "share" cX0_share 3 (some .int) d Z 0 [(0, (2, x0)), (1, (0, x1))] [] h (F_X0_share x0 x1 h) := by
  intro x0 x1 h
  unfold F_X0_share
  refine x_iload_n 1 dX0_share_0 rfl rfl ?_
  refine x_ic dX0_share_1 (by decide) (by decide) ?_
  refine x_icmp_eq 15 dX0_share_2 (by decide) (fun _ => ?_) (fun _ => ?_)
  · exact x_sub [0, 1] rfl (WF_X0_share_15 hdd x0 x1 h)
  · refine x_aload_n 0 dX0_share_5 rfl rfl ?_
    refine x_iload_n 1 dX0_share_6 rfl rfl ?_
    refine cl_X0_147 (by omega) (Nat.le_of_ble_eq_true rfl) dX0_share_7 fun r1 h2 => ?_
    refine x_ifnonnull 15 dX0_share_10 (by decide) (fun _ => ?_) (fun _ => ?_)
    · refine x_ic dX0_share_13 (by decide) (by decide) ?_
      exact x_iret rfl dX0_share_14
    · exact x_sub [0, 1] rfl (WF_X0_share_15 hdd x0 x1 h2)
theorem SF_X0_share (l : Launch) {d : Nat} (hdd : 128 ≤ d) (x0 : Int) (x1 : Int) (h : XH) (hok : okH h) (ho : okXs (xn h) [(2, x0), (0, x1)]) (fin : XR) (hf : F_X0_share x0 x1 h = some fin) : xSpec l yX0_share cX0_share 3 (some .int) d 0 [(2, x0), (0, x1)] h fin := x_enter (lv := [(0, (2, x0)), (1, (0, x1))]) (by decide) rfl rfl (Nat.le_of_ble_eq_true rfl) rfl (fun Z _ => WF_X0_share hdd x0 x1 h) hok ho fin hf
theorem cl_X0_354 {ρ : Type} {fh : ρ → XH} {QQ : XZ ρ → State → Prop} {mn : String} {cc : ByteArray} {nL : Nat} {ret : Option FieldType} {d : Nat} {Z : XZ ρ} {pc : Nat} {lv : List (Nat × AV)} {st : List AV} {h : XH} {g : Int → XH → Option ρ} {a0 a1 : Int} (hdd : 2 ≤ d) (hcat : (st.map fun v => if v.1 = 1 then 2 else 1).sum ≤ 8) (hdg : decode cc pc = .ok (.invokestatic 354, 3)) (kk : ∀ r h1, XG fh QQ RX0 mn cc nL ret d Z (pc + 3) lv ((1, r) :: st) h1 (g r h1)) : XG fh QQ RX0 mn cc nL ret d Z pc lv ((0, a1) :: (0, a0) :: st) h (mb (F_X0_over a0 a1 h) g) :=
  x_callSl [(0, a0), (0, a1)] 2 (WF_X0_over (Z := (Z.1, Z.2.1, ((0, h), h))) (Nat.le_refl 1) a0 a1 h).1 (fun hok ho fin hf => SF_X0_over (yL Z) (Nat.le_refl 1) a0 a1 h hok ho fin hf) (lw_S q1446 q1068 q124 q1069) ⟨by decide +kernel, by decide +kernel, by decide +kernel⟩ rfl (by omega) (by decide) rfl hcat hdg kk
noncomputable def F_X0_ill_101 (K43 : Int → Int → Int → Int → Int → Int → Int → XH → Option XR) (K60 : Int → Int → Int → Int → Int → Int → Int → Int → Int → XH → Option XR) (s0 : Int) (s1 : Int) (x0 : Int) (x1 : Int) (x2 : Int) (x3 : Int) (x4 : Int) (x6 : Int) (x8 : Int) (x11 : Int) (h : XH) : Option XR := nm (α := Int) (w64 (s0 * s1)) fun v1 => nm (w32 (x11 + 1)) fun v2 => K60 x0 x1 x2 x3 x4 x6 x8 v1 v2 h
theorem WF_X0_ill_101 {d : Nat} {Z : XZ XR} (hdd : 132 ≤ d) {K43 : Int → Int → Int → Int → Int → Int → Int → XH → Option XR} (hK43 : ∀ x0 x1 x2 x3 x4 x6 x8 h, XG xfh (xQ 0) RX0 "ill" cX0_ill 12 (some .int) d Z 43 [(0, (2, x0)), (1, (0, x1)), (2, (0, x2)), (3, (2, x3)), (4, (1, x4)), (6, (1, x6)), (8, (0, x8))] [] h (K43 x0 x1 x2 x3 x4 x6 x8 h)) {K60 : Int → Int → Int → Int → Int → Int → Int → Int → Int → XH → Option XR} (hK60 : ∀ x0 x1 x2 x3 x4 x6 x8 x9 x11 h, XG xfh (xQ 0) RX0 "ill" cX0_ill 12 (some .int) d Z 60 [(0, (2, x0)), (1, (0, x1)), (2, (0, x2)), (3, (2, x3)), (4, (1, x4)), (6, (1, x6)), (8, (0, x8)), (9, (1, x9)), (11, (0, x11))] [] h (K60 x0 x1 x2 x3 x4 x6 x8 x9 x11 h)) : ∀ s0 s1 x0 x1 x2 x3 x4 x6 x8 x11 h, XG xfh (xQ 0) RX0 "ill" cX0_ill 12 (some .int) d Z 101 [(0, (2, x0)), (1, (0, x1)), (2, (0, x2)), (3, (2, x3)), (4, (1, x4)), (6, (1, x6)), (8, (0, x8)), (11, (0, x11))] [(1, s1), (1, s0)] h (F_X0_ill_101 K43 K60 s0 s1 x0 x1 x2 x3 x4 x6 x8 x11 h) := by
  intro s0 s1 x0 x1 x2 x3 x4 x6 x8 x11 h
  unfold F_X0_ill_101
  refine x_lmul dX0_ill_101 ?_
  refine x_nmT fun v1 => ?_
  refine x_lstore (lv' := [(9, (1, v1)), (0, (2, x0)), (1, (0, x1)), (2, (0, x2)), (3, (2, x3)), (4, (1, x4)), (6, (1, x6)), (8, (0, x8)), (11, (0, x11))]) dX0_ill_102 (by decide) rfl ?_
  refine x_iinc 8 dX0_ill_104 rfl (by decide) fun v2 => x_lv (lv' := [(11, (0, v2)), (9, (1, v1)), (0, (2, x0)), (1, (0, x1)), (2, (0, x2)), (3, (2, x3)), (4, (1, x4)), (6, (1, x6)), (8, (0, x8))]) rfl ?_
  refine x_goto 60 dX0_ill_107 (by decide) ?_
  exact x_sub [2, 3, 4, 5, 6, 7, 8, 1, 0] rfl (hK60 x0 x1 x2 x3 x4 x6 x8 v1 v2 h)
noncomputable def F_X0_ill_110 (K43 : Int → Int → Int → Int → Int → Int → Int → XH → Option XR) (x0 : Int) (x1 : Int) (x2 : Int) (x3 : Int) (x4 : Int) (x6 : Int) (x8 : Int) (x9 : Int) (h : XH) : Option XR := ob h x3 18 <| mb (F_X20_most x3 (w32 ((w32 (x1 - x8)) * x2)) h) fun r1 h2 => nm (α := Int) (w64 (x4 + (w64 (x9 * r1)))) fun v3 => nm (w32 (x8 + 1)) fun v4 => K43 x0 x1 x2 x3 v3 x6 v4 h2
theorem WF_X0_ill_110 {d : Nat} {Z : XZ XR} (hdd : 132 ≤ d) {K43 : Int → Int → Int → Int → Int → Int → Int → XH → Option XR} (hK43 : ∀ x0 x1 x2 x3 x4 x6 x8 h, XG xfh (xQ 0) RX0 "ill" cX0_ill 12 (some .int) d Z 43 [(0, (2, x0)), (1, (0, x1)), (2, (0, x2)), (3, (2, x3)), (4, (1, x4)), (6, (1, x6)), (8, (0, x8))] [] h (K43 x0 x1 x2 x3 x4 x6 x8 h)) : ∀ x0 x1 x2 x3 x4 x6 x8 x9 h, XG xfh (xQ 0) RX0 "ill" cX0_ill 12 (some .int) d Z 110 [(0, (2, x0)), (1, (0, x1)), (2, (0, x2)), (3, (2, x3)), (4, (1, x4)), (6, (1, x6)), (8, (0, x8)), (9, (1, x9))] [] h (F_X0_ill_110 K43 x0 x1 x2 x3 x4 x6 x8 x9 h) := by
  intro x0 x1 x2 x3 x4 x6 x8 x9 h
  unfold F_X0_ill_110
  refine x_lload 4 dX0_ill_110 rfl ?_
  refine x_lload 7 dX0_ill_112 rfl ?_
  refine x_aload_n 3 dX0_ill_114 rfl rfl ?_
  refine x_iload_n 1 dX0_ill_115 rfl rfl ?_
  refine x_iload 6 dX0_ill_116 rfl ?_
  refine x_isub dX0_ill_118 ?_
  refine x_iload_n 2 dX0_ill_119 rfl rfl ?_
  refine x_imul dX0_ill_120 ?_
  refine cl_X0_284 (by omega) (Nat.le_of_ble_eq_true rfl) dX0_ill_121 fun r1 h2 => ?_
  refine x_lmul dX0_ill_124 ?_
  refine x_ladd dX0_ill_125 ?_
  refine x_nmT fun v3 => ?_
  refine x_lstore (lv' := [(4, (1, v3)), (0, (2, x0)), (1, (0, x1)), (2, (0, x2)), (3, (2, x3)), (6, (1, x6)), (8, (0, x8)), (9, (1, x9))]) dX0_ill_126 (by decide) rfl ?_
  refine x_iinc 6 dX0_ill_128 rfl (by decide) fun v4 => x_lv (lv' := [(8, (0, v4)), (4, (1, v3)), (0, (2, x0)), (1, (0, x1)), (2, (0, x2)), (3, (2, x3)), (6, (1, x6)), (9, (1, x9))]) rfl ?_
  refine x_goto 43 dX0_ill_131 (by decide) ?_
  exact x_sub [2, 3, 4, 5, 1, 6, 0] rfl (hK43 x0 x1 x2 x3 v3 x6 v4 h2)
noncomputable def F_X0_ill_60 (K43 : Int → Int → Int → Int → Int → Int → Int → XH → Option XR) : Nat → Int → Int → Int → Int → Int → Int → Int → Int → Int → XH → Option XR
  | 0, _, _, _, _, _, _, _, _, _, _ => none
  | n + 1, x0, x1, x2, x3, x4, x6, x8, x9, x11, h => if x1 ≤ x11 then (F_X0_ill_110 K43 x0 x1 x2 x3 x4 x6 x8 x9 h) else (if x8 ≤ x11 then (ob h x0 1 <| ob h (xv h x0 0) 2 <| ai h (xv h (xv h x0 0) 3) 0 4 <| F_X0_ill_101 K43 (F_X0_ill_60 K43 n) x9 (w32 (100 - (xv h (xv h (xv h x0 0) 3) 4))) x0 x1 x2 x3 x4 x6 x8 x11 h) else (ob h x0 1 <| ob h (xv h x0 0) 2 <| ai h (xv h (xv h x0 0) 3) 0 4 <| F_X0_ill_101 K43 (F_X0_ill_60 K43 n) x9 (xv h (xv h (xv h x0 0) 3) 4) x0 x1 x2 x3 x4 x6 x8 x11 h))
theorem WF_X0_ill_60 {d : Nat} {Z : XZ XR} (hdd : 132 ≤ d) {K43 : Int → Int → Int → Int → Int → Int → Int → XH → Option XR} (hK43 : ∀ x0 x1 x2 x3 x4 x6 x8 h, XG xfh (xQ 0) RX0 "ill" cX0_ill 12 (some .int) d Z 43 [(0, (2, x0)), (1, (0, x1)), (2, (0, x2)), (3, (2, x3)), (4, (1, x4)), (6, (1, x6)), (8, (0, x8))] [] h (K43 x0 x1 x2 x3 x4 x6 x8 h)) : ∀ n x0 x1 x2 x3 x4 x6 x8 x9 x11 h, XG xfh (xQ 0) RX0 "ill" cX0_ill 12 (some .int) d Z 60 [(0, (2, x0)), (1, (0, x1)), (2, (0, x2)), (3, (2, x3)), (4, (1, x4)), (6, (1, x6)), (8, (0, x8)), (9, (1, x9)), (11, (0, x11))] [] h (F_X0_ill_60 K43 n x0 x1 x2 x3 x4 x6 x8 x9 x11 h) := by
  intro n
  induction n with
  | zero => intro x0 x1 x2 x3 x4 x6 x8 x9 x11 h; exact x_none
  | succ n ih =>
    intro x0 x1 x2 x3 x4 x6 x8 x9 x11 h
    rw [F_X0_ill_60]
    refine x_iload 8 dX0_ill_60 rfl ?_
    refine x_iload_n 1 dX0_ill_62 rfl rfl ?_
    refine x_icmp_ge 110 dX0_ill_63 (by decide) (fun _ => ?_) (fun _ => ?_)
    · exact x_sub [0, 1, 2, 3, 4, 5, 6, 7] rfl (WF_X0_ill_110 hdd hK43 x0 x1 x2 x3 x4 x6 x8 x9 h)
    · refine x_lload 7 dX0_ill_66 rfl ?_
      refine x_iload 8 dX0_ill_68 rfl ?_
      refine x_iload 6 dX0_ill_70 rfl ?_
      refine x_icmp_ge 88 dX0_ill_72 (by decide) (fun _ => ?_) (fun _ => ?_)
      · refine x_bp dX0_ill_88 (by decide) (by decide) ?_
        refine x_aload_n 0 dX0_ill_90 rfl rfl ?_
        refine xg_X0_17 dX0_ill_91 ?_
        refine xg_X0_174 dX0_ill_94 ?_
        refine x_ic dX0_ill_97 (by decide) (by decide) ?_
        refine x_iald dX0_ill_98 ?_
        refine x_isub dX0_ill_99 ?_
        refine x_i2l dX0_ill_100 ?_
        exact x_sub [0, 1, 2, 3, 4, 5, 6, 8] rfl (WF_X0_ill_101 hdd hK43 ih x9 (w32 (100 - (xv h (xv h (xv h x0 0) 3) 4))) x0 x1 x2 x3 x4 x6 x8 x11 h)
      · refine x_aload_n 0 dX0_ill_75 rfl rfl ?_
        refine xg_X0_17 dX0_ill_76 ?_
        refine xg_X0_174 dX0_ill_79 ?_
        refine x_ic dX0_ill_82 (by decide) (by decide) ?_
        refine x_iald dX0_ill_83 ?_
        refine x_i2l dX0_ill_84 ?_
        refine x_goto 101 dX0_ill_85 (by decide) ?_
        exact x_sub [0, 1, 2, 3, 4, 5, 6, 8] rfl (WF_X0_ill_101 hdd hK43 ih x9 (xv h (xv h (xv h x0 0) 3) 4) x0 x1 x2 x3 x4 x6 x8 x11 h)
noncomputable def F_X0_ill_157 (x4 : Int) (x6 : Int) (h : XH) : Option XR := nw h 17 2 fun r1 h2 => pz r1 <| mb (F_X19_init r1 x4 x6 h2) fun r3 h4 => ob h4 r1 17 <| mb (F_X19_millionths r1 h4) fun r5 h6 => some (r5, h6)
theorem WF_X0_ill_157 {d : Nat} {Z : XZ XR} (hdd : 132 ≤ d) : ∀ x4 x6 h, XG xfh (xQ 0) RX0 "ill" cX0_ill 12 (some .int) d Z 157 [(4, (1, x4)), (6, (1, x6))] [] h (F_X0_ill_157 x4 x6 h) := by
  intro x4 x6 h
  unfold F_X0_ill_157
  refine xn_X0_232 dX0_ill_157 fun r1 h2 => ?_
  refine x_dup dX0_ill_160 rfl ?_
  refine x_lload 0 dX0_ill_161 rfl ?_
  refine x_lload 1 dX0_ill_163 rfl ?_
  refine cl_X0_252 (by omega) (Nat.le_of_ble_eq_true rfl) dX0_ill_165 fun r3 h4 => ?_
  refine cl_X0_269 (by omega) (Nat.le_of_ble_eq_true rfl) dX0_ill_168 fun r5 h6 => ?_
  exact x_iret rfl dX0_ill_171
noncomputable def F_X0_ill_137 : Nat → Int → Int → Int → Int → XH → Option XR
  | 0, _, _, _, _, _ => none
  | n + 1, x1, x4, x6, x8, h => if x1 ≤ x8 then (F_X0_ill_157 x4 x6 h) else (nm (α := Int) (w64 (x6 * 100)) fun v1 => nm (w32 (x8 + 1)) fun v2 => F_X0_ill_137 n x1 x4 v1 v2 h)
theorem WF_X0_ill_137 {d : Nat} {Z : XZ XR} (hdd : 132 ≤ d) : ∀ n x1 x4 x6 x8 h, XG xfh (xQ 0) RX0 "ill" cX0_ill 12 (some .int) d Z 137 [(1, (0, x1)), (4, (1, x4)), (6, (1, x6)), (8, (0, x8))] [] h (F_X0_ill_137 n x1 x4 x6 x8 h) := by
  intro n
  induction n with
  | zero => intro x1 x4 x6 x8 h; exact x_none
  | succ n ih =>
    intro x1 x4 x6 x8 h
    rw [F_X0_ill_137]
    refine x_iload 3 dX0_ill_137 rfl ?_
    refine x_iload_n 0 dX0_ill_139 rfl rfl ?_
    refine x_icmp_ge 157 dX0_ill_140 (by decide) (fun _ => ?_) (fun _ => ?_)
    · exact x_sub [1, 2] rfl (WF_X0_ill_157 hdd x4 x6 h)
    · refine x_lload 2 dX0_ill_143 rfl ?_
      refine x_ldc2 (n := 100) q524 dX0_ill_145 (by decide +kernel) ⟨by decide, by decide⟩ ?_
      refine x_lmul dX0_ill_148 ?_
      refine x_nmT fun v1 => ?_
      refine x_lstore (lv' := [(6, (1, v1)), (1, (0, x1)), (4, (1, x4)), (8, (0, x8))]) dX0_ill_149 (by decide) rfl ?_
      refine x_iinc 3 dX0_ill_151 rfl (by decide) fun v2 => x_lv (lv' := [(8, (0, v2)), (6, (1, v1)), (1, (0, x1)), (4, (1, x4))]) rfl ?_
      refine x_goto 137 dX0_ill_154 (by decide) ?_
      exact x_sub [2, 3, 1, 0] rfl (ih x1 x4 v1 v2 h)
noncomputable def F_X0_ill_134 (x1 : Int) (x4 : Int) (x6 : Int) (h : XH) : Option XR := F_X0_ill_137 FU x1 x4 x6 0 h
theorem WF_X0_ill_134 {d : Nat} {Z : XZ XR} (hdd : 132 ≤ d) : ∀ x1 x4 x6 h, XG xfh (xQ 0) RX0 "ill" cX0_ill 12 (some .int) d Z 134 [(1, (0, x1)), (4, (1, x4)), (6, (1, x6))] [] h (F_X0_ill_134 x1 x4 x6 h) := by
  intro x1 x4 x6 h
  unfold F_X0_ill_134
  refine x_ic dX0_ill_134 (by decide) (by decide) ?_
  refine x_istore (lv' := [(8, (0, 0)), (1, (0, x1)), (4, (1, x4)), (6, (1, x6))]) dX0_ill_135 (by decide) rfl ?_
  exact x_sub [1, 2, 3, 0] rfl (WF_X0_ill_137 hdd FU x1 x4 x6 0 h)
noncomputable def F_X0_ill_43 : Nat → Int → Int → Int → Int → Int → Int → Int → XH → Option XR
  | 0, _, _, _, _, _, _, _, _ => none
  | n + 1, x0, x1, x2, x3, x4, x6, x8, h => if x1 < x8 then (F_X0_ill_134 x1 x4 x6 h) else (mb (F_X0_over x1 x8 h) fun r1 h2 => F_X0_ill_60 (F_X0_ill_43 n) FU x0 x1 x2 x3 x4 x6 x8 r1 0 h2)
theorem WF_X0_ill_43 {d : Nat} {Z : XZ XR} (hdd : 132 ≤ d) : ∀ n x0 x1 x2 x3 x4 x6 x8 h, XG xfh (xQ 0) RX0 "ill" cX0_ill 12 (some .int) d Z 43 [(0, (2, x0)), (1, (0, x1)), (2, (0, x2)), (3, (2, x3)), (4, (1, x4)), (6, (1, x6)), (8, (0, x8))] [] h (F_X0_ill_43 n x0 x1 x2 x3 x4 x6 x8 h) := by
  intro n
  induction n with
  | zero => intro x0 x1 x2 x3 x4 x6 x8 h; exact x_none
  | succ n ih =>
    intro x0 x1 x2 x3 x4 x6 x8 h
    rw [F_X0_ill_43]
    refine x_iload 6 dX0_ill_43 rfl ?_
    refine x_iload_n 1 dX0_ill_45 rfl rfl ?_
    refine x_icmp_gt 134 dX0_ill_46 (by decide) (fun _ => ?_) (fun _ => ?_)
    · exact x_sub [1, 4, 5] rfl (WF_X0_ill_134 hdd x1 x4 x6 h)
    · refine x_iload_n 1 dX0_ill_49 rfl rfl ?_
      refine x_iload 6 dX0_ill_50 rfl ?_
      refine cl_X0_354 (by omega) (Nat.le_of_ble_eq_true rfl) dX0_ill_52 fun r1 h2 => ?_
      refine x_lstore (lv' := [(9, (1, r1)), (0, (2, x0)), (1, (0, x1)), (2, (0, x2)), (3, (2, x3)), (4, (1, x4)), (6, (1, x6)), (8, (0, x8))]) dX0_ill_55 (by decide) rfl ?_
      refine x_ic dX0_ill_57 (by decide) (by decide) ?_
      refine x_istore (lv' := [(11, (0, 0)), (9, (1, r1)), (0, (2, x0)), (1, (0, x1)), (2, (0, x2)), (3, (2, x3)), (4, (1, x4)), (6, (1, x6)), (8, (0, x8))]) dX0_ill_58 (by decide) rfl ?_
      exact x_sub [2, 3, 4, 5, 6, 7, 8, 1, 0] rfl (WF_X0_ill_60 hdd ih FU x0 x1 x2 x3 x4 x6 x8 r1 0 h2)
noncomputable def F_X0_ill (x0 : Int) (x1 : Int) (x2 : Int) (h : XH) : Option XR := mb (F_X0_in x1 0 3 h) fun r1 h2 => if r1 = 0 then (some ((-1), h2)) else (mb (F_X0_in x2 0 100 h2) fun r3 h4 => if r3 = 0 then (some ((-1), h4)) else (ob h4 x0 1 <| mb (F_X0_schemes x0 h4) fun r5 h6 => ob h6 r5 18 <| nm (α := Int) (xv h6 r5 3) fun v7 => F_X0_ill_43 FU x0 x1 x2 r5 0 v7 0 h6))
theorem WF_X0_ill {d : Nat} {Z : XZ XR} (hdd : 132 ≤ d) : ∀ x0 x1 x2 h, XG xfh (xQ 0) RX0 "ill" cX0_ill 12 (some .int) d Z 0 [(0, (2, x0)), (1, (0, x1)), (2, (0, x2))] [] h (F_X0_ill x0 x1 x2 h) := by
  intro x0 x1 x2 h
  unfold F_X0_ill
  refine x_iload_n 1 dX0_ill_0 rfl rfl ?_
  refine x_i2l dX0_ill_1 ?_
  refine x_l0 dX0_ill_2 ?_
  refine x_ldc2 (n := 3) q523 dX0_ill_3 (by decide +kernel) ⟨by decide, by decide⟩ ?_
  refine cl_X0_109 (by omega) (Nat.le_of_ble_eq_true rfl) dX0_ill_6 fun r1 h2 => ?_
  refine x_if_eq 24 dX0_ill_9 (by decide) (fun _ => ?_) (fun _ => ?_)
  · refine x_ic dX0_ill_24 (by decide) (by decide) ?_
    exact x_iret rfl dX0_ill_25
  · refine x_iload_n 2 dX0_ill_12 rfl rfl ?_
    refine x_i2l dX0_ill_13 ?_
    refine x_l0 dX0_ill_14 ?_
    refine x_ldc2 (n := 100) q524 dX0_ill_15 (by decide +kernel) ⟨by decide, by decide⟩ ?_
    refine cl_X0_109 (by omega) (Nat.le_of_ble_eq_true rfl) dX0_ill_18 fun r3 h4 => ?_
    refine x_if_ne 26 dX0_ill_21 (by decide) (fun _ => ?_) (fun _ => ?_)
    · refine x_aload_n 0 dX0_ill_26 rfl rfl ?_
      refine cl_X0_277 (by omega) (Nat.le_of_ble_eq_true rfl) dX0_ill_27 fun r5 h6 => ?_
      refine x_astore_n (lv' := [(3, (2, r5)), (0, (2, x0)), (1, (0, x1)), (2, (0, x2))]) dX0_ill_30 rfl (by decide) rfl ?_
      refine x_l0 dX0_ill_31 ?_
      refine x_lstore (lv' := [(4, (1, 0)), (3, (2, r5)), (0, (2, x0)), (1, (0, x1)), (2, (0, x2))]) dX0_ill_32 (by decide) rfl ?_
      refine x_aload_n 1 dX0_ill_34 rfl rfl ?_
      refine xg_X0_286 dX0_ill_35 ?_
      refine x_nmT fun v7 => ?_
      refine x_lstore (lv' := [(6, (1, v7)), (4, (1, 0)), (3, (2, r5)), (0, (2, x0)), (1, (0, x1)), (2, (0, x2))]) dX0_ill_38 (by decide) rfl ?_
      refine x_ic dX0_ill_40 (by decide) (by decide) ?_
      refine x_istore (lv' := [(8, (0, 0)), (6, (1, v7)), (4, (1, 0)), (3, (2, r5)), (0, (2, x0)), (1, (0, x1)), (2, (0, x2))]) dX0_ill_41 (by decide) rfl ?_
      exact x_sub [4, 5, 6, 3, 2, 1, 0] rfl (WF_X0_ill_43 hdd FU x0 x1 x2 r5 0 v7 0 h6)
    · refine x_ic dX0_ill_24 (by decide) (by decide) ?_
      exact x_iret rfl dX0_ill_25
theorem SF_X0_ill (l : Launch) {d : Nat} (hdd : 132 ≤ d) (x0 : Int) (x1 : Int) (x2 : Int) (h : XH) (hok : okH h) (ho : okXs (xn h) [(2, x0), (0, x1), (0, x2)]) (fin : XR) (hf : F_X0_ill x0 x1 x2 h = some fin) : xSpec l yX0_ill cX0_ill 12 (some .int) d 0 [(2, x0), (0, x1), (0, x2)] h fin := x_enter (lv := [(0, (2, x0)), (1, (0, x1)), (2, (0, x2))]) (by decide) rfl rfl (Nat.le_of_ble_eq_true rfl) rfl (fun Z _ => WF_X0_ill hdd x0 x1 x2 h) hok ho fin hf
noncomputable def F_X0_isDrawn (x0 : Int) (x1 : Int) (h : XH) : Option XR := ob h x0 1 <| mb (F_X0_many x0 h) fun r1 h2 => mb (F_X0_in x1 0 (w32 ((ishl 1 r1) - 1)) h2) fun r3 h4 => cb r3 (some (r3, h4))
theorem WF_X0_isDrawn {d : Nat} {Z : XZ XR} (hdd : 3 ≤ d) : ∀ x0 x1 h, XG xfh (xQ 0) RX0 "isDrawn" cX0_isDrawn 2 (some .boolean) d Z 0 [(0, (2, x0)), (1, (0, x1))] [] h (F_X0_isDrawn x0 x1 h) := by
  intro x0 x1 h
  unfold F_X0_isDrawn
  refine x_iload_n 1 dX0_isDrawn_0 rfl rfl ?_
  refine x_i2l dX0_isDrawn_1 ?_
  refine x_l0 dX0_isDrawn_2 ?_
  refine x_ic dX0_isDrawn_3 (by decide) (by decide) ?_
  refine x_aload_n 0 dX0_isDrawn_4 rfl rfl ?_
  refine cl_X0_13 (by omega) (Nat.le_of_ble_eq_true rfl) dX0_isDrawn_5 fun r1 h2 => ?_
  refine x_ishl dX0_isDrawn_8 ?_
  refine x_ic dX0_isDrawn_9 (by decide) (by decide) ?_
  refine x_isub dX0_isDrawn_10 ?_
  refine x_i2l dX0_isDrawn_11 ?_
  refine cl_X0_109 (by omega) (Nat.le_of_ble_eq_true rfl) dX0_isDrawn_12 fun r3 h4 => ?_
  exact x_zret rfl dX0_isDrawn_15
theorem SF_X0_isDrawn (l : Launch) {d : Nat} (hdd : 3 ≤ d) (x0 : Int) (x1 : Int) (h : XH) (hok : okH h) (ho : okXs (xn h) [(2, x0), (0, x1)]) (fin : XR) (hf : F_X0_isDrawn x0 x1 h = some fin) : xSpec l yX0_isDrawn cX0_isDrawn 2 (some .boolean) d 0 [(2, x0), (0, x1)] h fin := x_enter (lv := [(0, (2, x0)), (1, (0, x1))]) (by decide) rfl rfl (Nat.le_of_ble_eq_true rfl) rfl (fun Z _ => WF_X0_isDrawn hdd x0 x1 h) hok ho fin hf
theorem cl_X0_358 {ρ : Type} {fh : ρ → XH} {QQ : XZ ρ → State → Prop} {mn : String} {cc : ByteArray} {nL : Nat} {ret : Option FieldType} {d : Nat} {Z : XZ ρ} {pc : Nat} {lv : List (Nat × AV)} {st : List AV} {h : XH} {g : Int → XH → Option ρ} {b a0 : Int} (hdd : 4 ≤ d) (hcat : (st.map fun v => if v.1 = 1 then 2 else 1).sum ≤ 8) (hdg : decode cc pc = .ok (.invokevirtual 358, 3)) (kk : ∀ r h1, XG fh QQ RX0 mn cc nL ret d Z (pc + 3) lv ((0, r) :: st) h1 (g r h1)) : XG fh QQ RX0 mn cc nL ret d Z pc lv ((0, a0) :: (2, b) :: st) h (ob h b 1 (mb (F_X0_isDrawn b a0 h) g)) :=
  x_callVi [(0, a0)] 1 (WF_X0_isDrawn (Z := (Z.1, Z.2.1, ((0, h), h))) (Nat.le_refl 3) b a0 h).1 (fun hok ho fin hf => SF_X0_isDrawn (yL Z) (Nat.le_refl 3) b a0 h hok ho fin hf) RX0 1 rfl (by decide) (lw_V q1451 q1453 qs54 q124 q1454) ⟨rfl, by decide +kernel, by decide +kernel, by decide +kernel⟩ rfl (by omega) (by decide) rfl hcat hdg kk
theorem xg_X0_361 {ρ : Type} {fh : ρ → XH} {QQ : XZ ρ → State → Prop} {mn : String} {cc : ByteArray} {nL : Nat} {ret : Option FieldType} {d : Nat} {Z : XZ ρ} {pc : Nat} {lv : List (Nat × AV)} {st : List AV} {h : XH} {res : Option ρ} {a : Int} (hd : decode cc pc = .ok (.getfield 361, 3)) (kk : XG fh QQ RX0 mn cc nL ret d Z (pc + 3) lv ((0, xv h a 6) :: st) h res) : XG fh QQ RX0 mn cc nL ret d Z pc lv ((2, a) :: st) h (ob h a 2 res) := x_getN (C := RX1) (ref := RX1) 2 6 rfl in_X1 (by decide) rfl (by decide) (Or.inl rfl) q232 hd kk
theorem xp_X0_361 {ρ : Type} {fh : ρ → XH} {QQ : XZ ρ → State → Prop} {mn : String} {cc : ByteArray} {nL : Nat} {ret : Option FieldType} {d : Nat} {Z : XZ ρ} {pc : Nat} {lv : List (Nat × AV)} {st : List AV} {h : XH} {f : XH → Option ρ} {a x : Int} (hd : decode cc pc = .ok (.putfield 361, 3)) (kk : ∀ h1, XG fh QQ RX0 mn cc nL ret d Z (pc + 3) lv st h1 (f h1)) : XG fh QQ RX0 mn cc nL ret d Z pc lv ((0, x) :: (2, a) :: st) h (ob h a 2 (nm (hset h a 6 x) f)) := x_putN (C := RX1) (ref := RX1) 2 6 rfl in_X1 tyX1_ok nmX1 (by decide) rfl (by decide) (Or.inl rfl) (by decide) (xfit_X1 6 (by decide)) 0 rfl q232 hd kk
theorem xg_X0_364 {ρ : Type} {fh : ρ → XH} {QQ : XZ ρ → State → Prop} {mn : String} {cc : ByteArray} {nL : Nat} {ret : Option FieldType} {d : Nat} {Z : XZ ρ} {pc : Nat} {lv : List (Nat × AV)} {st : List AV} {h : XH} {res : Option ρ} {a : Int} (hd : decode cc pc = .ok (.getfield 364, 3)) (kk : XG fh QQ RX0 mn cc nL ret d Z (pc + 3) lv ((2, xv h a 5) :: st) h res) : XG fh QQ RX0 mn cc nL ret d Z pc lv ((2, a) :: st) h (ob h a 2 res) := x_getN (C := RX1) (ref := RX1) 2 5 rfl in_X1 (by decide) rfl (by decide) (Or.inl rfl) q230 hd kk
noncomputable def F_X0_year (x0 : Int) (x1 : Int) (h : XH) : Option XR := ob h x0 1 <| mb (F_X0_isDrawn x0 x1 h) fun r1 h2 => if r1 = 0 then (ob h2 x0 1 <| mb (F_X0_tell x0 (-1) h2) fun r9 h10 => some (r9, h10)) else (ob h2 x0 1 <| ob h2 (xv h2 x0 0) 2 <| if xv h2 (xv h2 x0 0) 6 = 40 then (ob h2 x0 1 <| mb (F_X0_tell x0 (-5) h2) fun r7 h8 => some (r7, h8)) else (ob h2 x0 1 <| ob h2 (xv h2 x0 0) 2 <| ob h2 x0 1 <| ob h2 (xv h2 x0 0) 2 <| ai h2 (xv h2 (xv h2 x0 0) 5) 0 (xv h2 (xv h2 x0 0) 6) <| nm (hset h2 (xv h2 (xv h2 x0 0) 5) (xv h2 (xv h2 x0 0) 6) x1) fun h3 => ob h3 x0 1 <| ob h3 (xv h3 x0 0) 2 <| ob h3 (xv h3 x0 0) 2 <| nm (hset h3 (xv h3 x0 0) 6 (w32 ((xv h3 (xv h3 x0 0) 6) + 1))) fun h4 => ob h4 x0 1 <| ob h4 (xv h4 x0 0) 2 <| ob h4 x0 1 <| mb (F_X0_tell x0 (xv h4 (xv h4 x0 0) 6) h4) fun r5 h6 => some (r5, h6)))
theorem WF_X0_year {d : Nat} {Z : XZ XR} (hdd : 4 ≤ d) : ∀ x0 x1 h, XG xfh (xQ 0) RX0 "year" cX0_year 2 (some .int) d Z 0 [(0, (2, x0)), (1, (0, x1))] [] h (F_X0_year x0 x1 h) := by
  intro x0 x1 h
  unfold F_X0_year
  refine x_aload_n 0 dX0_year_0 rfl rfl ?_
  refine x_iload_n 1 dX0_year_1 rfl rfl ?_
  refine cl_X0_358 (by omega) (Nat.le_of_ble_eq_true rfl) dX0_year_2 fun r1 h2 => ?_
  refine x_if_ne 14 dX0_year_5 (by decide) (fun _ => ?_) (fun _ => ?_)
  · refine x_aload_n 0 dX0_year_14 rfl rfl ?_
    refine xg_X0_17 dX0_year_15 ?_
    refine xg_X0_361 dX0_year_18 ?_
    refine x_bp dX0_year_21 (by decide) (by decide) ?_
    refine x_icmp_ne 33 dX0_year_23 (by decide) (fun _ => ?_) (fun _ => ?_)
    · refine x_aload_n 0 dX0_year_33 rfl rfl ?_
      refine xg_X0_17 dX0_year_34 ?_
      refine xg_X0_364 dX0_year_37 ?_
      refine x_aload_n 0 dX0_year_40 rfl rfl ?_
      refine xg_X0_17 dX0_year_41 ?_
      refine xg_X0_361 dX0_year_44 ?_
      refine x_iload_n 1 dX0_year_47 rfl rfl ?_
      refine x_iast dX0_year_48 fun h3 => ?_
      refine x_aload_n 0 dX0_year_49 rfl rfl ?_
      refine xg_X0_17 dX0_year_50 ?_
      refine x_dup dX0_year_53 rfl ?_
      refine xg_X0_361 dX0_year_54 ?_
      refine x_ic dX0_year_57 (by decide) (by decide) ?_
      refine x_iadd dX0_year_58 ?_
      refine xp_X0_361 dX0_year_59 fun h4 => ?_
      refine x_aload_n 0 dX0_year_62 rfl rfl ?_
      refine x_aload_n 0 dX0_year_63 rfl rfl ?_
      refine xg_X0_17 dX0_year_64 ?_
      refine xg_X0_361 dX0_year_67 ?_
      refine cl_X0_133 (by omega) (Nat.le_of_ble_eq_true rfl) dX0_year_70 fun r5 h6 => ?_
      exact x_iret rfl dX0_year_73
    · refine x_aload_n 0 dX0_year_26 rfl rfl ?_
      refine x_bp dX0_year_27 (by decide) (by decide) ?_
      refine cl_X0_133 (by omega) (Nat.le_of_ble_eq_true rfl) dX0_year_29 fun r7 h8 => ?_
      exact x_iret rfl dX0_year_32
  · refine x_aload_n 0 dX0_year_8 rfl rfl ?_
    refine x_ic dX0_year_9 (by decide) (by decide) ?_
    refine cl_X0_133 (by omega) (Nat.le_of_ble_eq_true rfl) dX0_year_10 fun r9 h10 => ?_
    exact x_iret rfl dX0_year_13
theorem SF_X0_year (l : Launch) {d : Nat} (hdd : 4 ≤ d) (x0 : Int) (x1 : Int) (h : XH) (hok : okH h) (ho : okXs (xn h) [(2, x0), (0, x1)]) (fin : XR) (hf : F_X0_year x0 x1 h = some fin) : xSpec l yX0_year cX0_year 2 (some .int) d 0 [(2, x0), (0, x1)] h fin := x_enter (lv := [(0, (2, x0)), (1, (0, x1))]) (by decide) rfl rfl (Nat.le_of_ble_eq_true rfl) rfl (fun Z _ => WF_X0_year hdd x0 x1 h) hok ho fin hf
theorem xg_X0_373 {ρ : Type} {fh : ρ → XH} {QQ : XZ ρ → State → Prop} {mn : String} {cc : ByteArray} {nL : Nat} {ret : Option FieldType} {d : Nat} {Z : XZ ρ} {pc : Nat} {lv : List (Nat × AV)} {st : List AV} {h : XH} {res : Option ρ} {a : Int} (hd : decode cc pc = .ok (.getfield 373, 3)) (kk : XG fh QQ RX0 mn cc nL ret d Z (pc + 3) lv ((0, xv h a 7) :: st) h res) : XG fh QQ RX0 mn cc nL ret d Z pc lv ((2, a) :: st) h (ob h a 1 res) := x_get (C := RX0) (ref := RX0) 1 7 rfl in_X0 (by decide) rfl (by decide) (Or.inl rfl) q301 hd kk
noncomputable def F_X0_lost (x0 : Int) (h : XH) : Option XR := ob h x0 1 <| some (xv h x0 7, h)
theorem WF_X0_lost {d : Nat} {Z : XZ XR} (hdd : 1 ≤ d) : ∀ x0 h, XG xfh (xQ 0) RX0 "lost" cX0_lost 1 (some .int) d Z 0 [(0, (2, x0))] [] h (F_X0_lost x0 h) := by
  intro x0 h
  unfold F_X0_lost
  refine x_aload_n 0 dX0_lost_0 rfl rfl ?_
  refine xg_X0_373 dX0_lost_1 ?_
  exact x_iret rfl dX0_lost_4
theorem SF_X0_lost (l : Launch) {d : Nat} (hdd : 1 ≤ d) (x0 : Int) (h : XH) (hok : okH h) (ho : okXs (xn h) [(2, x0)]) (fin : XR) (hf : F_X0_lost x0 h = some fin) : xSpec l yX0_lost cX0_lost 1 (some .int) d 0 [(2, x0)] h fin := x_enter (lv := [(0, (2, x0))]) (by decide) rfl rfl (Nat.le_of_ble_eq_true rfl) rfl (fun Z _ => WF_X0_lost hdd x0 h) hok ho fin hf
noncomputable def F_X0_drawn_100 (K28 : Int → Int → Int → Int → Int → Int → XH → Option XR) (s0 : Int) (x0 : Int) (x1 : Int) (x2 : Int) (x3 : Int) (x5 : Int) (h : XH) : Option XR := nm (w32 (x5 + 1)) fun v1 => K28 x0 x1 x2 x3 s0 v1 h
theorem WF_X0_drawn_100 {d : Nat} {Z : XZ XR} (hdd : 5 ≤ d) {K28 : Int → Int → Int → Int → Int → Int → XH → Option XR} (hK28 : ∀ x0 x1 x2 x3 x4 x5 h, XG xfh (xQ 0) RX0 "drawn" cX0_drawn 7 (some .int) d Z 28 [(0, (2, x0)), (1, (0, x1)), (2, (0, x2)), (3, (0, x3)), (4, (0, x4)), (5, (0, x5))] [] h (K28 x0 x1 x2 x3 x4 x5 h)) : ∀ s0 x0 x1 x2 x3 x5 h, XG xfh (xQ 0) RX0 "drawn" cX0_drawn 7 (some .int) d Z 100 [(0, (2, x0)), (1, (0, x1)), (2, (0, x2)), (3, (0, x3)), (5, (0, x5))] [(0, s0)] h (F_X0_drawn_100 K28 s0 x0 x1 x2 x3 x5 h) := by
  intro s0 x0 x1 x2 x3 x5 h
  unfold F_X0_drawn_100
  refine x_istore (lv' := [(4, (0, s0)), (0, (2, x0)), (1, (0, x1)), (2, (0, x2)), (3, (0, x3)), (5, (0, x5))]) dX0_drawn_100 (by decide) rfl ?_
  refine x_iinc 5 dX0_drawn_102 rfl (by decide) fun v1 => x_lv (lv' := [(5, (0, v1)), (4, (0, s0)), (0, (2, x0)), (1, (0, x1)), (2, (0, x2)), (3, (0, x3))]) rfl ?_
  refine x_goto 28 dX0_drawn_105 (by decide) ?_
  exact x_sub [2, 3, 4, 5, 1, 0] rfl (hK28 x0 x1 x2 x3 s0 v1 h)
noncomputable def F_X0_drawn_108 (x2 : Int) (x3 : Int) (x4 : Int) (h : XH) : Option XR := nm (α := Int) (if x2 = 0 then x3 else x4) fun v1 => some (v1, h)
theorem WF_X0_drawn_108 {d : Nat} {Z : XZ XR} (hdd : 5 ≤ d) : ∀ x2 x3 x4 h, XG xfh (xQ 0) RX0 "drawn" cX0_drawn 7 (some .int) d Z 108 [(2, (0, x2)), (3, (0, x3)), (4, (0, x4))] [] h (F_X0_drawn_108 x2 x3 x4 h) := by
  intro x2 x3 x4 h
  unfold F_X0_drawn_108
  refine x_iload_n 0 dX0_drawn_108 rfl rfl ?_
  refine x_join 118 (fun v1 => [(0, v1)]) (fun v1 => ?_) (fun hJ => ?_)
  · exact x_iret rfl dX0_drawn_118
  · refine x_if_neF 116 dX0_drawn_109 (by decide) (fun _ => ?_) (fun _ => ?_)
    · refine x_iload 2 dX0_drawn_116 rfl ?_
      exact hJ _
    · refine x_iload_n 1 dX0_drawn_112 rfl rfl ?_
      refine x_goto 118 dX0_drawn_113 (by decide) ?_
      exact hJ _
noncomputable def F_X0_drawn_28 : Nat → Int → Int → Int → Int → Int → Int → XH → Option XR
  | 0, _, _, _, _, _, _, _ => none
  | n + 1, x0, x1, x2, x3, x4, x5, h => ob h x0 1 <| ob h (xv h x0 0) 2 <| if xv h (xv h x0 0) 6 ≤ x5 then (F_X0_drawn_108 x2 x3 x4 h) else (ob h x0 1 <| ob h (xv h x0 0) 2 <| ai h (xv h (xv h x0 0) 5) 0 x5 <| nm (α := Int) (if iand (ishr (xv h (xv h (xv h x0 0) 5) x5) x1) 1 = 1 then 1 else 0) fun v1 => nm (α := Int) (if v1 = 0 then 0 else 1) fun v2 => nm (α := Int) (w32 (x3 + v2)) fun v3 => if v1 = 0 then (F_X0_drawn_100 (F_X0_drawn_28 n) x4 x0 x1 x2 v3 x5 h) else (ob h x0 1 <| ob h (xv h x0 0) 2 <| F_X0_drawn_100 (F_X0_drawn_28 n) (w32 ((w32 ((xv h (xv h x0 0) 6) - 1)) - x5)) x0 x1 x2 v3 x5 h))
theorem WF_X0_drawn_28 {d : Nat} {Z : XZ XR} (hdd : 5 ≤ d) : ∀ n x0 x1 x2 x3 x4 x5 h, XG xfh (xQ 0) RX0 "drawn" cX0_drawn 7 (some .int) d Z 28 [(0, (2, x0)), (1, (0, x1)), (2, (0, x2)), (3, (0, x3)), (4, (0, x4)), (5, (0, x5))] [] h (F_X0_drawn_28 n x0 x1 x2 x3 x4 x5 h) := by
  intro n
  induction n with
  | zero => intro x0 x1 x2 x3 x4 x5 h; exact x_none
  | succ n ih =>
    intro x0 x1 x2 x3 x4 x5 h
    rw [F_X0_drawn_28]
    refine x_iload 5 dX0_drawn_28 rfl ?_
    refine x_aload_n 0 dX0_drawn_30 rfl rfl ?_
    refine xg_X0_17 dX0_drawn_31 ?_
    refine xg_X0_361 dX0_drawn_34 ?_
    refine x_icmp_ge 108 dX0_drawn_37 (by decide) (fun _ => ?_) (fun _ => ?_)
    · exact x_sub [2, 3, 4] rfl (WF_X0_drawn_108 hdd x2 x3 x4 h)
    · refine x_aload_n 0 dX0_drawn_40 rfl rfl ?_
      refine xg_X0_17 dX0_drawn_41 ?_
      refine xg_X0_364 dX0_drawn_44 ?_
      refine x_iload 5 dX0_drawn_47 rfl ?_
      refine x_iald dX0_drawn_49 ?_
      refine x_iload_n 1 dX0_drawn_50 rfl rfl ?_
      refine x_ishr dX0_drawn_51 ?_
      refine x_ic dX0_drawn_52 (by decide) (by decide) ?_
      refine x_iand dX0_drawn_53 ?_
      refine x_ic dX0_drawn_54 (by decide) (by decide) ?_
      refine x_join 63 (fun v1 => [(0, v1)]) (fun v1 => ?_) (fun hJ => ?_)
      · refine x_istore (lv' := [(6, (0, v1)), (0, (2, x0)), (1, (0, x1)), (2, (0, x2)), (3, (0, x3)), (4, (0, x4)), (5, (0, x5))]) dX0_drawn_63 (by decide) rfl ?_
        refine x_iload_n 4 dX0_drawn_65 rfl rfl ?_
        refine x_iload 0 dX0_drawn_66 rfl ?_
        refine x_join 76 (fun v2 => [(0, v2), (0, x3)]) (fun v2 => ?_) (fun hJ => ?_)
        · refine x_iadd dX0_drawn_76 ?_
          refine x_nmT fun v3 => ?_
          refine x_istore_n (lv' := [(3, (0, v3)), (6, (0, v1)), (0, (2, x0)), (1, (0, x1)), (2, (0, x2)), (4, (0, x4)), (5, (0, x5))]) dX0_drawn_77 rfl (by decide) rfl ?_
          refine x_iload 1 dX0_drawn_78 rfl ?_
          refine x_if_eq 98 dX0_drawn_80 (by decide) (fun _ => ?_) (fun _ => ?_)
          · refine x_iload 5 dX0_drawn_98 rfl ?_
            exact x_sub [2, 3, 4, 0, 6] rfl (WF_X0_drawn_100 hdd ih x4 x0 x1 x2 v3 x5 h)
          · refine x_aload_n 2 dX0_drawn_83 rfl rfl ?_
            refine xg_X0_17 dX0_drawn_84 ?_
            refine xg_X0_361 dX0_drawn_87 ?_
            refine x_ic dX0_drawn_90 (by decide) (by decide) ?_
            refine x_isub dX0_drawn_91 ?_
            refine x_iload 6 dX0_drawn_92 rfl ?_
            refine x_isub dX0_drawn_94 ?_
            refine x_goto 100 dX0_drawn_95 (by decide) ?_
            exact x_sub [2, 3, 4, 0, 6] rfl (WF_X0_drawn_100 hdd ih (w32 ((w32 ((xv h (xv h x0 0) 6) - 1)) - x5)) x0 x1 x2 v3 x5 h)
        · refine x_if_eqF 75 dX0_drawn_68 (by decide) (fun _ => ?_) (fun _ => ?_)
          · refine x_ic dX0_drawn_75 (by decide) (by decide) ?_
            exact hJ _
          · refine x_ic dX0_drawn_71 (by decide) (by decide) ?_
            refine x_goto 76 dX0_drawn_72 (by decide) ?_
            exact hJ _
      · refine x_icmp_neF 62 dX0_drawn_55 (by decide) (fun _ => ?_) (fun _ => ?_)
        · refine x_ic dX0_drawn_62 (by decide) (by decide) ?_
          exact hJ _
        · refine x_ic dX0_drawn_58 (by decide) (by decide) ?_
          refine x_goto 63 dX0_drawn_59 (by decide) ?_
          exact hJ _
noncomputable def F_X0_drawn (x0 : Int) (x1 : Int) (x2 : Int) (h : XH) : Option XR := ob h x0 1 <| mb (F_X0_questionOf x0 x1 h) fun r1 h2 => if r1 = 0 then (some ((-1), h2)) else (mb (F_X0_in x2 0 1 h2) fun r3 h4 => if r3 = 0 then (some ((-1), h4)) else (F_X0_drawn_28 FU x0 x1 x2 0 (-1) 0 h4))
theorem WF_X0_drawn {d : Nat} {Z : XZ XR} (hdd : 5 ≤ d) : ∀ x0 x1 x2 h, XG xfh (xQ 0) RX0 "drawn" cX0_drawn 7 (some .int) d Z 0 [(0, (2, x0)), (1, (0, x1)), (2, (0, x2))] [] h (F_X0_drawn x0 x1 x2 h) := by
  intro x0 x1 x2 h
  unfold F_X0_drawn
  refine x_aload_n 0 dX0_drawn_0 rfl rfl ?_
  refine x_iload_n 1 dX0_drawn_1 rfl rfl ?_
  refine cl_X0_147 (by omega) (Nat.le_of_ble_eq_true rfl) dX0_drawn_2 fun r1 h2 => ?_
  refine x_ifnull 18 dX0_drawn_5 (by decide) (fun _ => ?_) (fun _ => ?_)
  · refine x_ic dX0_drawn_18 (by decide) (by decide) ?_
    exact x_iret rfl dX0_drawn_19
  · refine x_iload_n 2 dX0_drawn_8 rfl rfl ?_
    refine x_i2l dX0_drawn_9 ?_
    refine x_l0 dX0_drawn_10 ?_
    refine x_l1 dX0_drawn_11 ?_
    refine cl_X0_109 (by omega) (Nat.le_of_ble_eq_true rfl) dX0_drawn_12 fun r3 h4 => ?_
    refine x_if_ne 20 dX0_drawn_15 (by decide) (fun _ => ?_) (fun _ => ?_)
    · refine x_ic dX0_drawn_20 (by decide) (by decide) ?_
      refine x_istore_n (lv' := [(3, (0, 0)), (0, (2, x0)), (1, (0, x1)), (2, (0, x2))]) dX0_drawn_21 rfl (by decide) rfl ?_
      refine x_ic dX0_drawn_22 (by decide) (by decide) ?_
      refine x_istore (lv' := [(4, (0, (-1))), (3, (0, 0)), (0, (2, x0)), (1, (0, x1)), (2, (0, x2))]) dX0_drawn_23 (by decide) rfl ?_
      refine x_ic dX0_drawn_25 (by decide) (by decide) ?_
      refine x_istore (lv' := [(5, (0, 0)), (4, (0, (-1))), (3, (0, 0)), (0, (2, x0)), (1, (0, x1)), (2, (0, x2))]) dX0_drawn_26 (by decide) rfl ?_
      exact x_sub [3, 4, 5, 2, 1, 0] rfl (WF_X0_drawn_28 hdd FU x0 x1 x2 0 (-1) 0 h4)
    · refine x_ic dX0_drawn_18 (by decide) (by decide) ?_
      exact x_iret rfl dX0_drawn_19
theorem SF_X0_drawn (l : Launch) {d : Nat} (hdd : 5 ≤ d) (x0 : Int) (x1 : Int) (x2 : Int) (h : XH) (hok : okH h) (ho : okXs (xn h) [(2, x0), (0, x1), (0, x2)]) (fin : XR) (hf : F_X0_drawn x0 x1 x2 h = some fin) : xSpec l yX0_drawn cX0_drawn 7 (some .int) d 0 [(2, x0), (0, x1), (0, x2)] h fin := x_enter (lv := [(0, (2, x0)), (1, (0, x1)), (2, (0, x2))]) (by decide) rfl rfl (Nat.le_of_ble_eq_true rfl) rfl (fun Z _ => WF_X0_drawn hdd x0 x1 x2 h) hok ho fin hf
theorem xg_X25_7 {ρ : Type} {fh : ρ → XH} {QQ : XZ ρ → State → Prop} {mn : String} {cc : ByteArray} {nL : Nat} {ret : Option FieldType} {d : Nat} {Z : XZ ρ} {pc : Nat} {lv : List (Nat × AV)} {st : List AV} {h : XH} {res : Option ρ} {a : Int} (hd : decode cc pc = .ok (.getfield 7, 3)) (kk : XG fh QQ RX25 mn cc nL ret d Z (pc + 3) lv ((2, xv h a 0) :: st) h res) : XG fh QQ RX25 mn cc nL ret d Z pc lv ((2, a) :: st) h (ob h a 23 res) := x_get (C := RX25) (ref := RX25) 23 0 rfl in_X25 (by decide) rfl (by decide) (Or.inl rfl) q1520 hd kk
theorem xpF_X25_7 {ρ : Type} {fh : ρ → XH} {QQ : XZ ρ → State → Prop} {cc : ByteArray} {nL : Nat} {ret : Option FieldType} {d : Nat} {Z : XZ ρ} {pc : Nat} {lv : List (Nat × AV)} {st : List AV} {h : XH} {f : XH → Option ρ} {a x : Int} (hd : decode cc pc = .ok (.putfield 7, 3)) (kk : ∀ h1, XG fh QQ RX25 "<init>" cc nL ret d Z (pc + 3) lv st h1 (f h1)) : XG fh QQ RX25 "<init>" cc nL ret d Z pc lv ((2, x) :: (2, a) :: st) h (ob h a 23 (nm (hset h a 0 x) f)) := x_putF (C := RX25) (ref := RX25) 23 0 rfl in_X25 tyX25_ok nmX25 (by decide) rfl (by decide) (Or.inl rfl) rfl rfl rfl (xfit_X25 0 (by decide)) 2 rfl q1520 hd kk
noncomputable def F_X25_init (x0 : Int) (x1 : Int) (h : XH) : Option XR := pz x0 <| na h 0 20 fun r1 h2 => ob h2 x0 23 <| nm (hset h2 x0 0 r1) fun h3 => ob h3 x0 23 <| ai h3 (xv h3 x0 0) 0 0 <| nm (hset h3 (xv h3 x0 0) 0 x1) fun h4 => some (0, h4)
theorem WF_X25_init {d : Nat} {Z : XZ XR} (hdd : 1 ≤ d) : ∀ x0 x1 h, XG xfh (xQ 2) RX25 "<init>" cX25_init 2 none d Z 0 [(0, (2, x0)), (1, (0, x1))] [] h (F_X25_init x0 x1 h) := by
  intro x0 x1 h
  unfold F_X25_init
  refine x_aload_n 0 dX25_init_0 rfl rfl ?_
  refine x_objinit q1519 q176 q177 (by omega) (Nat.le_of_ble_eq_true rfl) dX25_init_1 ?_
  refine x_aload_n 0 dX25_init_4 rfl rfl ?_
  refine x_bp dX25_init_5 (by decide) (by decide) ?_
  refine x_newarr (atype := .int) 0 (by decide) rfl rfl q252 dX25_init_7 fun r1 h2 => ?_
  refine xpF_X25_7 dX25_init_9 fun h3 => ?_
  refine x_aload_n 0 dX25_init_12 rfl rfl ?_
  refine xg_X25_7 dX25_init_13 ?_
  refine x_ic dX25_init_16 (by decide) (by decide) ?_
  refine x_iload_n 1 dX25_init_17 rfl rfl ?_
  refine x_iast dX25_init_18 fun h4 => ?_
  exact x_vret rfl dX25_init_19
theorem SF_X25_init (l : Launch) {d : Nat} (hdd : 1 ≤ d) (x0 : Int) (x1 : Int) (h : XH) (hok : okH h) (ho : okXs (xn h) [(2, x0), (0, x1)]) (fin : XR) (hf : F_X25_init x0 x1 h = some fin) : xSpec l yX25_init cX25_init 2 none d 2 [(2, x0), (0, x1)] h fin := x_enter (lv := [(0, (2, x0)), (1, (0, x1))]) (by decide) rfl rfl (Nat.le_of_ble_eq_true rfl) rfl (fun Z _ => WF_X25_init hdd x0 x1 h) hok ho fin hf
noncomputable def F_X25_init_2 (x0 : Int) (x1 : Int) (h : XH) : Option XR := pz x0 <| na h 0 20 fun r1 h2 => ob h2 x0 23 <| nm (hset h2 x0 0 r1) fun h3 => ob h3 x1 23 <| ob h3 x0 23 <| ob h3 x0 23 <| al h3 (xv h3 x0 0) 0 <| cpg h3 0 (xv h3 x1 0) 0 (xv h3 x0 0) 0 (xl h3 (xv h3 x0 0) : Int) <| nm (hcpy h3 (xv h3 x1 0) 0 (xv h3 x0 0) 0 (xl h3 (xv h3 x0 0) : Int)) fun h4 => some (0, h4)
theorem WF_X25_init_2 {d : Nat} {Z : XZ XR} (hdd : 1 ≤ d) : ∀ x0 x1 h, XG xfh (xQ 2) RX25 "<init>" cX25_init_2 2 none d Z 0 [(0, (2, x0)), (1, (2, x1))] [] h (F_X25_init_2 x0 x1 h) := by
  intro x0 x1 h
  unfold F_X25_init_2
  refine x_aload_n 0 dX25_init_2_0 rfl rfl ?_
  refine x_objinit q1519 q176 q177 (by omega) (Nat.le_of_ble_eq_true rfl) dX25_init_2_1 ?_
  refine x_aload_n 0 dX25_init_2_4 rfl rfl ?_
  refine x_bp dX25_init_2_5 (by decide) (by decide) ?_
  refine x_newarr (atype := .int) 0 (by decide) rfl rfl q252 dX25_init_2_7 fun r1 h2 => ?_
  refine xpF_X25_7 dX25_init_2_9 fun h3 => ?_
  refine x_aload_n 1 dX25_init_2_12 rfl rfl ?_
  refine xg_X25_7 dX25_init_2_13 ?_
  refine x_ic dX25_init_2_16 (by decide) (by decide) ?_
  refine x_aload_n 0 dX25_init_2_17 rfl rfl ?_
  refine xg_X25_7 dX25_init_2_18 ?_
  refine x_ic dX25_init_2_21 (by decide) (by decide) ?_
  refine x_aload_n 0 dX25_init_2_22 rfl rfl ?_
  refine xg_X25_7 dX25_init_2_23 ?_
  refine x_alen 0 (by decide) dX25_init_2_26 ?_
  refine x_copyi 0 (Or.inl rfl) q1532 q480 q479 q136 (by omega) (Nat.le_of_ble_eq_true rfl) dX25_init_2_27 fun h4 => ?_
  exact x_vret rfl dX25_init_2_30
theorem SF_X25_init_2 (l : Launch) {d : Nat} (hdd : 1 ≤ d) (x0 : Int) (x1 : Int) (h : XH) (hok : okH h) (ho : okXs (xn h) [(2, x0), (2, x1)]) (fin : XR) (hf : F_X25_init_2 x0 x1 h = some fin) : xSpec l yX25_init_2 cX25_init_2 2 none d 2 [(2, x0), (2, x1)] h fin := x_enter (lv := [(0, (2, x0)), (1, (2, x1))]) (by decide) rfl rfl (Nat.le_of_ble_eq_true rfl) rfl (fun Z _ => WF_X25_init_2 hdd x0 x1 h) hok ho fin hf
noncomputable def F_X25_plus_4 : Nat → Int → Int → Int → Int → XH → Option XR
  | 0, _, _, _, _, _ => none
  | n + 1, x0, x1, x2, x3, h => ob h x0 23 <| al h (xv h x0 0) 0 <| if (xl h (xv h x0 0) : Int) ≤ x3 then (some (x0, h)) else (ob h x0 23 <| ai h (xv h x0 0) 0 x3 <| ob h x1 23 <| ai h (xv h x1 0) 0 x3 <| nm (α := Int) (w32 ((w32 ((xv h (xv h x0 0) x3) + (xv h (xv h x1 0) x3))) + x2)) fun v1 => ob h x0 23 <| ai h (xv h x0 0) 0 x3 <| nm (hset h (xv h x0 0) x3 (v1.tmod 10000)) fun h2 => nm (α := Int) (w32 (v1.tdiv 10000)) fun v3 => nm (w32 (x3 + 1)) fun v4 => F_X25_plus_4 n x0 x1 v3 v4 h2)
theorem WF_X25_plus_4 {d : Nat} {Z : XZ XR} (hdd : 1 ≤ d) : ∀ n x0 x1 x2 x3 h, XG xfh (xQ 3) RX25 "plus" cX25_plus 5 (some (.object "ExamSlips$Huge")) d Z 4 [(0, (2, x0)), (1, (2, x1)), (2, (0, x2)), (3, (0, x3))] [] h (F_X25_plus_4 n x0 x1 x2 x3 h) := by
  intro n
  induction n with
  | zero => intro x0 x1 x2 x3 h; exact x_none
  | succ n ih =>
    intro x0 x1 x2 x3 h
    rw [F_X25_plus_4]
    refine x_iload_n 3 dX25_plus_4 rfl rfl ?_
    refine x_aload_n 0 dX25_plus_5 rfl rfl ?_
    refine xg_X25_7 dX25_plus_6 ?_
    refine x_alen 0 (by decide) dX25_plus_9 ?_
    refine x_icmp_ge 55 dX25_plus_10 (by decide) (fun _ => ?_) (fun _ => ?_)
    · refine x_aload_n 0 dX25_plus_55 rfl rfl ?_
      exact x_aret rfl (Or.inl ⟨_, rfl⟩) dX25_plus_56
    · refine x_aload_n 0 dX25_plus_13 rfl rfl ?_
      refine xg_X25_7 dX25_plus_14 ?_
      refine x_iload_n 3 dX25_plus_17 rfl rfl ?_
      refine x_iald dX25_plus_18 ?_
      refine x_aload_n 1 dX25_plus_19 rfl rfl ?_
      refine xg_X25_7 dX25_plus_20 ?_
      refine x_iload_n 3 dX25_plus_23 rfl rfl ?_
      refine x_iald dX25_plus_24 ?_
      refine x_iadd dX25_plus_25 ?_
      refine x_iload_n 2 dX25_plus_26 rfl rfl ?_
      refine x_iadd dX25_plus_27 ?_
      refine x_nmT fun v1 => ?_
      refine x_istore (lv' := [(4, (0, v1)), (0, (2, x0)), (1, (2, x1)), (2, (0, x2)), (3, (0, x3))]) dX25_plus_28 (by decide) rfl ?_
      refine x_aload_n 1 dX25_plus_30 rfl rfl ?_
      refine xg_X25_7 dX25_plus_31 ?_
      refine x_iload_n 4 dX25_plus_34 rfl rfl ?_
      refine x_iload 0 dX25_plus_35 rfl ?_
      refine x_sp dX25_plus_37 (by decide) (by decide) ?_
      refine x_nz (b := 10000) (by decide) (x_irem dX25_plus_40 ?_)
      refine x_iast dX25_plus_41 fun h2 => ?_
      refine x_iload 0 dX25_plus_42 rfl ?_
      refine x_sp dX25_plus_44 (by decide) (by decide) ?_
      refine x_nz (b := 10000) (by decide) (x_idiv dX25_plus_47 ?_)
      refine x_nmT fun v3 => ?_
      refine x_istore_n (lv' := [(2, (0, v3)), (4, (0, v1)), (0, (2, x0)), (1, (2, x1)), (3, (0, x3))]) dX25_plus_48 rfl (by decide) rfl ?_
      refine x_iinc 4 dX25_plus_49 rfl (by decide) fun v4 => x_lv (lv' := [(3, (0, v4)), (2, (0, v3)), (4, (0, v1)), (0, (2, x0)), (1, (2, x1))]) rfl ?_
      refine x_goto 4 dX25_plus_52 (by decide) ?_
      exact x_sub [3, 4, 1, 0] rfl (ih x0 x1 v3 v4 h2)
noncomputable def F_X25_plus (x0 : Int) (x1 : Int) (h : XH) : Option XR := F_X25_plus_4 FU x0 x1 0 0 h
theorem WF_X25_plus {d : Nat} {Z : XZ XR} (hdd : 1 ≤ d) : ∀ x0 x1 h, XG xfh (xQ 3) RX25 "plus" cX25_plus 5 (some (.object "ExamSlips$Huge")) d Z 0 [(0, (2, x0)), (1, (2, x1))] [] h (F_X25_plus x0 x1 h) := by
  intro x0 x1 h
  unfold F_X25_plus
  refine x_ic dX25_plus_0 (by decide) (by decide) ?_
  refine x_istore_n (lv' := [(2, (0, 0)), (0, (2, x0)), (1, (2, x1))]) dX25_plus_1 rfl (by decide) rfl ?_
  refine x_ic dX25_plus_2 (by decide) (by decide) ?_
  refine x_istore_n (lv' := [(3, (0, 0)), (2, (0, 0)), (0, (2, x0)), (1, (2, x1))]) dX25_plus_3 rfl (by decide) rfl ?_
  exact x_sub [2, 3, 1, 0] rfl (WF_X25_plus_4 hdd FU x0 x1 0 0 h)
theorem SF_X25_plus (l : Launch) {d : Nat} (hdd : 1 ≤ d) (x0 : Int) (x1 : Int) (h : XH) (hok : okH h) (ho : okXs (xn h) [(2, x0), (2, x1)]) (fin : XR) (hf : F_X25_plus x0 x1 h = some fin) : xSpec l yX25_plus cX25_plus 5 (some (.object "ExamSlips$Huge")) d 3 [(2, x0), (2, x1)] h fin := x_enter (lv := [(0, (2, x0)), (1, (2, x1))]) (by decide) rfl rfl (Nat.le_of_ble_eq_true rfl) rfl (fun Z _ => WF_X25_plus hdd x0 x1 h) hok ho fin hf
noncomputable def F_X25_times_5 : Nat → Int → Int → Int → Int → XH → Option XR
  | 0, _, _, _, _, _ => none
  | n + 1, x0, x1, x2, x4, h => ob h x0 23 <| al h (xv h x0 0) 0 <| if (xl h (xv h x0 0) : Int) ≤ x4 then (some (x0, h)) else (ob h x0 23 <| ai h (xv h x0 0) 0 x4 <| nm (α := Int) (w64 ((w64 ((xv h (xv h x0 0) x4) * x1)) + x2)) fun v1 => ob h x0 23 <| ai h (xv h x0 0) 0 x4 <| nm (hset h (xv h x0 0) x4 (w32 (v1.tmod 10000))) fun h2 => nm (α := Int) (w64 (v1.tdiv 10000)) fun v3 => nm (w32 (x4 + 1)) fun v4 => F_X25_times_5 n x0 x1 v3 v4 h2)
theorem WF_X25_times_5 {d : Nat} {Z : XZ XR} (hdd : 1 ≤ d) : ∀ n x0 x1 x2 x4 h, XG xfh (xQ 3) RX25 "times" cX25_times 7 (some (.object "ExamSlips$Huge")) d Z 5 [(0, (2, x0)), (1, (0, x1)), (2, (1, x2)), (4, (0, x4))] [] h (F_X25_times_5 n x0 x1 x2 x4 h) := by
  intro n
  induction n with
  | zero => intro x0 x1 x2 x4 h; exact x_none
  | succ n ih =>
    intro x0 x1 x2 x4 h
    rw [F_X25_times_5]
    refine x_iload 3 dX25_times_5 rfl ?_
    refine x_aload_n 0 dX25_times_7 rfl rfl ?_
    refine xg_X25_7 dX25_times_8 ?_
    refine x_alen 0 (by decide) dX25_times_11 ?_
    refine x_icmp_ge 57 dX25_times_12 (by decide) (fun _ => ?_) (fun _ => ?_)
    · refine x_aload_n 0 dX25_times_57 rfl rfl ?_
      exact x_aret rfl (Or.inl ⟨_, rfl⟩) dX25_times_58
    · refine x_aload_n 0 dX25_times_15 rfl rfl ?_
      refine xg_X25_7 dX25_times_16 ?_
      refine x_iload 3 dX25_times_19 rfl ?_
      refine x_iald dX25_times_21 ?_
      refine x_i2l dX25_times_22 ?_
      refine x_iload_n 1 dX25_times_23 rfl rfl ?_
      refine x_i2l dX25_times_24 ?_
      refine x_lmul dX25_times_25 ?_
      refine x_lload_n 2 dX25_times_26 rfl rfl ?_
      refine x_ladd dX25_times_27 ?_
      refine x_nmT fun v1 => ?_
      refine x_lstore (lv' := [(5, (1, v1)), (0, (2, x0)), (1, (0, x1)), (2, (1, x2)), (4, (0, x4))]) dX25_times_28 (by decide) rfl ?_
      refine x_aload_n 1 dX25_times_30 rfl rfl ?_
      refine xg_X25_7 dX25_times_31 ?_
      refine x_iload 4 dX25_times_34 rfl ?_
      refine x_lload 0 dX25_times_36 rfl ?_
      refine x_ldc2 (n := 10000) q1528 dX25_times_38 (by decide +kernel) ⟨by decide, by decide⟩ ?_
      refine x_nz (b := 10000) (by decide) (x_lrem dX25_times_41 ?_)
      refine x_l2i dX25_times_42 ?_
      refine x_iast dX25_times_43 fun h2 => ?_
      refine x_lload 0 dX25_times_44 rfl ?_
      refine x_ldc2 (n := 10000) q1528 dX25_times_46 (by decide +kernel) ⟨by decide, by decide⟩ ?_
      refine x_nz (b := 10000) (by decide) (x_ldiv dX25_times_49 ?_)
      refine x_nmT fun v3 => ?_
      refine x_lstore_n (lv' := [(2, (1, v3)), (5, (1, v1)), (0, (2, x0)), (1, (0, x1)), (4, (0, x4))]) dX25_times_50 rfl (by decide) rfl ?_
      refine x_iinc 4 dX25_times_51 rfl (by decide) fun v4 => x_lv (lv' := [(4, (0, v4)), (2, (1, v3)), (5, (1, v1)), (0, (2, x0)), (1, (0, x1))]) rfl ?_
      refine x_goto 5 dX25_times_54 (by decide) ?_
      exact x_sub [3, 4, 1, 0] rfl (ih x0 x1 v3 v4 h2)
noncomputable def F_X25_times (x0 : Int) (x1 : Int) (h : XH) : Option XR := F_X25_times_5 FU x0 x1 0 0 h
theorem WF_X25_times {d : Nat} {Z : XZ XR} (hdd : 1 ≤ d) : ∀ x0 x1 h, XG xfh (xQ 3) RX25 "times" cX25_times 7 (some (.object "ExamSlips$Huge")) d Z 0 [(0, (2, x0)), (1, (0, x1))] [] h (F_X25_times x0 x1 h) := by
  intro x0 x1 h
  unfold F_X25_times
  refine x_l0 dX25_times_0 ?_
  refine x_lstore_n (lv' := [(2, (1, 0)), (0, (2, x0)), (1, (0, x1))]) dX25_times_1 rfl (by decide) rfl ?_
  refine x_ic dX25_times_2 (by decide) (by decide) ?_
  refine x_istore (lv' := [(4, (0, 0)), (2, (1, 0)), (0, (2, x0)), (1, (0, x1))]) dX25_times_3 (by decide) rfl ?_
  exact x_sub [2, 3, 1, 0] rfl (WF_X25_times_5 hdd FU x0 x1 0 0 h)
theorem SF_X25_times (l : Launch) {d : Nat} (hdd : 1 ≤ d) (x0 : Int) (x1 : Int) (h : XH) (hok : okH h) (ho : okXs (xn h) [(2, x0), (0, x1)]) (fin : XR) (hf : F_X25_times x0 x1 h = some fin) : xSpec l yX25_times cX25_times 7 (some (.object "ExamSlips$Huge")) d 3 [(2, x0), (0, x1)] h fin := x_enter (lv := [(0, (2, x0)), (1, (0, x1))]) (by decide) rfl rfl (Nat.le_of_ble_eq_true rfl) rfl (fun Z _ => WF_X25_times hdd x0 x1 h) hok ho fin hf
theorem cl_X0_384 {ρ : Type} {fh : ρ → XH} {QQ : XZ ρ → State → Prop} {mn : String} {cc : ByteArray} {nL : Nat} {ret : Option FieldType} {d : Nat} {Z : XZ ρ} {pc : Nat} {lv : List (Nat × AV)} {st : List AV} {h : XH} {g : Int → XH → Option ρ} {b a0 : Int} (hdd : 2 ≤ d) (hcat : (st.map fun v => if v.1 = 1 then 2 else 1).sum ≤ 8) (hdg : decode cc pc = .ok (.invokespecial 384, 3)) (kk : ∀ r h1, XG fh QQ RX0 mn cc nL ret d Z (pc + 3) lv st h1 (g r h1)) : XG fh QQ RX0 mn cc nL ret d Z pc lv ((0, a0) :: (2, b) :: st) h (pz b (mb (F_X25_init b a0 h) g)) :=
  x_callIv [(0, a0)] 1 (WF_X25_init (Z := (Z.1, Z.2.1, ((0, h), h))) (Nat.le_refl 1) b a0 h).1 (fun hok ho fin hf => SF_X25_init (yL Z) (Nat.le_refl 1) b a0 h hok ho fin hf) (lw_meth q1518) q167 q1516 q1517 rfl ⟨by decide +kernel, by decide +kernel, by decide +kernel⟩ rfl (by omega) (by decide) rfl hcat hdg kk
theorem cl_X0_386 {ρ : Type} {fh : ρ → XH} {QQ : XZ ρ → State → Prop} {mn : String} {cc : ByteArray} {nL : Nat} {ret : Option FieldType} {d : Nat} {Z : XZ ρ} {pc : Nat} {lv : List (Nat × AV)} {st : List AV} {h : XH} {g : Int → XH → Option ρ} {b a0 : Int} (hdd : 2 ≤ d) (hcat : (st.map fun v => if v.1 = 1 then 2 else 1).sum ≤ 8) (hdg : decode cc pc = .ok (.invokevirtual 386, 3)) (kk : ∀ r h1, XG fh QQ RX0 mn cc nL ret d Z (pc + 3) lv ((2, r) :: st) h1 (g r h1)) : XG fh QQ RX0 mn cc nL ret d Z pc lv ((0, a0) :: (2, b) :: st) h (ob h b 23 (mb (F_X25_times b a0 h) g)) :=
  x_callVr [(0, a0)] 1 (WF_X25_times (Z := (Z.1, Z.2.1, ((0, h), h))) (Nat.le_refl 1) b a0 h).1 (fun hok ho fin hf => SF_X25_times (yL Z) (Nat.le_refl 1) b a0 h hok ho fin hf) RX25 23 rfl (by decide) (lw_V q1524 q1525 q1526 q167 q1527) ⟨rfl, by decide +kernel, by decide +kernel, by decide +kernel⟩ rfl (by omega) (by decide) rfl hcat hdg kk
theorem cl_X0_390 {ρ : Type} {fh : ρ → XH} {QQ : XZ ρ → State → Prop} {mn : String} {cc : ByteArray} {nL : Nat} {ret : Option FieldType} {d : Nat} {Z : XZ ρ} {pc : Nat} {lv : List (Nat × AV)} {st : List AV} {h : XH} {g : Int → XH → Option ρ} {b a0 : Int} (hdd : 2 ≤ d) (hcat : (st.map fun v => if v.1 = 1 then 2 else 1).sum ≤ 8) (hdg : decode cc pc = .ok (.invokespecial 390, 3)) (kk : ∀ r h1, XG fh QQ RX0 mn cc nL ret d Z (pc + 3) lv st h1 (g r h1)) : XG fh QQ RX0 mn cc nL ret d Z pc lv ((2, a0) :: (2, b) :: st) h (pz b (mb (F_X25_init_2 b a0 h) g)) :=
  x_callIv [(2, a0)] 1 (WF_X25_init_2 (Z := (Z.1, Z.2.1, ((0, h), h))) (Nat.le_refl 1) b a0 h).1 (fun hok ho fin hf => SF_X25_init_2 (yL Z) (Nat.le_refl 1) b a0 h hok ho fin hf) (lw_meth q1531) q167 q1529 q1530 rfl ⟨by decide +kernel, by decide +kernel, by decide +kernel⟩ rfl (by omega) (by decide) rfl hcat hdg kk
theorem cl_X0_393 {ρ : Type} {fh : ρ → XH} {QQ : XZ ρ → State → Prop} {mn : String} {cc : ByteArray} {nL : Nat} {ret : Option FieldType} {d : Nat} {Z : XZ ρ} {pc : Nat} {lv : List (Nat × AV)} {st : List AV} {h : XH} {g : Int → XH → Option ρ} {b a0 : Int} (hdd : 2 ≤ d) (hcat : (st.map fun v => if v.1 = 1 then 2 else 1).sum ≤ 8) (hdg : decode cc pc = .ok (.invokevirtual 393, 3)) (kk : ∀ r h1, XG fh QQ RX0 mn cc nL ret d Z (pc + 3) lv ((2, r) :: st) h1 (g r h1)) : XG fh QQ RX0 mn cc nL ret d Z pc lv ((2, a0) :: (2, b) :: st) h (ob h b 23 (mb (F_X25_plus b a0 h) g)) :=
  x_callVr [(2, a0)] 1 (WF_X25_plus (Z := (Z.1, Z.2.1, ((0, h), h))) (Nat.le_refl 1) b a0 h).1 (fun hok ho fin hf => SF_X25_plus (yL Z) (Nat.le_refl 1) b a0 h hok ho fin hf) RX25 23 rfl (by decide) (lw_V q1533 q1534 q1535 q167 q1536) ⟨rfl, by decide +kernel, by decide +kernel, by decide +kernel⟩ rfl (by omega) (by decide) rfl hcat hdg kk
theorem xn_X0_382 {ρ : Type} {fh : ρ → XH} {QQ : XZ ρ → State → Prop} {mn : String} {cc : ByteArray} {nL : Nat} {ret : Option FieldType} {d : Nat} {Z : XZ ρ} {pc : Nat} {lv : List (Nat × AV)} {st : List AV} {h : XH} {f : Int → XH → Option ρ} (hd : decode cc pc = .ok (.new 382, 3)) (kk : ∀ r h1, XG fh QQ RX0 mn cc nL ret d Z (pc + 3) lv ((2, r) :: st) h1 (f r h1)) : XG fh QQ RX0 mn cc nL ret d Z pc lv st h (nw h 23 1 f) := x_new (C := RX25) 23 rfl in_X25 tyX25_ok (by decide) rfl (by decide) xfit_X25 q1513 q1515 q167 hd kk
noncomputable def F_X0_waysOf_132 (K68 : Int → Int → Int → Int → Int → XH → Option XR) (K86 : Int → Int → Int → Int → Int → Int → XH → Option XR) (x0 : Int) (x1 : Int) (x2 : Int) (x3 : Int) (x4 : Int) (x5 : Int) (h : XH) : Option XR := nm (w32 (x5 + (-1))) fun v1 => K86 x0 x1 x2 x3 x4 v1 h
theorem WF_X0_waysOf_132 {d : Nat} {Z : XZ XR} (hdd : 3 ≤ d) {K68 : Int → Int → Int → Int → Int → XH → Option XR} (hK68 : ∀ x0 x1 x2 x3 x4 h, XG xfh (xQ 3) RX0 "waysOf" cX0_waysOf 6 (some (.array (.object "ExamSlips$Huge"))) d Z 68 [(0, (2, x0)), (1, (0, x1)), (2, (0, x2)), (3, (2, x3)), (4, (0, x4))] [] h (K68 x0 x1 x2 x3 x4 h)) {K86 : Int → Int → Int → Int → Int → Int → XH → Option XR} (hK86 : ∀ x0 x1 x2 x3 x4 x5 h, XG xfh (xQ 3) RX0 "waysOf" cX0_waysOf 6 (some (.array (.object "ExamSlips$Huge"))) d Z 86 [(0, (2, x0)), (1, (0, x1)), (2, (0, x2)), (3, (2, x3)), (4, (0, x4)), (5, (0, x5))] [] h (K86 x0 x1 x2 x3 x4 x5 h)) : ∀ x0 x1 x2 x3 x4 x5 h, XG xfh (xQ 3) RX0 "waysOf" cX0_waysOf 6 (some (.array (.object "ExamSlips$Huge"))) d Z 132 [(0, (2, x0)), (1, (0, x1)), (2, (0, x2)), (3, (2, x3)), (4, (0, x4)), (5, (0, x5))] [] h (F_X0_waysOf_132 K68 K86 x0 x1 x2 x3 x4 x5 h) := by
  intro x0 x1 x2 x3 x4 x5 h
  unfold F_X0_waysOf_132
  refine x_iinc 5 dX0_waysOf_132 rfl (by decide) fun v1 => x_lv (lv' := [(5, (0, v1)), (0, (2, x0)), (1, (0, x1)), (2, (0, x2)), (3, (2, x3)), (4, (0, x4))]) rfl ?_
  refine x_goto 86 dX0_waysOf_135 (by decide) ?_
  exact x_sub [1, 2, 3, 4, 5, 0] rfl (hK86 x0 x1 x2 x3 x4 v1 h)
noncomputable def F_X0_waysOf_138 (K68 : Int → Int → Int → Int → Int → XH → Option XR) (x0 : Int) (x1 : Int) (x2 : Int) (x3 : Int) (x4 : Int) (h : XH) : Option XR := nm (w32 (x4 + 1)) fun v1 => K68 x0 x1 x2 x3 v1 h
theorem WF_X0_waysOf_138 {d : Nat} {Z : XZ XR} (hdd : 3 ≤ d) {K68 : Int → Int → Int → Int → Int → XH → Option XR} (hK68 : ∀ x0 x1 x2 x3 x4 h, XG xfh (xQ 3) RX0 "waysOf" cX0_waysOf 6 (some (.array (.object "ExamSlips$Huge"))) d Z 68 [(0, (2, x0)), (1, (0, x1)), (2, (0, x2)), (3, (2, x3)), (4, (0, x4))] [] h (K68 x0 x1 x2 x3 x4 h)) : ∀ x0 x1 x2 x3 x4 h, XG xfh (xQ 3) RX0 "waysOf" cX0_waysOf 6 (some (.array (.object "ExamSlips$Huge"))) d Z 138 [(0, (2, x0)), (1, (0, x1)), (2, (0, x2)), (3, (2, x3)), (4, (0, x4))] [] h (F_X0_waysOf_138 K68 x0 x1 x2 x3 x4 h) := by
  intro x0 x1 x2 x3 x4 h
  unfold F_X0_waysOf_138
  refine x_iinc 4 dX0_waysOf_138 rfl (by decide) fun v1 => x_lv (lv' := [(4, (0, v1)), (0, (2, x0)), (1, (0, x1)), (2, (0, x2)), (3, (2, x3))]) rfl ?_
  refine x_goto 68 dX0_waysOf_141 (by decide) ?_
  exact x_sub [1, 2, 3, 4, 0] rfl (hK68 x0 x1 x2 x3 v1 h)
noncomputable def F_X0_waysOf_86 (K68 : Int → Int → Int → Int → Int → XH → Option XR) : Nat → Int → Int → Int → Int → Int → Int → XH → Option XR
  | 0, _, _, _, _, _, _, _ => none
  | n + 1, x0, x1, x2, x3, x4, x5, h => if x5 < 0 then (F_X0_waysOf_138 K68 x0 x1 x2 x3 x4 h) else (ai h x3 6 x5 <| ob h (xv h x3 x5) 23 <| mb (F_X25_times (xv h x3 x5) (w32 (x1 - x2)) h) fun r1 h2 => if x5 ≤ 0 then (F_X0_waysOf_132 K68 (F_X0_waysOf_86 K68 n) x0 x1 x2 x3 x4 x5 h2) else (ai h2 x3 6 x5 <| nw h2 23 1 fun r3 h4 => ai h4 x3 6 (w32 (x5 - 1)) <| pz r3 <| mb (F_X25_init_2 r3 (xv h4 x3 (w32 (x5 - 1))) h4) fun r5 h6 => ob h6 r3 23 <| mb (F_X25_times r3 x2 h6) fun r7 h8 => ob h8 (xv h2 x3 x5) 23 <| mb (F_X25_plus (xv h2 x3 x5) r7 h8) fun r9 h10 => F_X0_waysOf_132 K68 (F_X0_waysOf_86 K68 n) x0 x1 x2 x3 x4 x5 h10))
theorem WF_X0_waysOf_86 {d : Nat} {Z : XZ XR} (hdd : 3 ≤ d) {K68 : Int → Int → Int → Int → Int → XH → Option XR} (hK68 : ∀ x0 x1 x2 x3 x4 h, XG xfh (xQ 3) RX0 "waysOf" cX0_waysOf 6 (some (.array (.object "ExamSlips$Huge"))) d Z 68 [(0, (2, x0)), (1, (0, x1)), (2, (0, x2)), (3, (2, x3)), (4, (0, x4))] [] h (K68 x0 x1 x2 x3 x4 h)) : ∀ n x0 x1 x2 x3 x4 x5 h, XG xfh (xQ 3) RX0 "waysOf" cX0_waysOf 6 (some (.array (.object "ExamSlips$Huge"))) d Z 86 [(0, (2, x0)), (1, (0, x1)), (2, (0, x2)), (3, (2, x3)), (4, (0, x4)), (5, (0, x5))] [] h (F_X0_waysOf_86 K68 n x0 x1 x2 x3 x4 x5 h) := by
  intro n
  induction n with
  | zero => intro x0 x1 x2 x3 x4 x5 h; exact x_none
  | succ n ih =>
    intro x0 x1 x2 x3 x4 x5 h
    rw [F_X0_waysOf_86]
    refine x_iload 5 dX0_waysOf_86 rfl ?_
    refine x_if_lt 138 dX0_waysOf_88 (by decide) (fun _ => ?_) (fun _ => ?_)
    · exact x_sub [0, 1, 2, 3, 4] rfl (WF_X0_waysOf_138 hdd hK68 x0 x1 x2 x3 x4 h)
    · refine x_aload_n 3 dX0_waysOf_91 rfl rfl ?_
      refine x_iload 5 dX0_waysOf_92 rfl ?_
      refine x_aald 6 _ (by decide) (by decide) rfl dX0_waysOf_94 ?_
      refine x_iload_n 1 dX0_waysOf_95 rfl rfl ?_
      refine x_iload_n 2 dX0_waysOf_96 rfl rfl ?_
      refine x_isub dX0_waysOf_97 ?_
      refine cl_X0_386 (by omega) (Nat.le_of_ble_eq_true rfl) dX0_waysOf_98 fun r1 h2 => ?_
      refine x_pop dX0_waysOf_101 rfl ?_
      refine x_iload 5 dX0_waysOf_102 rfl ?_
      refine x_if_le 132 dX0_waysOf_104 (by decide) (fun _ => ?_) (fun _ => ?_)
      · exact x_sub [0, 1, 2, 3, 4, 5] rfl (WF_X0_waysOf_132 hdd hK68 ih x0 x1 x2 x3 x4 x5 h2)
      · refine x_aload_n 3 dX0_waysOf_107 rfl rfl ?_
        refine x_iload 5 dX0_waysOf_108 rfl ?_
        refine x_aald 6 _ (by decide) (by decide) rfl dX0_waysOf_110 ?_
        refine xn_X0_382 dX0_waysOf_111 fun r3 h4 => ?_
        refine x_dup dX0_waysOf_114 rfl ?_
        refine x_aload_n 3 dX0_waysOf_115 rfl rfl ?_
        refine x_iload 5 dX0_waysOf_116 rfl ?_
        refine x_ic dX0_waysOf_118 (by decide) (by decide) ?_
        refine x_isub dX0_waysOf_119 ?_
        refine x_aald 6 _ (by decide) (by decide) rfl dX0_waysOf_120 ?_
        refine cl_X0_390 (by omega) (Nat.le_of_ble_eq_true rfl) dX0_waysOf_121 fun r5 h6 => ?_
        refine x_iload_n 2 dX0_waysOf_124 rfl rfl ?_
        refine cl_X0_386 (by omega) (Nat.le_of_ble_eq_true rfl) dX0_waysOf_125 fun r7 h8 => ?_
        refine cl_X0_393 (by omega) (Nat.le_of_ble_eq_true rfl) dX0_waysOf_128 fun r9 h10 => ?_
        refine x_pop dX0_waysOf_131 rfl ?_
        exact x_sub [0, 1, 2, 3, 4, 5] rfl (WF_X0_waysOf_132 hdd hK68 ih x0 x1 x2 x3 x4 x5 h10)
noncomputable def F_X0_waysOf_68 : Nat → Int → Int → Int → Int → Int → XH → Option XR
  | 0, _, _, _, _, _, _ => none
  | n + 1, x0, x1, x2, x3, x4, h => ob h x0 1 <| ob h (xv h x0 0) 2 <| if xv h (xv h x0 0) 6 ≤ x4 then (some (x3, h)) else (nm (α := Int) (w32 (x4 + 1)) fun v1 => F_X0_waysOf_86 (F_X0_waysOf_68 n) FU x0 x1 x2 x3 x4 v1 h)
theorem WF_X0_waysOf_68 {d : Nat} {Z : XZ XR} (hdd : 3 ≤ d) : ∀ n x0 x1 x2 x3 x4 h, XG xfh (xQ 3) RX0 "waysOf" cX0_waysOf 6 (some (.array (.object "ExamSlips$Huge"))) d Z 68 [(0, (2, x0)), (1, (0, x1)), (2, (0, x2)), (3, (2, x3)), (4, (0, x4))] [] h (F_X0_waysOf_68 n x0 x1 x2 x3 x4 h) := by
  intro n
  induction n with
  | zero => intro x0 x1 x2 x3 x4 h; exact x_none
  | succ n ih =>
    intro x0 x1 x2 x3 x4 h
    rw [F_X0_waysOf_68]
    refine x_iload 4 dX0_waysOf_68 rfl ?_
    refine x_aload_n 0 dX0_waysOf_70 rfl rfl ?_
    refine xg_X0_17 dX0_waysOf_71 ?_
    refine xg_X0_361 dX0_waysOf_74 ?_
    refine x_icmp_ge 144 dX0_waysOf_77 (by decide) (fun _ => ?_) (fun _ => ?_)
    · refine x_aload_n 3 dX0_waysOf_144 rfl rfl ?_
      exact x_aret rfl (Or.inr ⟨_, rfl⟩) dX0_waysOf_145
    · refine x_iload 4 dX0_waysOf_80 rfl ?_
      refine x_ic dX0_waysOf_82 (by decide) (by decide) ?_
      refine x_iadd dX0_waysOf_83 ?_
      refine x_nmT fun v1 => ?_
      refine x_istore (lv' := [(5, (0, v1)), (0, (2, x0)), (1, (0, x1)), (2, (0, x2)), (3, (2, x3)), (4, (0, x4))]) dX0_waysOf_84 (by decide) rfl ?_
      exact x_sub [1, 2, 3, 4, 5, 0] rfl (WF_X0_waysOf_86 hdd ih FU x0 x1 x2 x3 x4 v1 h)
noncomputable def F_X0_waysOf_65 (x0 : Int) (x1 : Int) (x2 : Int) (x3 : Int) (h : XH) : Option XR := F_X0_waysOf_68 FU x0 x1 x2 x3 0 h
theorem WF_X0_waysOf_65 {d : Nat} {Z : XZ XR} (hdd : 3 ≤ d) : ∀ x0 x1 x2 x3 h, XG xfh (xQ 3) RX0 "waysOf" cX0_waysOf 6 (some (.array (.object "ExamSlips$Huge"))) d Z 65 [(0, (2, x0)), (1, (0, x1)), (2, (0, x2)), (3, (2, x3))] [] h (F_X0_waysOf_65 x0 x1 x2 x3 h) := by
  intro x0 x1 x2 x3 h
  unfold F_X0_waysOf_65
  refine x_ic dX0_waysOf_65 (by decide) (by decide) ?_
  refine x_istore (lv' := [(4, (0, 0)), (0, (2, x0)), (1, (0, x1)), (2, (0, x2)), (3, (2, x3))]) dX0_waysOf_66 (by decide) rfl ?_
  exact x_sub [1, 2, 3, 4, 0] rfl (WF_X0_waysOf_68 hdd FU x0 x1 x2 x3 0 h)
noncomputable def F_X0_waysOf_31 : Nat → Int → Int → Int → Int → Int → XH → Option XR
  | 0, _, _, _, _, _, _ => none
  | n + 1, x0, x1, x2, x3, x4, h => al h x3 6 <| if (xl h x3 : Int) ≤ x4 then (F_X0_waysOf_65 x0 x1 x2 x3 h) else (nw h 23 1 fun r1 h2 => nm (α := Int) (if x4 = 0 then 1 else 0) fun v3 => pz r1 <| mb (F_X25_init r1 v3 h2) fun r4 h5 => ai h5 x3 6 x4 <| qst h5 r1 23 <| nm (hset h5 x3 x4 r1) fun h6 => nm (w32 (x4 + 1)) fun v7 => F_X0_waysOf_31 n x0 x1 x2 x3 v7 h6)
theorem WF_X0_waysOf_31 {d : Nat} {Z : XZ XR} (hdd : 3 ≤ d) : ∀ n x0 x1 x2 x3 x4 h, XG xfh (xQ 3) RX0 "waysOf" cX0_waysOf 6 (some (.array (.object "ExamSlips$Huge"))) d Z 31 [(0, (2, x0)), (1, (0, x1)), (2, (0, x2)), (3, (2, x3)), (4, (0, x4))] [] h (F_X0_waysOf_31 n x0 x1 x2 x3 x4 h) := by
  intro n
  induction n with
  | zero => intro x0 x1 x2 x3 x4 h; exact x_none
  | succ n ih =>
    intro x0 x1 x2 x3 x4 h
    rw [F_X0_waysOf_31]
    refine x_iload 4 dX0_waysOf_31 rfl ?_
    refine x_aload_n 3 dX0_waysOf_33 rfl rfl ?_
    refine x_alen 6 (by decide) dX0_waysOf_34 ?_
    refine x_icmp_ge 65 dX0_waysOf_35 (by decide) (fun _ => ?_) (fun _ => ?_)
    · exact x_sub [0, 1, 2, 3] rfl (WF_X0_waysOf_65 hdd x0 x1 x2 x3 h)
    · refine x_aload_n 3 dX0_waysOf_38 rfl rfl ?_
      refine x_iload 4 dX0_waysOf_39 rfl ?_
      refine xn_X0_382 dX0_waysOf_41 fun r1 h2 => ?_
      refine x_dup dX0_waysOf_44 rfl ?_
      refine x_iload 4 dX0_waysOf_45 rfl ?_
      refine x_join 55 (fun v3 => [(0, v3), (2, r1), (2, r1), (0, x4), (2, x3)]) (fun v3 => ?_) (fun hJ => ?_)
      · refine cl_X0_384 (by omega) (Nat.le_of_ble_eq_true rfl) dX0_waysOf_55 fun r4 h5 => ?_
        refine x_aast 6 23 (by decide) (by decide) rfl rfl (by decide) (Or.inl rfl) dX0_waysOf_58 fun h6 => ?_
        refine x_iinc 4 dX0_waysOf_59 rfl (by decide) fun v7 => x_lv (lv' := [(4, (0, v7)), (0, (2, x0)), (1, (0, x1)), (2, (0, x2)), (3, (2, x3))]) rfl ?_
        refine x_goto 31 dX0_waysOf_62 (by decide) ?_
        exact x_sub [1, 2, 3, 4, 0] rfl (ih x0 x1 x2 x3 v7 h6)
      · refine x_if_neF 54 dX0_waysOf_47 (by decide) (fun _ => ?_) (fun _ => ?_)
        · refine x_ic dX0_waysOf_54 (by decide) (by decide) ?_
          exact hJ _
        · refine x_ic dX0_waysOf_50 (by decide) (by decide) ?_
          refine x_goto 55 dX0_waysOf_51 (by decide) ?_
          exact hJ _
noncomputable def F_X0_waysOf (x0 : Int) (h : XH) : Option XR := ob h x0 1 <| mb (F_X0_many x0 h) fun r1 h2 => ob h2 x0 1 <| ob h2 (xv h2 x0 0) 2 <| ai h2 (xv h2 (xv h2 x0 0) 3) 0 0 <| nm (α := Int) (xv h2 (xv h2 (xv h2 x0 0) 3) 0) fun v3 => ob h2 x0 1 <| ob h2 (xv h2 x0 0) 2 <| na h2 6 (w32 ((xv h2 (xv h2 x0 0) 6) + 1)) fun r4 h5 => F_X0_waysOf_31 FU x0 r1 v3 r4 0 h5
theorem WF_X0_waysOf {d : Nat} {Z : XZ XR} (hdd : 3 ≤ d) : ∀ x0 h, XG xfh (xQ 3) RX0 "waysOf" cX0_waysOf 6 (some (.array (.object "ExamSlips$Huge"))) d Z 0 [(0, (2, x0))] [] h (F_X0_waysOf x0 h) := by
  intro x0 h
  unfold F_X0_waysOf
  refine x_aload_n 0 dX0_waysOf_0 rfl rfl ?_
  refine cl_X0_13 (by omega) (Nat.le_of_ble_eq_true rfl) dX0_waysOf_1 fun r1 h2 => ?_
  refine x_istore_n (lv' := [(1, (0, r1)), (0, (2, x0))]) dX0_waysOf_4 rfl (by decide) rfl ?_
  refine x_aload_n 1 dX0_waysOf_5 rfl rfl ?_
  refine xg_X0_17 dX0_waysOf_6 ?_
  refine xg_X0_174 dX0_waysOf_9 ?_
  refine x_ic dX0_waysOf_12 (by decide) (by decide) ?_
  refine x_iald dX0_waysOf_13 ?_
  refine x_nmT fun v3 => ?_
  refine x_istore_n (lv' := [(2, (0, v3)), (1, (0, r1)), (0, (2, x0))]) dX0_waysOf_14 rfl (by decide) rfl ?_
  refine x_aload_n 2 dX0_waysOf_15 rfl rfl ?_
  refine xg_X0_17 dX0_waysOf_16 ?_
  refine xg_X0_361 dX0_waysOf_19 ?_
  refine x_ic dX0_waysOf_22 (by decide) (by decide) ?_
  refine x_iadd dX0_waysOf_23 ?_
  refine x_newq 6 (by decide) (by decide) rfl q1513 q1514 dX0_waysOf_24 fun r4 h5 => ?_
  refine x_astore_n (lv' := [(3, (2, r4)), (2, (0, v3)), (1, (0, r1)), (0, (2, x0))]) dX0_waysOf_27 rfl (by decide) rfl ?_
  refine x_ic dX0_waysOf_28 (by decide) (by decide) ?_
  refine x_istore (lv' := [(4, (0, 0)), (3, (2, r4)), (2, (0, v3)), (1, (0, r1)), (0, (2, x0))]) dX0_waysOf_29 (by decide) rfl ?_
  exact x_sub [4, 3, 2, 1, 0] rfl (WF_X0_waysOf_31 hdd FU x0 r1 v3 r4 0 h5)
theorem SF_X0_waysOf (l : Launch) {d : Nat} (hdd : 3 ≤ d) (x0 : Int) (h : XH) (hok : okH h) (ho : okXs (xn h) [(2, x0)]) (fin : XR) (hf : F_X0_waysOf x0 h = some fin) : xSpec l yX0_waysOf cX0_waysOf 6 (some (.array (.object "ExamSlips$Huge"))) d 3 [(2, x0)] h fin := x_enter (lv := [(0, (2, x0))]) (by decide) rfl rfl (Nat.le_of_ble_eq_true rfl) rfl (fun Z _ => WF_X0_waysOf hdd x0 h) hok ho fin hf
