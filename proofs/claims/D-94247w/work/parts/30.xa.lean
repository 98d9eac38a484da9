/-! printed by tools/genx.py: the system's methods as pure functions over named cells, and their walks -/
set_option maxRecDepth 100000
set_option maxHeartbeats 4000000
noncomputable def F_X0_in (x0 : Int) (x2 : Int) (x4 : Int) (h : XH) : Option XR := nm (α := Int) (if x0 < x2 then 0 else (if x4 < x0 then 0 else 1)) fun v1 => cb v1 (some (v1, h))
theorem WF_X0_in {d : Nat} {Z : XZ XR} (hdd : 1 ≤ d) : ∀ x0 x2 x4 h, XG xfh (xQ 0) RX0 "in" cX0_in 6 (some .boolean) d Z 0 [(0, (1, x0)), (2, (1, x2)), (4, (1, x4))] [] h (F_X0_in x0 x2 x4 h) := by
  intro x0 x2 x4 h
  unfold F_X0_in
  refine x_lload_n 0 dX0_in_0 rfl rfl ?_
  refine x_lload_n 1 dX0_in_1 rfl rfl ?_
  refine x_join 18 (fun v1 => [(0, v1)]) (fun v1 => ?_) (fun hJ => ?_)
  · exact x_zret rfl dX0_in_18
  · refine x_lcmp_ltF 17 dX0_in_2 dX0_in_3 (by decide) (fun _ => ?_) (fun _ => ?_)
    · refine x_ic dX0_in_17 (by decide) (by decide) ?_
      exact hJ _
    · refine x_lload_n 0 dX0_in_6 rfl rfl ?_
      refine x_lload 2 dX0_in_7 rfl ?_
      refine x_lcmp_gtF 17 dX0_in_9 dX0_in_10 (by decide) (fun _ => ?_) (fun _ => ?_)
      · refine x_ic dX0_in_17 (by decide) (by decide) ?_
        exact hJ _
      · refine x_ic dX0_in_13 (by decide) (by decide) ?_
        refine x_goto 18 dX0_in_14 (by decide) ?_
        exact hJ _
theorem SF_X0_in (l : Launch) {d : Nat} (hdd : 1 ≤ d) (x0 : Int) (x2 : Int) (x4 : Int) (h : XH) (hok : okH h) (ho : okXs (xn h) [(1, x0), (1, x2), (1, x4)]) (fin : XR) (hf : F_X0_in x0 x2 x4 h = some fin) : xSpec l yX0_in cX0_in 6 (some .boolean) d 0 [(1, x0), (1, x2), (1, x4)] h fin := x_enter (lv := [(0, (1, x0)), (2, (1, x2)), (4, (1, x4))]) (by decide) rfl rfl (Nat.le_of_ble_eq_true rfl) rfl (fun Z _ => WF_X0_in hdd x0 x2 x4 h) hok ho fin hf
noncomputable def F_X0_common_6 : Nat → Int → Int → XH → Option XR
  | 0, _, _, _ => none
  | n + 1, x4, x6, h => if x6 = 0 then (some (x4, h)) else (cz x6 <| nm (α := Int) (x4.tmod x6) fun v1 => F_X0_common_6 n x6 v1 h)
theorem WF_X0_common_6 {d : Nat} {Z : XZ XR} (hdd : 1 ≤ d) : ∀ n x4 x6 h, XG xfh (xQ 1) RX0 "common" cX0_common 10 (some .long) d Z 6 [(4, (1, x4)), (6, (1, x6))] [] h (F_X0_common_6 n x4 x6 h) := by
  intro n
  induction n with
  | zero => intro x4 x6 h; exact x_none
  | succ n ih =>
    intro x4 x6 h
    rw [F_X0_common_6]
    refine x_lload 1 dX0_common_6 rfl ?_
    refine x_l0 dX0_common_8 ?_
    refine x_lcmp_eq 31 dX0_common_9 dX0_common_10 (by decide) (fun _ => ?_) (fun _ => ?_)
    · refine x_lload 0 dX0_common_31 rfl ?_
      exact x_lret rfl dX0_common_33
    · refine x_lload 0 dX0_common_13 rfl ?_
      refine x_lload 1 dX0_common_15 rfl ?_
      refine x_lrem dX0_common_17 ?_
      refine x_nmT fun v1 => ?_
      refine x_lstore (lv' := [(8, (1, v1)), (4, (1, x4)), (6, (1, x6))]) dX0_common_18 (by decide) rfl ?_
      refine x_lload 2 dX0_common_20 rfl ?_
      refine x_lstore (lv' := [(4, (1, x6)), (8, (1, v1)), (6, (1, x6))]) dX0_common_22 (by decide) rfl ?_
      refine x_lload 1 dX0_common_24 rfl ?_
      refine x_lstore (lv' := [(6, (1, v1)), (4, (1, x6)), (8, (1, v1))]) dX0_common_26 (by decide) rfl ?_
      refine x_goto 6 dX0_common_28 (by decide) ?_
      exact x_sub [1, 0] rfl (ih x6 v1 h)
noncomputable def F_X0_common (x0 : Int) (x2 : Int) (h : XH) : Option XR := F_X0_common_6 FU x0 x2 h
theorem WF_X0_common {d : Nat} {Z : XZ XR} (hdd : 1 ≤ d) : ∀ x0 x2 h, XG xfh (xQ 1) RX0 "common" cX0_common 10 (some .long) d Z 0 [(0, (1, x0)), (2, (1, x2))] [] h (F_X0_common x0 x2 h) := by
  intro x0 x2 h
  unfold F_X0_common
  refine x_lload_n 0 dX0_common_0 rfl rfl ?_
  refine x_lstore (lv' := [(4, (1, x0)), (0, (1, x0)), (2, (1, x2))]) dX0_common_1 (by decide) rfl ?_
  refine x_lload_n 2 dX0_common_3 rfl rfl ?_
  refine x_lstore (lv' := [(6, (1, x2)), (4, (1, x0)), (0, (1, x0)), (2, (1, x2))]) dX0_common_4 (by decide) rfl ?_
  exact x_sub [1, 0] rfl (WF_X0_common_6 hdd FU x0 x2 h)
theorem SF_X0_common (l : Launch) {d : Nat} (hdd : 1 ≤ d) (x0 : Int) (x2 : Int) (h : XH) (hok : okH h) (ho : okXs (xn h) [(1, x0), (1, x2)]) (fin : XR) (hf : F_X0_common x0 x2 h = some fin) : xSpec l yX0_common cX0_common 10 (some .long) d 1 [(1, x0), (1, x2)] h fin := x_enter (lv := [(0, (1, x0)), (2, (1, x2))]) (by decide) rfl rfl (Nat.le_of_ble_eq_true rfl) rfl (fun Z _ => WF_X0_common hdd x0 x2 h) hok ho fin hf
noncomputable def F_X0_over_16 : Nat → Int → Int → Int → Int → XH → Option XR
  | 0, _, _, _, _, _ => none
  | n + 1, x0, x1, x2, x4, h => if x1 < x4 then (some (x2, h)) else (cz x4 <| nm (α := Int) (w64 ((w64 (x2 * (w32 ((w32 (x0 - x1)) + x4)))).tdiv x4)) fun v1 => nm (w32 (x4 + 1)) fun v2 => F_X0_over_16 n x0 x1 v1 v2 h)
theorem WF_X0_over_16 {d : Nat} {Z : XZ XR} (hdd : 1 ≤ d) : ∀ n x0 x1 x2 x4 h, XG xfh (xQ 1) RX0 "over" cX0_over 5 (some .long) d Z 16 [(0, (0, x0)), (1, (0, x1)), (2, (1, x2)), (4, (0, x4))] [] h (F_X0_over_16 n x0 x1 x2 x4 h) := by
  intro n
  induction n with
  | zero => intro x0 x1 x2 x4 h; exact x_none
  | succ n ih =>
    intro x0 x1 x2 x4 h
    rw [F_X0_over_16]
    refine x_iload 3 dX0_over_16 rfl ?_
    refine x_iload_n 1 dX0_over_18 rfl rfl ?_
    refine x_icmp_gt 42 dX0_over_19 (by decide) (fun _ => ?_) (fun _ => ?_)
    · refine x_lload_n 2 dX0_over_42 rfl rfl ?_
      exact x_lret rfl dX0_over_43
    · refine x_lload_n 2 dX0_over_22 rfl rfl ?_
      refine x_iload_n 0 dX0_over_23 rfl rfl ?_
      refine x_iload_n 1 dX0_over_24 rfl rfl ?_
      refine x_isub dX0_over_25 ?_
      refine x_iload 3 dX0_over_26 rfl ?_
      refine x_iadd dX0_over_28 ?_
      refine x_i2l dX0_over_29 ?_
      refine x_lmul dX0_over_30 ?_
      refine x_iload 3 dX0_over_31 rfl ?_
      refine x_i2l dX0_over_33 ?_
      refine x_ldiv dX0_over_34 ?_
      refine x_nmT fun v1 => ?_
      refine x_lstore_n (lv' := [(2, (1, v1)), (0, (0, x0)), (1, (0, x1)), (4, (0, x4))]) dX0_over_35 rfl (by decide) rfl ?_
      refine x_iinc 3 dX0_over_36 rfl (by decide) fun v2 => x_lv (lv' := [(4, (0, v2)), (2, (1, v1)), (0, (0, x0)), (1, (0, x1))]) rfl ?_
      refine x_goto 16 dX0_over_39 (by decide) ?_
      exact x_sub [2, 3, 1, 0] rfl (ih x0 x1 v1 v2 h)
noncomputable def F_X0_over (x0 : Int) (x1 : Int) (h : XH) : Option XR := if x1 < 0 then (some (0, h)) else (if x1 ≤ x0 then (F_X0_over_16 FU x0 x1 1 1 h) else (some (0, h)))
theorem WF_X0_over {d : Nat} {Z : XZ XR} (hdd : 1 ≤ d) : ∀ x0 x1 h, XG xfh (xQ 1) RX0 "over" cX0_over 5 (some .long) d Z 0 [(0, (0, x0)), (1, (0, x1))] [] h (F_X0_over x0 x1 h) := by
  intro x0 x1 h
  unfold F_X0_over
  refine x_iload_n 1 dX0_over_0 rfl rfl ?_
  refine x_if_lt 9 dX0_over_1 (by decide) (fun _ => ?_) (fun _ => ?_)
  · refine x_l0 dX0_over_9 ?_
    exact x_lret rfl dX0_over_10
  · refine x_iload_n 1 dX0_over_4 rfl rfl ?_
    refine x_iload_n 0 dX0_over_5 rfl rfl ?_
    refine x_icmp_le 11 dX0_over_6 (by decide) (fun _ => ?_) (fun _ => ?_)
    · refine x_l1 dX0_over_11 ?_
      refine x_lstore_n (lv' := [(2, (1, 1)), (0, (0, x0)), (1, (0, x1))]) dX0_over_12 rfl (by decide) rfl ?_
      refine x_ic dX0_over_13 (by decide) (by decide) ?_
      refine x_istore (lv' := [(4, (0, 1)), (2, (1, 1)), (0, (0, x0)), (1, (0, x1))]) dX0_over_14 (by decide) rfl ?_
      exact x_sub [2, 3, 1, 0] rfl (WF_X0_over_16 hdd FU x0 x1 1 1 h)
    · refine x_l0 dX0_over_9 ?_
      exact x_lret rfl dX0_over_10
theorem SF_X0_over (l : Launch) {d : Nat} (hdd : 1 ≤ d) (x0 : Int) (x1 : Int) (h : XH) (hok : okH h) (ho : okXs (xn h) [(0, x0), (0, x1)]) (fin : XR) (hf : F_X0_over x0 x1 h = some fin) : xSpec l yX0_over cX0_over 5 (some .long) d 1 [(0, x0), (0, x1)] h fin := x_enter (lv := [(0, (0, x0)), (1, (0, x1))]) (by decide) rfl rfl (Nat.le_of_ble_eq_true rfl) rfl (fun Z _ => WF_X0_over hdd x0 x1 h) hok ho fin hf
theorem xg_X2_7 {ρ : Type} {fh : ρ → XH} {QQ : XZ ρ → State → Prop} {mn : String} {cc : ByteArray} {nL : Nat} {ret : Option FieldType} {d : Nat} {Z : XZ ρ} {pc : Nat} {lv : List (Nat × AV)} {st : List AV} {h : XH} {res : Option ρ} {a : Int} (hd : decode cc pc = .ok (.getfield 7, 3)) (kk : XG fh QQ RX2 mn cc nL ret d Z (pc + 3) lv ((2, xv h a 0) :: st) h res) : XG fh QQ RX2 mn cc nL ret d Z pc lv ((2, a) :: st) h (ob h a 3 res) := x_get (C := RX2) (ref := RX2) 3 0 rfl in_X2 (by decide) rfl (by decide) (Or.inl rfl) q260 hd kk
noncomputable def F_X2_clear_2 : Nat → Int → Int → XH → Option XR
  | 0, _, _, _ => none
  | n + 1, x0, x1, h => if 7 ≤ x1 then (some (x0, h)) else (ob h x0 3 <| ai h (xv h x0 0) 1 x1 <| nm (hset h (xv h x0 0) x1 0) fun h1 => nm (w32 (x1 + 1)) fun v2 => F_X2_clear_2 n x0 v2 h1)
theorem WF_X2_clear_2 {d : Nat} {Z : XZ XR} (hdd : 1 ≤ d) : ∀ n x0 x1 h, XG xfh (xQ 3) RX2 "clear" cX2_clear 2 (some (.object "ExamSlips$Asked")) d Z 2 [(0, (2, x0)), (1, (0, x1))] [] h (F_X2_clear_2 n x0 x1 h) := by
  intro n
  induction n with
  | zero => intro x0 x1 h; exact x_none
  | succ n ih =>
    intro x0 x1 h
    rw [F_X2_clear_2]
    refine x_iload_n 1 dX2_clear_2 rfl rfl ?_
    refine x_bp dX2_clear_3 (by decide) (by decide) ?_
    refine x_icmp_ge 21 dX2_clear_5 (by decide) (fun _ => ?_) (fun _ => ?_)
    · refine x_aload_n 0 dX2_clear_21 rfl rfl ?_
      exact x_aret rfl (Or.inl ⟨_, rfl⟩) dX2_clear_22
    · refine x_aload_n 0 dX2_clear_8 rfl rfl ?_
      refine xg_X2_7 dX2_clear_9 ?_
      refine x_iload_n 1 dX2_clear_12 rfl rfl ?_
      refine x_l0 dX2_clear_13 ?_
      refine x_last dX2_clear_14 fun h1 => ?_
      refine x_iinc 1 dX2_clear_15 rfl (by decide) fun v2 => x_lv (lv' := [(1, (0, v2)), (0, (2, x0))]) rfl ?_
      refine x_goto 2 dX2_clear_18 (by decide) ?_
      exact x_sub [1, 0] rfl (ih x0 v2 h1)
noncomputable def F_X2_clear (x0 : Int) (h : XH) : Option XR := F_X2_clear_2 FU x0 0 h
theorem WF_X2_clear {d : Nat} {Z : XZ XR} (hdd : 1 ≤ d) : ∀ x0 h, XG xfh (xQ 3) RX2 "clear" cX2_clear 2 (some (.object "ExamSlips$Asked")) d Z 0 [(0, (2, x0))] [] h (F_X2_clear x0 h) := by
  intro x0 h
  unfold F_X2_clear
  refine x_ic dX2_clear_0 (by decide) (by decide) ?_
  refine x_istore_n (lv' := [(1, (0, 0)), (0, (2, x0))]) dX2_clear_1 rfl (by decide) rfl ?_
  exact x_sub [1, 0] rfl (WF_X2_clear_2 hdd FU x0 0 h)
theorem SF_X2_clear (l : Launch) {d : Nat} (hdd : 1 ≤ d) (x0 : Int) (h : XH) (hok : okH h) (ho : okXs (xn h) [(2, x0)]) (fin : XR) (hf : F_X2_clear x0 h = some fin) : xSpec l yX2_clear cX2_clear 2 (some (.object "ExamSlips$Asked")) d 3 [(2, x0)] h fin := x_enter (lv := [(0, (2, x0))]) (by decide) rfl rfl (Nat.le_of_ble_eq_true rfl) rfl (fun Z _ => WF_X2_clear hdd x0 h) hok ho fin hf
theorem xg_X2_13 {ρ : Type} {fh : ρ → XH} {QQ : XZ ρ → State → Prop} {mn : String} {cc : ByteArray} {nL : Nat} {ret : Option FieldType} {d : Nat} {Z : XZ ρ} {pc : Nat} {lv : List (Nat × AV)} {st : List AV} {h : XH} {res : Option ρ} {a : Int} (hd : decode cc pc = .ok (.getfield 13, 3)) (kk : XG fh QQ RX2 mn cc nL ret d Z (pc + 3) lv ((0, xv h a 1) :: st) h res) : XG fh QQ RX2 mn cc nL ret d Z pc lv ((2, a) :: st) h (ob h a 3 res) := x_get (C := RX2) (ref := RX2) 3 1 rfl in_X2 (by decide) rfl (by decide) (Or.inl rfl) q269 hd kk
theorem xp_X2_13 {ρ : Type} {fh : ρ → XH} {QQ : XZ ρ → State → Prop} {mn : String} {cc : ByteArray} {nL : Nat} {ret : Option FieldType} {d : Nat} {Z : XZ ρ} {pc : Nat} {lv : List (Nat × AV)} {st : List AV} {h : XH} {f : XH → Option ρ} {a x : Int} (hd : decode cc pc = .ok (.putfield 13, 3)) (kk : ∀ h1, XG fh QQ RX2 mn cc nL ret d Z (pc + 3) lv st h1 (f h1)) : XG fh QQ RX2 mn cc nL ret d Z pc lv ((0, x) :: (2, a) :: st) h (ob h a 3 (cb x (nm (hset h a 1 x) f))) := x_put (C := RX2) (ref := RX2) 3 1 rfl in_X2 tyX2_ok nmX2 (by decide) rfl (by decide) (Or.inl rfl) (by decide) (xfit_X2 1 (by decide)) 0 rfl q269 hd kk
noncomputable def F_X2_within_29 (s0 : Int) (s1 : Int) (x0 : Int) (x1 : Int) (h : XH) : Option XR := ob h s0 3 <| cb s1 <| nm (hset h s0 1 s1) fun h1 => ob h1 x0 3 <| nm (α := Int) (if xv h1 x0 1 = 0 then x1 else 0) fun v2 => some (v2, h1)
theorem WF_X2_within_29 {d : Nat} {Z : XZ XR} (hdd : 1 ≤ d) : ∀ s0 s1 x0 x1 h, XG xfh (xQ 1) RX2 "within" cX2_within 3 (some .long) d Z 29 [(0, (2, x0)), (1, (1, x1))] [(0, s1), (2, s0)] h (F_X2_within_29 s0 s1 x0 x1 h) := by
  intro s0 s1 x0 x1 h
  unfold F_X2_within_29
  refine xp_X2_13 dX2_within_29 fun h1 => ?_
  refine x_aload_n 0 dX2_within_32 rfl rfl ?_
  refine xg_X2_13 dX2_within_33 ?_
  refine x_join 44 (fun v2 => [(1, v2)]) (fun v2 => ?_) (fun hJ => ?_)
  · exact x_lret rfl dX2_within_44
  · refine x_if_eqF 43 dX2_within_36 (by decide) (fun _ => ?_) (fun _ => ?_)
    · refine x_lload_n 1 dX2_within_43 rfl rfl ?_
      exact hJ _
    · refine x_l0 dX2_within_39 ?_
      refine x_goto 44 dX2_within_40 (by decide) ?_
      exact hJ _
noncomputable def F_X2_within_24 (s0 : Int) (x0 : Int) (x1 : Int) (h : XH) : Option XR := F_X2_within_29 s0 1 x0 x1 h
theorem WF_X2_within_24 {d : Nat} {Z : XZ XR} (hdd : 1 ≤ d) : ∀ s0 x0 x1 h, XG xfh (xQ 1) RX2 "within" cX2_within 3 (some .long) d Z 24 [(0, (2, x0)), (1, (1, x1))] [(2, s0)] h (F_X2_within_24 s0 x0 x1 h) := by
  intro s0 x0 x1 h
  unfold F_X2_within_24
  refine x_ic dX2_within_24 (by decide) (by decide) ?_
  refine x_goto 29 dX2_within_25 (by decide) ?_
  exact x_sub [0, 1] rfl (WF_X2_within_29 hdd s0 1 x0 x1 h)
noncomputable def F_X2_within (x0 : Int) (x1 : Int) (h : XH) : Option XR := ob h x0 3 <| if xv h x0 1 = 0 then (if 1000000000 < x1 then (F_X2_within_24 x0 x0 x1 h) else (if (-1000000000) ≤ x1 then (F_X2_within_29 x0 0 x0 x1 h) else (F_X2_within_24 x0 x0 x1 h))) else (F_X2_within_24 x0 x0 x1 h)
theorem WF_X2_within {d : Nat} {Z : XZ XR} (hdd : 1 ≤ d) : ∀ x0 x1 h, XG xfh (xQ 1) RX2 "within" cX2_within 3 (some .long) d Z 0 [(0, (2, x0)), (1, (1, x1))] [] h (F_X2_within x0 x1 h) := by
  intro x0 x1 h
  unfold F_X2_within
  refine x_aload_n 0 dX2_within_0 rfl rfl ?_
  refine x_aload_n 0 dX2_within_1 rfl rfl ?_
  refine xg_X2_13 dX2_within_2 ?_
  refine x_if_ne 24 dX2_within_5 (by decide) (fun _ => ?_) (fun _ => ?_)
  · exact x_sub [0, 1] rfl (WF_X2_within_24 hdd x0 x0 x1 h)
  · refine x_lload_n 1 dX2_within_8 rfl rfl ?_
    refine x_ldc2 (n := 1000000000) q955 dX2_within_9 (by decide +kernel) ⟨by decide, by decide⟩ ?_
    refine x_lcmp_gt 24 dX2_within_12 dX2_within_13 (by decide) (fun _ => ?_) (fun _ => ?_)
    · exact x_sub [0, 1] rfl (WF_X2_within_24 hdd x0 x0 x1 h)
    · refine x_lload_n 1 dX2_within_16 rfl rfl ?_
      refine x_ldc2 (n := -1000000000) q956 dX2_within_17 (by decide +kernel) ⟨by decide, by decide⟩ ?_
      refine x_lcmp_ge 28 dX2_within_20 dX2_within_21 (by decide) (fun _ => ?_) (fun _ => ?_)
      · refine x_ic dX2_within_28 (by decide) (by decide) ?_
        exact x_sub [0, 1] rfl (WF_X2_within_29 hdd x0 0 x0 x1 h)
      · exact x_sub [0, 1] rfl (WF_X2_within_24 hdd x0 x0 x1 h)
theorem SF_X2_within (l : Launch) {d : Nat} (hdd : 1 ≤ d) (x0 : Int) (x1 : Int) (h : XH) (hok : okH h) (ho : okXs (xn h) [(2, x0), (1, x1)]) (fin : XR) (hf : F_X2_within x0 x1 h = some fin) : xSpec l yX2_within cX2_within 3 (some .long) d 1 [(2, x0), (1, x1)] h fin := x_enter (lv := [(0, (2, x0)), (1, (1, x1))]) (by decide) rfl rfl (Nat.le_of_ble_eq_true rfl) rfl (fun Z _ => WF_X2_within hdd x0 x1 h) hok ho fin hf
theorem cl_X11_30 {ρ : Type} {fh : ρ → XH} {QQ : XZ ρ → State → Prop} {mn : String} {cc : ByteArray} {nL : Nat} {ret : Option FieldType} {d : Nat} {Z : XZ ρ} {pc : Nat} {lv : List (Nat × AV)} {st : List AV} {h : XH} {g : Int → XH → Option ρ} {b a0 : Int} (hdd : 2 ≤ d) (hcat : (st.map fun v => if v.1 = 1 then 2 else 1).sum ≤ 8) (hdg : decode cc pc = .ok (.invokevirtual 30, 3)) (kk : ∀ r h1, XG fh QQ RX11 mn cc nL ret d Z (pc + 3) lv ((1, r) :: st) h1 (g r h1)) : XG fh QQ RX11 mn cc nL ret d Z pc lv ((1, a0) :: (2, b) :: st) h (ob h b 3 (mb (F_X2_within b a0 h) g)) :=
  x_callVl [(1, a0)] 1 (WF_X2_within (Z := (Z.1, Z.2.1, ((0, h), h))) (Nat.le_refl 1) b a0 h).1 (fun hok ho fin hf => SF_X2_within (yL Z) (Nat.le_refl 1) b a0 h hok ho fin hf) RX2 3 rfl (by decide) (lw_V q951 q952 q953 q129 q954) ⟨rfl, by decide +kernel, by decide +kernel, by decide +kernel⟩ rfl (by omega) (by decide) rfl hcat hdg kk
theorem xg_X9_7 {ρ : Type} {fh : ρ → XH} {QQ : XZ ρ → State → Prop} {mn : String} {cc : ByteArray} {nL : Nat} {ret : Option FieldType} {d : Nat} {Z : XZ ρ} {pc : Nat} {lv : List (Nat × AV)} {st : List AV} {h : XH} {res : Option ρ} {a : Int} (hd : decode cc pc = .ok (.getfield 7, 3)) (kk : XG fh QQ RX9 mn cc nL ret d Z (pc + 3) lv ((0, xv h a 0) :: st) h res) : XG fh QQ RX9 mn cc nL ret d Z pc lv ((2, a) :: st) h (ob h a 8 res) := x_get (C := RX9) (ref := RX9) 8 0 rfl in_X9 (by decide) rfl (by decide) (Or.inl rfl) q764 hd kk
theorem xg_X11_13 {ρ : Type} {fh : ρ → XH} {QQ : XZ ρ → State → Prop} {mn : String} {cc : ByteArray} {nL : Nat} {ret : Option FieldType} {d : Nat} {Z : XZ ρ} {pc : Nat} {lv : List (Nat × AV)} {st : List AV} {h : XH} {res : Option ρ} {a : Int} (hd : decode cc pc = .ok (.getfield 13, 3)) (kk : XG fh QQ RX11 mn cc nL ret d Z (pc + 3) lv ((0, xv h a 2) :: st) h res) : XG fh QQ RX11 mn cc nL ret d Z pc lv ((2, a) :: st) h (ob h a 10 res) := x_get (C := RX11) (ref := RX11) 10 2 rfl in_X11 (by decide) rfl (by decide) (Or.inl rfl) q788 hd kk
theorem xg_X11_17 {ρ : Type} {fh : ρ → XH} {QQ : XZ ρ → State → Prop} {mn : String} {cc : ByteArray} {nL : Nat} {ret : Option FieldType} {d : Nat} {Z : XZ ρ} {pc : Nat} {lv : List (Nat × AV)} {st : List AV} {h : XH} {res : Option ρ} {a : Int} (hd : decode cc pc = .ok (.getfield 17, 3)) (kk : XG fh QQ RX11 mn cc nL ret d Z (pc + 3) lv ((2, xv h a 1) :: st) h res) : XG fh QQ RX11 mn cc nL ret d Z pc lv ((2, a) :: st) h (ob h a 10 res) := x_get (C := RX11) (ref := RX11) 10 1 rfl in_X11 (by decide) rfl (by decide) (Or.inl rfl) q787 hd kk
theorem xg_X11_24 {ρ : Type} {fh : ρ → XH} {QQ : XZ ρ → State → Prop} {mn : String} {cc : ByteArray} {nL : Nat} {ret : Option FieldType} {d : Nat} {Z : XZ ρ} {pc : Nat} {lv : List (Nat × AV)} {st : List AV} {h : XH} {res : Option ρ} {a : Int} (hd : decode cc pc = .ok (.getfield 24, 3)) (kk : XG fh QQ RX11 mn cc nL ret d Z (pc + 3) lv ((0, xv h a 1) :: st) h res) : XG fh QQ RX11 mn cc nL ret d Z pc lv ((2, a) :: st) h (ob h a 3 res) := x_getN (C := RX2) (ref := RX2) 3 1 rfl in_X2 (by decide) rfl (by decide) (Or.inl rfl) q265 hd kk
theorem xp_X11_24 {ρ : Type} {fh : ρ → XH} {QQ : XZ ρ → State → Prop} {mn : String} {cc : ByteArray} {nL : Nat} {ret : Option FieldType} {d : Nat} {Z : XZ ρ} {pc : Nat} {lv : List (Nat × AV)} {st : List AV} {h : XH} {f : XH → Option ρ} {a x : Int} (hd : decode cc pc = .ok (.putfield 24, 3)) (kk : ∀ h1, XG fh QQ RX11 mn cc nL ret d Z (pc + 3) lv st h1 (f h1)) : XG fh QQ RX11 mn cc nL ret d Z pc lv ((0, x) :: (2, a) :: st) h (ob h a 3 (cb x (nm (hset h a 1 x) f))) := x_putN (C := RX2) (ref := RX2) 3 1 rfl in_X2 tyX2_ok nmX2 (by decide) rfl (by decide) (Or.inl rfl) (by decide) (xfit_X2 1 (by decide)) 0 rfl q265 hd kk
theorem xg_X11_7 {ρ : Type} {fh : ρ → XH} {QQ : XZ ρ → State → Prop} {mn : String} {cc : ByteArray} {nL : Nat} {ret : Option FieldType} {d : Nat} {Z : XZ ρ} {pc : Nat} {lv : List (Nat × AV)} {st : List AV} {h : XH} {res : Option ρ} {a : Int} (hd : decode cc pc = .ok (.getfield 7, 3)) (kk : XG fh QQ RX11 mn cc nL ret d Z (pc + 3) lv ((2, xv h a 0) :: st) h res) : XG fh QQ RX11 mn cc nL ret d Z pc lv ((2, a) :: st) h (ob h a 10 res) := x_get (C := RX11) (ref := RX11) 10 0 rfl in_X11 (by decide) rfl (by decide) (Or.inl rfl) q786 hd kk
theorem xg_X10_13 {ρ : Type} {fh : ρ → XH} {QQ : XZ ρ → State → Prop} {mn : String} {cc : ByteArray} {nL : Nat} {ret : Option FieldType} {d : Nat} {Z : XZ ρ} {pc : Nat} {lv : List (Nat × AV)} {st : List AV} {h : XH} {res : Option ρ} {a : Int} (hd : decode cc pc = .ok (.getfield 13, 3)) (kk : XG fh QQ RX10 mn cc nL ret d Z (pc + 3) lv ((2, xv h a 0) :: st) h res) : XG fh QQ RX10 mn cc nL ret d Z pc lv ((2, a) :: st) h (ob h a 3 res) := x_getN (C := RX2) (ref := RX2) 3 0 rfl in_X2 (by decide) rfl (by decide) (Or.inl rfl) q261 hd kk
theorem xg_X10_7 {ρ : Type} {fh : ρ → XH} {QQ : XZ ρ → State → Prop} {mn : String} {cc : ByteArray} {nL : Nat} {ret : Option FieldType} {d : Nat} {Z : XZ ρ} {pc : Nat} {lv : List (Nat × AV)} {st : List AV} {h : XH} {res : Option ρ} {a : Int} (hd : decode cc pc = .ok (.getfield 7, 3)) (kk : XG fh QQ RX10 mn cc nL ret d Z (pc + 3) lv ((0, xv h a 0) :: st) h res) : XG fh QQ RX10 mn cc nL ret d Z pc lv ((2, a) :: st) h (ob h a 9 res) := x_get (C := RX10) (ref := RX10) 9 0 rfl in_X10 (by decide) rfl (by decide) (Or.inl rfl) q774 hd kk
theorem crv_X11_20 {ρ : Type} {fh : ρ → XH} {QQ : XZ ρ → State → Prop} {mn : String} {cc : ByteArray} {nL : Nat} {ret : Option FieldType} {d : Nat} {Z : XZ ρ} {pc : Nat} {lv : List (Nat × AV)} {st : List AV} {h : XH} {g : Int → XH → Option ρ} {b c : Int} {dr : Nat} {R_V : Int → Int → XH → Option XR} (hRm : vMono R_V) (hR_V : ∀ (b c : Int) (h : XH), okH h → okXs (xn h) [(2, b), (2, c)] → (xk h b = 8 → ∀ fin, R_V b c h = some fin → xSpec (yL Z) yX9_of cX9_of 2 (some .long) dr 1 [(2, b), (2, c)] h fin) ∧ (xk h b = 9 → ∀ fin, R_V b c h = some fin → xSpec (yL Z) yX10_of cX10_of 2 (some .long) dr 1 [(2, b), (2, c)] h fin) ∧ (xk h b = 10 → ∀ fin, R_V b c h = some fin → xSpec (yL Z) yX11_of cX11_of 6 (some .long) dr 1 [(2, b), (2, c)] h fin) ∧ (∀ fin, R_V b c h = some fin → 1 ≤ b ∧ b ≤ (xn h : Int) ∧ (xk h b = 8 ∨ xk h b = 9 ∨ xk h b = 10))) (hdd : dr + 1 ≤ d) (hcat : (st.map fun v => if v.1 = 1 then 2 else 1).sum ≤ 8) (hdg : decode cc pc = .ok (.invokevirtual 20, 3)) (kk : ∀ r h1, XG fh QQ RX11 mn cc nL ret d Z (pc + 3) lv ((1, r) :: st) h1 (g r h1)) : XG fh QQ RX11 mn cc nL ret d Z pc lv ((2, c) :: (2, b) :: st) h (mb (R_V b c h) g) := by
  have hbb : okH h → okXs (xn h) ((2, b) :: [(2, c)]) → ∀ fin, R_V b c h = some fin → 1 ≤ b ∧ b ≤ (xn h : Int) := fun hok ho fin hf => ⟨((hR_V b c h hok ho).2.2.2 fin hf).1, ((hR_V b c h hok ho).2.2.2 fin hf).2.1⟩
  by_cases e0 : xk h b = 8
  · exact x_callAl (x := ⟨RX8, "of", "(LExamSlips$Asked;)J"⟩) [(2, c)] 1 (hRm (Z.1, Z.2.1, ((0, h), h)) b c h) (fun hok ho fin hf => (hR_V b c h hok ho).1 e0 fin hf) RX9 RX8 8 rfl (by decide) e0 hbb (lw_app (List.forall_mem_cons.mpr ⟨q948, List.forall_mem_cons.mpr ⟨q941, List.forall_mem_cons.mpr ⟨q942, List.forall_mem_cons.mpr ⟨q943, List.forall_mem_cons.mpr ⟨q147, fun _ h => absurd h List.not_mem_nil⟩⟩⟩⟩⟩) (lw_meth q944)) q940 ⟨by decide +kernel, by decide +kernel, by decide +kernel⟩ rfl hdd (by decide) rfl hcat hdg kk
  by_cases e1 : xk h b = 9
  · exact x_callAl (x := ⟨RX8, "of", "(LExamSlips$Asked;)J"⟩) [(2, c)] 1 (hRm (Z.1, Z.2.1, ((0, h), h)) b c h) (fun hok ho fin hf => (hR_V b c h hok ho).2.1 e1 fin hf) RX10 RX8 9 rfl (by decide) e1 hbb (lw_app (List.forall_mem_cons.mpr ⟨q948, List.forall_mem_cons.mpr ⟨q941, List.forall_mem_cons.mpr ⟨q957, List.forall_mem_cons.mpr ⟨q949, List.forall_mem_cons.mpr ⟨q148, fun _ h => absurd h List.not_mem_nil⟩⟩⟩⟩⟩) (lw_meth q950)) q940 ⟨by decide +kernel, by decide +kernel, by decide +kernel⟩ rfl hdd (by decide) rfl hcat hdg kk
  by_cases e2 : xk h b = 10
  · exact x_callAl (x := ⟨RX8, "of", "(LExamSlips$Asked;)J"⟩) [(2, c)] 1 (hRm (Z.1, Z.2.1, ((0, h), h)) b c h) (fun hok ho fin hf => (hR_V b c h hok ho).2.2.1 e2 fin hf) RX11 RX8 10 rfl (by decide) e2 hbb (lw_app (List.forall_mem_cons.mpr ⟨q948, List.forall_mem_cons.mpr ⟨q941, List.forall_mem_cons.mpr ⟨q945, List.forall_mem_cons.mpr ⟨q946, List.forall_mem_cons.mpr ⟨q149, fun _ h => absurd h List.not_mem_nil⟩⟩⟩⟩⟩) (lw_meth q947)) q940 ⟨by decide +kernel, by decide +kernel, by decide +kernel⟩ rfl hdd (by decide) rfl hcat hdg kk
  exact x_noV (push := fun r => (1, r) :: st) [(2, c), (2, b)] (hRm (Z.1, Z.2.1, ((0, h), h)) b c h) (fun hok ho fin hf => by
    have ho : okXs (xn h) [(2, b), (2, c)] := okXs.c ho.t.hd (okXs.c ho.hd okXs.nil)
    rcases ((hR_V b c h hok ho).2.2.2 fin hf).2.2 with e | e | e <;> contradiction) rfl kk
noncomputable def F_X9_of (x0 : Int) (x1 : Int) (h : XH) : Option XR := ob h x0 8 <| some (xv h x0 0, h)
theorem WF_X9_of {d : Nat} {Z : XZ XR} (hdd : 1 ≤ d) : ∀ x0 x1 h, XG xfh (xQ 1) RX9 "of" cX9_of 2 (some .long) d Z 0 [(0, (2, x0)), (1, (2, x1))] [] h (F_X9_of x0 x1 h) := by
  intro x0 x1 h
  unfold F_X9_of
  refine x_aload_n 0 dX9_of_0 rfl rfl ?_
  refine xg_X9_7 dX9_of_1 ?_
  refine x_i2l dX9_of_4 ?_
  exact x_lret rfl dX9_of_5
theorem SF_X9_of (l : Launch) {d : Nat} (hdd : 1 ≤ d) (x0 : Int) (x1 : Int) (h : XH) (hok : okH h) (ho : okXs (xn h) [(2, x0), (2, x1)]) (fin : XR) (hf : F_X9_of x0 x1 h = some fin) : xSpec l yX9_of cX9_of 2 (some .long) d 1 [(2, x0), (2, x1)] h fin := x_enter (lv := [(0, (2, x0)), (1, (2, x1))]) (by decide) rfl rfl (Nat.le_of_ble_eq_true rfl) rfl (fun Z _ => WF_X9_of hdd x0 x1 h) hok ho fin hf
noncomputable def F_X10_of (x0 : Int) (x1 : Int) (h : XH) : Option XR := ob h x1 3 <| ob h x0 9 <| ai h (xv h x1 0) 1 (xv h x0 0) <| some (xv h (xv h x1 0) (xv h x0 0), h)
theorem WF_X10_of {d : Nat} {Z : XZ XR} (hdd : 1 ≤ d) : ∀ x0 x1 h, XG xfh (xQ 1) RX10 "of" cX10_of 2 (some .long) d Z 0 [(0, (2, x0)), (1, (2, x1))] [] h (F_X10_of x0 x1 h) := by
  intro x0 x1 h
  unfold F_X10_of
  refine x_aload_n 1 dX10_of_0 rfl rfl ?_
  refine xg_X10_13 dX10_of_1 ?_
  refine x_aload_n 0 dX10_of_4 rfl rfl ?_
  refine xg_X10_7 dX10_of_5 ?_
  refine x_lald dX10_of_8 ?_
  exact x_lret rfl dX10_of_9
theorem SF_X10_of (l : Launch) {d : Nat} (hdd : 1 ≤ d) (x0 : Int) (x1 : Int) (h : XH) (hok : okH h) (ho : okXs (xn h) [(2, x0), (2, x1)]) (fin : XR) (hf : F_X10_of x0 x1 h = some fin) : xSpec l yX10_of cX10_of 2 (some .long) d 1 [(2, x0), (2, x1)] h fin := x_enter (lv := [(0, (2, x0)), (1, (2, x1))]) (by decide) rfl rfl (Nat.le_of_ble_eq_true rfl) rfl (fun Z _ => WF_X10_of hdd x0 x1 h) hok ho fin hf
noncomputable def F_X11_of_117 (R_V : Int → Int → XH → Option XR) (s0 : Int) (s1 : Int) (h : XH) : Option XR := ob h s0 3 <| mb (F_X2_within s0 s1 h) fun r1 h2 => some (r1, h2)
theorem WF_X11_of_117 {d : Nat} {dr : Nat} {Z : XZ XR} (hdd : dr + 1 ≤ d ∧ 2 ≤ d) {R_V : Int → Int → XH → Option XR} (hRm : vMono R_V) (hR_V : ∀ (b c : Int) (h : XH), okH h → okXs (xn h) [(2, b), (2, c)] → (xk h b = 8 → ∀ fin, R_V b c h = some fin → xSpec (yL Z) yX9_of cX9_of 2 (some .long) dr 1 [(2, b), (2, c)] h fin) ∧ (xk h b = 9 → ∀ fin, R_V b c h = some fin → xSpec (yL Z) yX10_of cX10_of 2 (some .long) dr 1 [(2, b), (2, c)] h fin) ∧ (xk h b = 10 → ∀ fin, R_V b c h = some fin → xSpec (yL Z) yX11_of cX11_of 6 (some .long) dr 1 [(2, b), (2, c)] h fin) ∧ (∀ fin, R_V b c h = some fin → 1 ≤ b ∧ b ≤ (xn h : Int) ∧ (xk h b = 8 ∨ xk h b = 9 ∨ xk h b = 10))) : ∀ s0 s1 h, XG xfh (xQ 1) RX11 "of" cX11_of 6 (some .long) d Z 117 [] [(1, s1), (2, s0)] h (F_X11_of_117 R_V s0 s1 h) := by
  intro s0 s1 h
  unfold F_X11_of_117
  refine cl_X11_30 (by omega) (Nat.le_of_ble_eq_true rfl) dX11_of_117 fun r1 h2 => ?_
  exact x_lret rfl dX11_of_120
noncomputable def F_X11_of_28 (R_V : Int → Int → XH → Option XR) (s0 : Int) (x0 : Int) (x1 : Int) (x2 : Int) (h : XH) : Option XR := ob h x1 3 <| if xv h x1 1 = 0 then (ob h x0 10 <| if xv h x0 2 = 47 then (nm (α := Int) (if s0 = 0 then 1 else 0) fun v1 => ob h x1 3 <| cb v1 <| nm (hset h x1 1 v1) fun h2 => if s0 = 0 then (some (0, h2)) else (cz s0 <| some (w64 (x2.tdiv s0), h2))) else (ob h x0 10 <| if xv h x0 2 = 43 then (F_X11_of_117 R_V x1 (w64 (x2 + s0)) h) else (ob h x0 10 <| if xv h x0 2 = 45 then (F_X11_of_117 R_V x1 (w64 (x2 - s0)) h) else (F_X11_of_117 R_V x1 (w64 (x2 * s0)) h)))) else (some (0, h))
theorem WF_X11_of_28 {d : Nat} {dr : Nat} {Z : XZ XR} (hdd : dr + 1 ≤ d ∧ 2 ≤ d) {R_V : Int → Int → XH → Option XR} (hRm : vMono R_V) (hR_V : ∀ (b c : Int) (h : XH), okH h → okXs (xn h) [(2, b), (2, c)] → (xk h b = 8 → ∀ fin, R_V b c h = some fin → xSpec (yL Z) yX9_of cX9_of 2 (some .long) dr 1 [(2, b), (2, c)] h fin) ∧ (xk h b = 9 → ∀ fin, R_V b c h = some fin → xSpec (yL Z) yX10_of cX10_of 2 (some .long) dr 1 [(2, b), (2, c)] h fin) ∧ (xk h b = 10 → ∀ fin, R_V b c h = some fin → xSpec (yL Z) yX11_of cX11_of 6 (some .long) dr 1 [(2, b), (2, c)] h fin) ∧ (∀ fin, R_V b c h = some fin → 1 ≤ b ∧ b ≤ (xn h : Int) ∧ (xk h b = 8 ∨ xk h b = 9 ∨ xk h b = 10))) : ∀ s0 x0 x1 x2 h, XG xfh (xQ 1) RX11 "of" cX11_of 6 (some .long) d Z 28 [(0, (2, x0)), (1, (2, x1)), (2, (1, x2))] [(1, s0)] h (F_X11_of_28 R_V s0 x0 x1 x2 h) := by
  intro s0 x0 x1 x2 h
  unfold F_X11_of_28
  refine x_lstore (lv' := [(4, (1, s0)), (0, (2, x0)), (1, (2, x1)), (2, (1, x2))]) dX11_of_28 (by decide) rfl ?_
  refine x_aload_n 2 dX11_of_30 rfl rfl ?_
  refine xg_X11_24 dX11_of_31 ?_
  refine x_if_eq 39 dX11_of_34 (by decide) (fun _ => ?_) (fun _ => ?_)
  · refine x_aload_n 1 dX11_of_39 rfl rfl ?_
    refine xg_X11_13 dX11_of_40 ?_
    refine x_bp dX11_of_43 (by decide) (by decide) ?_
    refine x_icmp_ne 80 dX11_of_45 (by decide) (fun _ => ?_) (fun _ => ?_)
    · refine x_aload_n 2 dX11_of_80 rfl rfl ?_
      refine x_aload_n 1 dX11_of_81 rfl rfl ?_
      refine xg_X11_13 dX11_of_82 ?_
      refine x_bp dX11_of_85 (by decide) (by decide) ?_
      refine x_icmp_ne 97 dX11_of_87 (by decide) (fun _ => ?_) (fun _ => ?_)
      · refine x_aload_n 1 dX11_of_97 rfl rfl ?_
        refine xg_X11_13 dX11_of_98 ?_
        refine x_bp dX11_of_101 (by decide) (by decide) ?_
        refine x_icmp_ne 113 dX11_of_103 (by decide) (fun _ => ?_) (fun _ => ?_)
        · refine x_lload_n 3 dX11_of_113 rfl rfl ?_
          refine x_lload 0 dX11_of_114 rfl ?_
          refine x_lmul dX11_of_116 ?_
          exact x_sub [] rfl (WF_X11_of_117 hdd hRm hR_V x1 (w64 (x2 * s0)) h)
        · refine x_lload_n 3 dX11_of_106 rfl rfl ?_
          refine x_lload 0 dX11_of_107 rfl ?_
          refine x_lsub dX11_of_109 ?_
          refine x_goto 117 dX11_of_110 (by decide) ?_
          exact x_sub [] rfl (WF_X11_of_117 hdd hRm hR_V x1 (w64 (x2 - s0)) h)
      · refine x_lload_n 3 dX11_of_90 rfl rfl ?_
        refine x_lload 0 dX11_of_91 rfl ?_
        refine x_ladd dX11_of_93 ?_
        refine x_goto 117 dX11_of_94 (by decide) ?_
        exact x_sub [] rfl (WF_X11_of_117 hdd hRm hR_V x1 (w64 (x2 + s0)) h)
    · refine x_aload_n 2 dX11_of_48 rfl rfl ?_
      refine x_lload 0 dX11_of_49 rfl ?_
      refine x_l0 dX11_of_51 ?_
      refine x_join 61 (fun v1 => [(0, v1), (2, x1)]) (fun v1 => ?_) (fun hJ => ?_)
      · refine xp_X11_24 dX11_of_61 fun h2 => ?_
        refine x_lload 0 dX11_of_64 rfl ?_
        refine x_l0 dX11_of_66 ?_
        refine x_lcmp_ne 75 dX11_of_67 dX11_of_68 (by decide) (fun _ => ?_) (fun _ => ?_)
        · refine x_lload_n 3 dX11_of_75 rfl rfl ?_
          refine x_lload 0 dX11_of_76 rfl ?_
          refine x_ldiv dX11_of_78 ?_
          exact x_lret rfl dX11_of_79
        · refine x_l0 dX11_of_71 ?_
          refine x_goto 79 dX11_of_72 (by decide) ?_
          exact x_lret rfl dX11_of_79
      · refine x_lcmp_neF 60 dX11_of_52 dX11_of_53 (by decide) (fun _ => ?_) (fun _ => ?_)
        · refine x_ic dX11_of_60 (by decide) (by decide) ?_
          exact hJ _
        · refine x_ic dX11_of_56 (by decide) (by decide) ?_
          refine x_goto 61 dX11_of_57 (by decide) ?_
          exact hJ _
  · refine x_l0 dX11_of_37 ?_
    exact x_lret rfl dX11_of_38
noncomputable def F_X11_of_b (R_V : Int → Int → XH → Option XR) (x0 : Int) (x1 : Int) (h : XH) : Option XR := ob h x0 10 <| mb (R_V (xv h x0 0) x1 h) fun r1 h2 => ob h2 x1 3 <| if xv h2 x1 1 = 0 then (ob h2 x0 10 <| mb (R_V (xv h2 x0 1) x1 h2) fun r3 h4 => F_X11_of_28 R_V r3 x0 x1 r1 h4) else (F_X11_of_28 R_V 0 x0 x1 r1 h2)
theorem WF_X11_of_b {d : Nat} {dr : Nat} {Z : XZ XR} (hdd : dr + 1 ≤ d ∧ 2 ≤ d) {R_V : Int → Int → XH → Option XR} (hRm : vMono R_V) (hR_V : ∀ (b c : Int) (h : XH), okH h → okXs (xn h) [(2, b), (2, c)] → (xk h b = 8 → ∀ fin, R_V b c h = some fin → xSpec (yL Z) yX9_of cX9_of 2 (some .long) dr 1 [(2, b), (2, c)] h fin) ∧ (xk h b = 9 → ∀ fin, R_V b c h = some fin → xSpec (yL Z) yX10_of cX10_of 2 (some .long) dr 1 [(2, b), (2, c)] h fin) ∧ (xk h b = 10 → ∀ fin, R_V b c h = some fin → xSpec (yL Z) yX11_of cX11_of 6 (some .long) dr 1 [(2, b), (2, c)] h fin) ∧ (∀ fin, R_V b c h = some fin → 1 ≤ b ∧ b ≤ (xn h : Int) ∧ (xk h b = 8 ∨ xk h b = 9 ∨ xk h b = 10))) : ∀ x0 x1 h, XG xfh (xQ 1) RX11 "of" cX11_of 6 (some .long) d Z 0 [(0, (2, x0)), (1, (2, x1))] [] h (F_X11_of_b R_V x0 x1 h) := by
  intro x0 x1 h
  unfold F_X11_of_b
  refine x_aload_n 0 dX11_of_0 rfl rfl ?_
  refine xg_X11_7 dX11_of_1 ?_
  refine x_aload_n 1 dX11_of_4 rfl rfl ?_
  refine crv_X11_20 hRm hR_V hdd.1 (Nat.le_of_ble_eq_true rfl) dX11_of_5 fun r1 h2 => ?_
  refine x_lstore_n (lv' := [(2, (1, r1)), (0, (2, x0)), (1, (2, x1))]) dX11_of_8 rfl (by decide) rfl ?_
  refine x_aload_n 2 dX11_of_9 rfl rfl ?_
  refine xg_X11_24 dX11_of_10 ?_
  refine x_if_eq 20 dX11_of_13 (by decide) (fun _ => ?_) (fun _ => ?_)
  · refine x_aload_n 1 dX11_of_20 rfl rfl ?_
    refine xg_X11_17 dX11_of_21 ?_
    refine x_aload_n 2 dX11_of_24 rfl rfl ?_
    refine crv_X11_20 hRm hR_V hdd.1 (Nat.le_of_ble_eq_true rfl) dX11_of_25 fun r3 h4 => ?_
    exact x_sub [1, 2, 0] rfl (WF_X11_of_28 hdd hRm hR_V r3 x0 x1 r1 h4)
  · refine x_l0 dX11_of_16 ?_
    refine x_goto 28 dX11_of_17 (by decide) ?_
    exact x_sub [1, 2, 0] rfl (WF_X11_of_28 hdd hRm hR_V 0 x0 x1 r1 h2)
theorem SF_X11_of_b (l : Launch) {d dr : Nat} (hdd : dr + 1 ≤ d ∧ 2 ≤ d) {R_V : Int → Int → XH → Option XR} (hRm : vMono R_V) (hR_V : ∀ (b c : Int) (h : XH), okH h → okXs (xn h) [(2, b), (2, c)] → (xk h b = 8 → ∀ fin, R_V b c h = some fin → xSpec l yX9_of cX9_of 2 (some .long) dr 1 [(2, b), (2, c)] h fin) ∧ (xk h b = 9 → ∀ fin, R_V b c h = some fin → xSpec l yX10_of cX10_of 2 (some .long) dr 1 [(2, b), (2, c)] h fin) ∧ (xk h b = 10 → ∀ fin, R_V b c h = some fin → xSpec l yX11_of cX11_of 6 (some .long) dr 1 [(2, b), (2, c)] h fin) ∧ (∀ fin, R_V b c h = some fin → 1 ≤ b ∧ b ≤ (xn h : Int) ∧ (xk h b = 8 ∨ xk h b = 9 ∨ xk h b = 10))) (x0 : Int) (x1 : Int) (h : XH) (hok : okH h) (ho : okXs (xn h) [(2, x0), (2, x1)]) (fin : XR) (hf : F_X11_of_b R_V x0 x1 h = some fin) : xSpec l yX11_of cX11_of 6 (some .long) d 1 [(2, x0), (2, x1)] h fin := x_enter (lv := [(0, (2, x0)), (1, (2, x1))]) (by decide) rfl rfl (Nat.le_of_ble_eq_true rfl) rfl (fun Z hZ => by subst hZ; exact WF_X11_of_b hdd hRm hR_V x0 x1 h) hok ho fin hf
noncomputable def VSum : Nat → Int → Int → XH → Option XR
  | 0, _, _, _ => none
  | n + 1, b, c, h => if xk h b = 8 then (ob h b 8 <| F_X9_of b c h) else if xk h b = 9 then (ob h b 9 <| F_X10_of b c h) else if xk h b = 10 then (ob h b 10 <| F_X11_of_b (VSum n) b c h) else none
theorem SVSum : ∀ n, vMono (VSum n) ∧ ∀ (l : Launch) (dr : Nat), 2 + n ≤ dr → ∀ (b c : Int) (h : XH), okH h → okXs (xn h) [(2, b), (2, c)] → (xk h b = 8 → ∀ fin, VSum n b c h = some fin → xSpec l yX9_of cX9_of 2 (some .long) dr 1 [(2, b), (2, c)] h fin) ∧ (xk h b = 9 → ∀ fin, VSum n b c h = some fin → xSpec l yX10_of cX10_of 2 (some .long) dr 1 [(2, b), (2, c)] h fin) ∧ (xk h b = 10 → ∀ fin, VSum n b c h = some fin → xSpec l yX11_of cX11_of 6 (some .long) dr 1 [(2, b), (2, c)] h fin) ∧ (∀ fin, VSum n b c h = some fin → 1 ≤ b ∧ b ≤ (xn h : Int) ∧ (xk h b = 8 ∨ xk h b = 9 ∨ xk h b = 10)) := by
  intro n
  induction n with
  | zero => exact ⟨(fun Z b c h fin hf => by cases hf), fun l dr _ b c h _ _ => ⟨(fun _ fin hf => by cases hf), (fun _ fin hf => by cases hf), (fun _ fin hf => by cases hf), (fun fin hf => by cases hf)⟩⟩
  | succ n ih =>
    obtain ⟨im, is⟩ := ih
    refine ⟨fun Z b c h => ?_, fun l dr hd b c h hok ho => ⟨?_, ?_, ?_, ?_⟩⟩
    · rw [VSum]
      refine XM.ite (fun _ => ((WF_X9_of (Z := Z) (d := 2) (by decide) b c h).1).ob) (fun _ => ?_)
      refine XM.ite (fun _ => ((WF_X10_of (Z := Z) (d := 2) (by decide) b c h).1).ob) (fun _ => ?_)
      refine XM.ite (fun _ => ((WF_X11_of_b (Z := Z) (d := 2 + n + 1) (dr := 2 + n) ⟨Nat.le_refl _, by omega⟩ im (is (yL Z) (2 + n) (Nat.le_refl _)) b c h).1).ob) (fun _ => ?_)
      exact fun fin hf => by cases hf
    · intro hk fin hf
      rw [VSum, if_pos hk] at hf
      obtain ⟨_, _, _, hf⟩ := ob_some hf
      exact SF_X9_of l (d := dr) (by omega) b c h hok ho fin hf
    · intro hk fin hf
      rw [VSum, if_neg (by omega), if_pos hk] at hf
      obtain ⟨_, _, _, hf⟩ := ob_some hf
      exact SF_X10_of l (d := dr) (by omega) b c h hok ho fin hf
    · intro hk fin hf
      rw [VSum, if_neg (by omega), if_neg (by omega), if_pos hk] at hf
      obtain ⟨_, _, _, hf⟩ := ob_some hf
      exact SF_X11_of_b l (d := dr) (dr := dr - 1) ⟨by omega, by omega⟩ im (is l (dr - 1) (by omega)) b c h hok ho fin hf
    · intro fin hf
      rw [VSum] at hf
      by_cases e0 : xk h b = 8
      · rw [if_pos e0] at hf
        obtain ⟨o1, o2, _, _⟩ := ob_some hf
        exact ⟨o1, o2, Or.inl e0⟩
      rw [if_neg e0] at hf
      by_cases e1 : xk h b = 9
      · rw [if_pos e1] at hf
        obtain ⟨o1, o2, _, _⟩ := ob_some hf
        exact ⟨o1, o2, Or.inr (Or.inl e1)⟩
      rw [if_neg e1] at hf
      by_cases e2 : xk h b = 10
      · rw [if_pos e2] at hf
        obtain ⟨o1, o2, _, _⟩ := ob_some hf
        exact ⟨o1, o2, Or.inr (Or.inr (e2))⟩
      rw [if_neg e2] at hf
      cases hf
theorem xg_X13_13 {ρ : Type} {fh : ρ → XH} {QQ : XZ ρ → State → Prop} {mn : String} {cc : ByteArray} {nL : Nat} {ret : Option FieldType} {d : Nat} {Z : XZ ρ} {pc : Nat} {lv : List (Nat × AV)} {st : List AV} {h : XH} {res : Option ρ} {a : Int} (hd : decode cc pc = .ok (.getfield 13, 3)) (kk : XG fh QQ RX13 mn cc nL ret d Z (pc + 3) lv ((0, xv h a 2) :: st) h res) : XG fh QQ RX13 mn cc nL ret d Z pc lv ((2, a) :: st) h (ob h a 11 res) := x_get (C := RX13) (ref := RX13) 11 2 rfl in_X13 (by decide) rfl (by decide) (Or.inl rfl) q828 hd kk
theorem xg_X13_17 {ρ : Type} {fh : ρ → XH} {QQ : XZ ρ → State → Prop} {mn : String} {cc : ByteArray} {nL : Nat} {ret : Option FieldType} {d : Nat} {Z : XZ ρ} {pc : Nat} {lv : List (Nat × AV)} {st : List AV} {h : XH} {res : Option ρ} {a : Int} (hd : decode cc pc = .ok (.getfield 17, 3)) (kk : XG fh QQ RX13 mn cc nL ret d Z (pc + 3) lv ((2, xv h a 1) :: st) h res) : XG fh QQ RX13 mn cc nL ret d Z pc lv ((2, a) :: st) h (ob h a 11 res) := x_get (C := RX13) (ref := RX13) 11 1 rfl in_X13 (by decide) rfl (by decide) (Or.inl rfl) q827 hd kk
theorem xg_X13_26 {ρ : Type} {fh : ρ → XH} {QQ : XZ ρ → State → Prop} {mn : String} {cc : ByteArray} {nL : Nat} {ret : Option FieldType} {d : Nat} {Z : XZ ρ} {pc : Nat} {lv : List (Nat × AV)} {st : List AV} {h : XH} {res : Option ρ} {a : Int} (hd : decode cc pc = .ok (.getfield 26, 3)) (kk : XG fh QQ RX13 mn cc nL ret d Z (pc + 3) lv ((0, xv h a 1) :: st) h res) : XG fh QQ RX13 mn cc nL ret d Z pc lv ((2, a) :: st) h (ob h a 3 res) := x_getN (C := RX2) (ref := RX2) 3 1 rfl in_X2 (by decide) rfl (by decide) (Or.inl rfl) q266 hd kk
theorem xg_X13_7 {ρ : Type} {fh : ρ → XH} {QQ : XZ ρ → State → Prop} {mn : String} {cc : ByteArray} {nL : Nat} {ret : Option FieldType} {d : Nat} {Z : XZ ρ} {pc : Nat} {lv : List (Nat × AV)} {st : List AV} {h : XH} {res : Option ρ} {a : Int} (hd : decode cc pc = .ok (.getfield 7, 3)) (kk : XG fh QQ RX13 mn cc nL ret d Z (pc + 3) lv ((2, xv h a 0) :: st) h res) : XG fh QQ RX13 mn cc nL ret d Z pc lv ((2, a) :: st) h (ob h a 11 res) := x_get (C := RX13) (ref := RX13) 11 0 rfl in_X13 (by decide) rfl (by decide) (Or.inl rfl) q826 hd kk
theorem xg_X14_17 {ρ : Type} {fh : ρ → XH} {QQ : XZ ρ → State → Prop} {mn : String} {cc : ByteArray} {nL : Nat} {ret : Option FieldType} {d : Nat} {Z : XZ ρ} {pc : Nat} {lv : List (Nat × AV)} {st : List AV} {h : XH} {res : Option ρ} {a : Int} (hd : decode cc pc = .ok (.getfield 17, 3)) (kk : XG fh QQ RX14 mn cc nL ret d Z (pc + 3) lv ((0, xv h a 1) :: st) h res) : XG fh QQ RX14 mn cc nL ret d Z pc lv ((2, a) :: st) h (ob h a 3 res) := x_getN (C := RX2) (ref := RX2) 3 1 rfl in_X2 (by decide) rfl (by decide) (Or.inl rfl) q267 hd kk
theorem xg_X14_7 {ρ : Type} {fh : ρ → XH} {QQ : XZ ρ → State → Prop} {mn : String} {cc : ByteArray} {nL : Nat} {ret : Option FieldType} {d : Nat} {Z : XZ ρ} {pc : Nat} {lv : List (Nat × AV)} {st : List AV} {h : XH} {res : Option ρ} {a : Int} (hd : decode cc pc = .ok (.getfield 7, 3)) (kk : XG fh QQ RX14 mn cc nL ret d Z (pc + 3) lv ((2, xv h a 0) :: st) h res) : XG fh QQ RX14 mn cc nL ret d Z pc lv ((2, a) :: st) h (ob h a 12 res) := x_get (C := RX14) (ref := RX14) 12 0 rfl in_X14 (by decide) rfl (by decide) (Or.inl rfl) q842 hd kk
theorem xg_X15_13 {ρ : Type} {fh : ρ → XH} {QQ : XZ ρ → State → Prop} {mn : String} {cc : ByteArray} {nL : Nat} {ret : Option FieldType} {d : Nat} {Z : XZ ρ} {pc : Nat} {lv : List (Nat × AV)} {st : List AV} {h : XH} {res : Option ρ} {a : Int} (hd : decode cc pc = .ok (.getfield 13, 3)) (kk : XG fh QQ RX15 mn cc nL ret d Z (pc + 3) lv ((2, xv h a 1) :: st) h res) : XG fh QQ RX15 mn cc nL ret d Z pc lv ((2, a) :: st) h (ob h a 13 res) := x_get (C := RX15) (ref := RX15) 13 1 rfl in_X15 (by decide) rfl (by decide) (Or.inl rfl) q863 hd kk
theorem xg_X15_21 {ρ : Type} {fh : ρ → XH} {QQ : XZ ρ → State → Prop} {mn : String} {cc : ByteArray} {nL : Nat} {ret : Option FieldType} {d : Nat} {Z : XZ ρ} {pc : Nat} {lv : List (Nat × AV)} {st : List AV} {h : XH} {res : Option ρ} {a : Int} (hd : decode cc pc = .ok (.getfield 21, 3)) (kk : XG fh QQ RX15 mn cc nL ret d Z (pc + 3) lv ((0, xv h a 1) :: st) h res) : XG fh QQ RX15 mn cc nL ret d Z pc lv ((2, a) :: st) h (ob h a 3 res) := x_getN (C := RX2) (ref := RX2) 3 1 rfl in_X2 (by decide) rfl (by decide) (Or.inl rfl) q268 hd kk
theorem xg_X15_7 {ρ : Type} {fh : ρ → XH} {QQ : XZ ρ → State → Prop} {mn : String} {cc : ByteArray} {nL : Nat} {ret : Option FieldType} {d : Nat} {Z : XZ ρ} {pc : Nat} {lv : List (Nat × AV)} {st : List AV} {h : XH} {res : Option ρ} {a : Int} (hd : decode cc pc = .ok (.getfield 7, 3)) (kk : XG fh QQ RX15 mn cc nL ret d Z (pc + 3) lv ((0, xv h a 0) :: st) h res) : XG fh QQ RX15 mn cc nL ret d Z pc lv ((2, a) :: st) h (ob h a 13 res) := x_get (C := RX15) (ref := RX15) 13 0 rfl in_X15 (by decide) rfl (by decide) (Or.inl rfl) q862 hd kk
theorem clv_X13_20 {ρ : Type} {fh : ρ → XH} {QQ : XZ ρ → State → Prop} {mn : String} {cc : ByteArray} {nL : Nat} {ret : Option FieldType} {d : Nat} {Z : XZ ρ} {pc : Nat} {lv : List (Nat × AV)} {st : List AV} {h : XH} {g : Int → XH → Option ρ} {b c : Int} (hdd : 63 ≤ d) (hcat : (st.map fun v => if v.1 = 1 then 2 else 1).sum ≤ 8) (hdg : decode cc pc = .ok (.invokevirtual 20, 3)) (kk : ∀ r h1, XG fh QQ RX13 mn cc nL ret d Z (pc + 3) lv ((1, r) :: st) h1 (g r h1)) : XG fh QQ RX13 mn cc nL ret d Z pc lv ((2, c) :: (2, b) :: st) h (mb (VSum RF b c h) g) := by
  have hbb : okH h → okXs (xn h) ((2, b) :: [(2, c)]) → ∀ fin, VSum RF b c h = some fin → 1 ≤ b ∧ b ≤ (xn h : Int) := fun hok ho fin hf => ⟨(((SVSum RF).2 (yL Z) 62 (by rw [RF_eq]; decide) b c h hok ho).2.2.2 fin hf).1, (((SVSum RF).2 (yL Z) 62 (by rw [RF_eq]; decide) b c h hok ho).2.2.2 fin hf).2.1⟩
  by_cases e0 : xk h b = 8
  · exact x_callAl (x := ⟨RX8, "of", "(LExamSlips$Asked;)J"⟩) [(2, c)] 1 ((SVSum RF).1 (Z.1, Z.2.1, ((0, h), h)) b c h) (fun hok ho fin hf => ((SVSum RF).2 (yL Z) 62 (by rw [RF_eq]; decide) b c h hok ho).1 e0 fin hf) RX9 RX8 8 rfl (by decide) e0 hbb (lw_app (List.forall_mem_cons.mpr ⟨q939, List.forall_mem_cons.mpr ⟨q941, List.forall_mem_cons.mpr ⟨q942, List.forall_mem_cons.mpr ⟨q943, List.forall_mem_cons.mpr ⟨q147, fun _ h => absurd h List.not_mem_nil⟩⟩⟩⟩⟩) (lw_meth q944)) q940 ⟨by decide +kernel, by decide +kernel, by decide +kernel⟩ rfl (by omega) (by decide) rfl hcat hdg kk
  by_cases e1 : xk h b = 9
  · exact x_callAl (x := ⟨RX8, "of", "(LExamSlips$Asked;)J"⟩) [(2, c)] 1 ((SVSum RF).1 (Z.1, Z.2.1, ((0, h), h)) b c h) (fun hok ho fin hf => ((SVSum RF).2 (yL Z) 62 (by rw [RF_eq]; decide) b c h hok ho).2.1 e1 fin hf) RX10 RX8 9 rfl (by decide) e1 hbb (lw_app (List.forall_mem_cons.mpr ⟨q939, List.forall_mem_cons.mpr ⟨q941, List.forall_mem_cons.mpr ⟨q957, List.forall_mem_cons.mpr ⟨q949, List.forall_mem_cons.mpr ⟨q148, fun _ h => absurd h List.not_mem_nil⟩⟩⟩⟩⟩) (lw_meth q950)) q940 ⟨by decide +kernel, by decide +kernel, by decide +kernel⟩ rfl (by omega) (by decide) rfl hcat hdg kk
  by_cases e2 : xk h b = 10
  · exact x_callAl (x := ⟨RX8, "of", "(LExamSlips$Asked;)J"⟩) [(2, c)] 1 ((SVSum RF).1 (Z.1, Z.2.1, ((0, h), h)) b c h) (fun hok ho fin hf => ((SVSum RF).2 (yL Z) 62 (by rw [RF_eq]; decide) b c h hok ho).2.2.1 e2 fin hf) RX11 RX8 10 rfl (by decide) e2 hbb (lw_app (List.forall_mem_cons.mpr ⟨q939, List.forall_mem_cons.mpr ⟨q941, List.forall_mem_cons.mpr ⟨q945, List.forall_mem_cons.mpr ⟨q946, List.forall_mem_cons.mpr ⟨q149, fun _ h => absurd h List.not_mem_nil⟩⟩⟩⟩⟩) (lw_meth q947)) q940 ⟨by decide +kernel, by decide +kernel, by decide +kernel⟩ rfl (by omega) (by decide) rfl hcat hdg kk
  exact x_noV (push := fun r => (1, r) :: st) [(2, c), (2, b)] ((SVSum RF).1 (Z.1, Z.2.1, ((0, h), h)) b c h) (fun hok ho fin hf => by
    have ho : okXs (xn h) [(2, b), (2, c)] := okXs.c ho.t.hd (okXs.c ho.hd okXs.nil)
    rcases (((SVSum RF).2 (yL Z) 62 (by rw [RF_eq]; decide) b c h hok ho).2.2.2 fin hf).2.2 with e | e | e <;> contradiction) rfl kk
theorem crv_X14_13 {ρ : Type} {fh : ρ → XH} {QQ : XZ ρ → State → Prop} {mn : String} {cc : ByteArray} {nL : Nat} {ret : Option FieldType} {d : Nat} {Z : XZ ρ} {pc : Nat} {lv : List (Nat × AV)} {st : List AV} {h : XH} {g : Int → XH → Option ρ} {b c : Int} {dr : Nat} {R_V : Int → Int → XH → Option XR} (hRm : vMono R_V) (hR_V : ∀ (b c : Int) (h : XH), okH h → okXs (xn h) [(2, b), (2, c)] → (xk h b = 11 → ∀ fin, R_V b c h = some fin → xSpec (yL Z) yX13_of cX13_of 6 (some .boolean) dr 0 [(2, b), (2, c)] h fin) ∧ (xk h b = 12 → ∀ fin, R_V b c h = some fin → xSpec (yL Z) yX14_of cX14_of 2 (some .boolean) dr 0 [(2, b), (2, c)] h fin) ∧ (xk h b = 13 → ∀ fin, R_V b c h = some fin → xSpec (yL Z) yX15_of cX15_of 7 (some .boolean) dr 0 [(2, b), (2, c)] h fin) ∧ (∀ fin, R_V b c h = some fin → 1 ≤ b ∧ b ≤ (xn h : Int) ∧ (xk h b = 11 ∨ xk h b = 12 ∨ xk h b = 13))) (hdd : dr + 1 ≤ d) (hcat : (st.map fun v => if v.1 = 1 then 2 else 1).sum ≤ 8) (hdg : decode cc pc = .ok (.invokevirtual 13, 3)) (kk : ∀ r h1, XG fh QQ RX14 mn cc nL ret d Z (pc + 3) lv ((0, r) :: st) h1 (g r h1)) : XG fh QQ RX14 mn cc nL ret d Z pc lv ((2, c) :: (2, b) :: st) h (mb (R_V b c h) g) := by
  have hbb : okH h → okXs (xn h) ((2, b) :: [(2, c)]) → ∀ fin, R_V b c h = some fin → 1 ≤ b ∧ b ≤ (xn h : Int) := fun hok ho fin hf => ⟨((hR_V b c h hok ho).2.2.2 fin hf).1, ((hR_V b c h hok ho).2.2.2 fin hf).2.1⟩
  by_cases e0 : xk h b = 11
  · exact x_callAi (x := ⟨RX12, "of", "(LExamSlips$Asked;)Z"⟩) [(2, c)] 1 (hRm (Z.1, Z.2.1, ((0, h), h)) b c h) (fun hok ho fin hf => (hR_V b c h hok ho).1 e0 fin hf) RX13 RX12 11 rfl (by decide) e0 hbb (lw_app (List.forall_mem_cons.mpr ⟨q961, List.forall_mem_cons.mpr ⟨q935, List.forall_mem_cons.mpr ⟨q936, List.forall_mem_cons.mpr ⟨q937, List.forall_mem_cons.mpr ⟨q151, fun _ h => absurd h List.not_mem_nil⟩⟩⟩⟩⟩) (lw_meth q938)) q934 ⟨by decide +kernel, by decide +kernel, by decide +kernel⟩ rfl hdd (by decide) rfl hcat hdg kk
  by_cases e1 : xk h b = 12
  · exact x_callAi (x := ⟨RX12, "of", "(LExamSlips$Asked;)Z"⟩) [(2, c)] 1 (hRm (Z.1, Z.2.1, ((0, h), h)) b c h) (fun hok ho fin hf => (hR_V b c h hok ho).2.1 e1 fin hf) RX14 RX12 12 rfl (by decide) e1 hbb (lw_app (List.forall_mem_cons.mpr ⟨q961, List.forall_mem_cons.mpr ⟨q935, List.forall_mem_cons.mpr ⟨q958, List.forall_mem_cons.mpr ⟨q959, List.forall_mem_cons.mpr ⟨q152, fun _ h => absurd h List.not_mem_nil⟩⟩⟩⟩⟩) (lw_meth q960)) q934 ⟨by decide +kernel, by decide +kernel, by decide +kernel⟩ rfl hdd (by decide) rfl hcat hdg kk
  by_cases e2 : xk h b = 13
  · exact x_callAi (x := ⟨RX12, "of", "(LExamSlips$Asked;)Z"⟩) [(2, c)] 1 (hRm (Z.1, Z.2.1, ((0, h), h)) b c h) (fun hok ho fin hf => (hR_V b c h hok ho).2.2.1 e2 fin hf) RX15 RX12 13 rfl (by decide) e2 hbb (lw_app (List.forall_mem_cons.mpr ⟨q961, List.forall_mem_cons.mpr ⟨q935, List.forall_mem_cons.mpr ⟨q965, List.forall_mem_cons.mpr ⟨q962, List.forall_mem_cons.mpr ⟨q153, fun _ h => absurd h List.not_mem_nil⟩⟩⟩⟩⟩) (lw_meth q963)) q934 ⟨by decide +kernel, by decide +kernel, by decide +kernel⟩ rfl hdd (by decide) rfl hcat hdg kk
  exact x_noV (push := fun r => (0, r) :: st) [(2, c), (2, b)] (hRm (Z.1, Z.2.1, ((0, h), h)) b c h) (fun hok ho fin hf => by
    have ho : okXs (xn h) [(2, b), (2, c)] := okXs.c ho.t.hd (okXs.c ho.hd okXs.nil)
    rcases ((hR_V b c h hok ho).2.2.2 fin hf).2.2 with e | e | e <;> contradiction) rfl kk
theorem crv_X15_17 {ρ : Type} {fh : ρ → XH} {QQ : XZ ρ → State → Prop} {mn : String} {cc : ByteArray} {nL : Nat} {ret : Option FieldType} {d : Nat} {Z : XZ ρ} {pc : Nat} {lv : List (Nat × AV)} {st : List AV} {h : XH} {g : Int → XH → Option ρ} {b c : Int} {dr : Nat} {R_V : Int → Int → XH → Option XR} (hRm : vMono R_V) (hR_V : ∀ (b c : Int) (h : XH), okH h → okXs (xn h) [(2, b), (2, c)] → (xk h b = 11 → ∀ fin, R_V b c h = some fin → xSpec (yL Z) yX13_of cX13_of 6 (some .boolean) dr 0 [(2, b), (2, c)] h fin) ∧ (xk h b = 12 → ∀ fin, R_V b c h = some fin → xSpec (yL Z) yX14_of cX14_of 2 (some .boolean) dr 0 [(2, b), (2, c)] h fin) ∧ (xk h b = 13 → ∀ fin, R_V b c h = some fin → xSpec (yL Z) yX15_of cX15_of 7 (some .boolean) dr 0 [(2, b), (2, c)] h fin) ∧ (∀ fin, R_V b c h = some fin → 1 ≤ b ∧ b ≤ (xn h : Int) ∧ (xk h b = 11 ∨ xk h b = 12 ∨ xk h b = 13))) (hdd : dr + 1 ≤ d) (hcat : (st.map fun v => if v.1 = 1 then 2 else 1).sum ≤ 8) (hdg : decode cc pc = .ok (.invokevirtual 17, 3)) (kk : ∀ r h1, XG fh QQ RX15 mn cc nL ret d Z (pc + 3) lv ((0, r) :: st) h1 (g r h1)) : XG fh QQ RX15 mn cc nL ret d Z pc lv ((2, c) :: (2, b) :: st) h (mb (R_V b c h) g) := by
  have hbb : okH h → okXs (xn h) ((2, b) :: [(2, c)]) → ∀ fin, R_V b c h = some fin → 1 ≤ b ∧ b ≤ (xn h : Int) := fun hok ho fin hf => ⟨((hR_V b c h hok ho).2.2.2 fin hf).1, ((hR_V b c h hok ho).2.2.2 fin hf).2.1⟩
  by_cases e0 : xk h b = 11
  · exact x_callAi (x := ⟨RX12, "of", "(LExamSlips$Asked;)Z"⟩) [(2, c)] 1 (hRm (Z.1, Z.2.1, ((0, h), h)) b c h) (fun hok ho fin hf => (hR_V b c h hok ho).1 e0 fin hf) RX13 RX12 11 rfl (by decide) e0 hbb (lw_app (List.forall_mem_cons.mpr ⟨q964, List.forall_mem_cons.mpr ⟨q935, List.forall_mem_cons.mpr ⟨q936, List.forall_mem_cons.mpr ⟨q937, List.forall_mem_cons.mpr ⟨q151, fun _ h => absurd h List.not_mem_nil⟩⟩⟩⟩⟩) (lw_meth q938)) q934 ⟨by decide +kernel, by decide +kernel, by decide +kernel⟩ rfl hdd (by decide) rfl hcat hdg kk
  by_cases e1 : xk h b = 12
  · exact x_callAi (x := ⟨RX12, "of", "(LExamSlips$Asked;)Z"⟩) [(2, c)] 1 (hRm (Z.1, Z.2.1, ((0, h), h)) b c h) (fun hok ho fin hf => (hR_V b c h hok ho).2.1 e1 fin hf) RX14 RX12 12 rfl (by decide) e1 hbb (lw_app (List.forall_mem_cons.mpr ⟨q964, List.forall_mem_cons.mpr ⟨q935, List.forall_mem_cons.mpr ⟨q958, List.forall_mem_cons.mpr ⟨q959, List.forall_mem_cons.mpr ⟨q152, fun _ h => absurd h List.not_mem_nil⟩⟩⟩⟩⟩) (lw_meth q960)) q934 ⟨by decide +kernel, by decide +kernel, by decide +kernel⟩ rfl hdd (by decide) rfl hcat hdg kk
  by_cases e2 : xk h b = 13
  · exact x_callAi (x := ⟨RX12, "of", "(LExamSlips$Asked;)Z"⟩) [(2, c)] 1 (hRm (Z.1, Z.2.1, ((0, h), h)) b c h) (fun hok ho fin hf => (hR_V b c h hok ho).2.2.1 e2 fin hf) RX15 RX12 13 rfl (by decide) e2 hbb (lw_app (List.forall_mem_cons.mpr ⟨q964, List.forall_mem_cons.mpr ⟨q935, List.forall_mem_cons.mpr ⟨q965, List.forall_mem_cons.mpr ⟨q962, List.forall_mem_cons.mpr ⟨q153, fun _ h => absurd h List.not_mem_nil⟩⟩⟩⟩⟩) (lw_meth q963)) q934 ⟨by decide +kernel, by decide +kernel, by decide +kernel⟩ rfl hdd (by decide) rfl hcat hdg kk
  exact x_noV (push := fun r => (0, r) :: st) [(2, c), (2, b)] (hRm (Z.1, Z.2.1, ((0, h), h)) b c h) (fun hok ho fin hf => by
    have ho : okXs (xn h) [(2, b), (2, c)] := okXs.c ho.t.hd (okXs.c ho.hd okXs.nil)
    rcases ((hR_V b c h hok ho).2.2.2 fin hf).2.2 with e | e | e <;> contradiction) rfl kk
noncomputable def F_X13_of_28 (s0 : Int) (x0 : Int) (x1 : Int) (x2 : Int) (h : XH) : Option XR := ob h x1 3 <| if xv h x1 1 = 0 then (ob h x0 11 <| if xv h x0 2 = 60 then (if s0 ≤ x2 then (some (0, h)) else (some (1, h))) else (ob h x0 11 <| if xv h x0 2 = 62 then (if x2 ≤ s0 then (some (0, h)) else (some (1, h))) else (if x2 = s0 then (some (1, h)) else (some (0, h))))) else (some (0, h))
theorem WF_X13_of_28 {d : Nat} {Z : XZ XR} (hdd : 63 ≤ d) : ∀ s0 x0 x1 x2 h, XG xfh (xQ 0) RX13 "of" cX13_of 6 (some .boolean) d Z 28 [(0, (2, x0)), (1, (2, x1)), (2, (1, x2))] [(1, s0)] h (F_X13_of_28 s0 x0 x1 x2 h) := by
  intro s0 x0 x1 x2 h
  unfold F_X13_of_28
  refine x_lstore (lv' := [(4, (1, s0)), (0, (2, x0)), (1, (2, x1)), (2, (1, x2))]) dX13_of_28 (by decide) rfl ?_
  refine x_aload_n 2 dX13_of_30 rfl rfl ?_
  refine xg_X13_26 dX13_of_31 ?_
  refine x_if_ne 86 dX13_of_34 (by decide) (fun _ => ?_) (fun _ => ?_)
  · refine x_ic dX13_of_86 (by decide) (by decide) ?_
    exact x_cb (by decide) (x_zret rfl dX13_of_87)
  · refine x_aload_n 1 dX13_of_37 rfl rfl ?_
    refine xg_X13_13 dX13_of_38 ?_
    refine x_bp dX13_of_41 (by decide) (by decide) ?_
    refine x_icmp_ne 56 dX13_of_43 (by decide) (fun _ => ?_) (fun _ => ?_)
    · refine x_aload_n 1 dX13_of_56 rfl rfl ?_
      refine xg_X13_13 dX13_of_57 ?_
      refine x_bp dX13_of_60 (by decide) (by decide) ?_
      refine x_icmp_ne 75 dX13_of_62 (by decide) (fun _ => ?_) (fun _ => ?_)
      · refine x_lload_n 3 dX13_of_75 rfl rfl ?_
        refine x_lload 0 dX13_of_76 rfl ?_
        refine x_lcmp_ne 86 dX13_of_78 dX13_of_79 (by decide) (fun _ => ?_) (fun _ => ?_)
        · refine x_ic dX13_of_86 (by decide) (by decide) ?_
          exact x_cb (by decide) (x_zret rfl dX13_of_87)
        · refine x_ic dX13_of_82 (by decide) (by decide) ?_
          refine x_goto 87 dX13_of_83 (by decide) ?_
          exact x_cb (by decide) (x_zret rfl dX13_of_87)
      · refine x_lload_n 3 dX13_of_65 rfl rfl ?_
        refine x_lload 0 dX13_of_66 rfl ?_
        refine x_lcmp_le 86 dX13_of_68 dX13_of_69 (by decide) (fun _ => ?_) (fun _ => ?_)
        · refine x_ic dX13_of_86 (by decide) (by decide) ?_
          exact x_cb (by decide) (x_zret rfl dX13_of_87)
        · refine x_goto 82 dX13_of_72 (by decide) ?_
          refine x_ic dX13_of_82 (by decide) (by decide) ?_
          refine x_goto 87 dX13_of_83 (by decide) ?_
          exact x_cb (by decide) (x_zret rfl dX13_of_87)
    · refine x_lload_n 3 dX13_of_46 rfl rfl ?_
      refine x_lload 0 dX13_of_47 rfl ?_
      refine x_lcmp_ge 86 dX13_of_49 dX13_of_50 (by decide) (fun _ => ?_) (fun _ => ?_)
      · refine x_ic dX13_of_86 (by decide) (by decide) ?_
        exact x_cb (by decide) (x_zret rfl dX13_of_87)
      · refine x_goto 82 dX13_of_53 (by decide) ?_
        refine x_ic dX13_of_82 (by decide) (by decide) ?_
        refine x_goto 87 dX13_of_83 (by decide) ?_
        exact x_cb (by decide) (x_zret rfl dX13_of_87)
noncomputable def F_X13_of (x0 : Int) (x1 : Int) (h : XH) : Option XR := ob h x0 11 <| mb (VSum RF (xv h x0 0) x1 h) fun r1 h2 => ob h2 x1 3 <| if xv h2 x1 1 = 0 then (ob h2 x0 11 <| mb (VSum RF (xv h2 x0 1) x1 h2) fun r3 h4 => F_X13_of_28 r3 x0 x1 r1 h4) else (F_X13_of_28 0 x0 x1 r1 h2)
theorem WF_X13_of {d : Nat} {Z : XZ XR} (hdd : 63 ≤ d) : ∀ x0 x1 h, XG xfh (xQ 0) RX13 "of" cX13_of 6 (some .boolean) d Z 0 [(0, (2, x0)), (1, (2, x1))] [] h (F_X13_of x0 x1 h) := by
  intro x0 x1 h
  unfold F_X13_of
  refine x_aload_n 0 dX13_of_0 rfl rfl ?_
  refine xg_X13_7 dX13_of_1 ?_
  refine x_aload_n 1 dX13_of_4 rfl rfl ?_
  refine clv_X13_20 (by omega) (Nat.le_of_ble_eq_true rfl) dX13_of_5 fun r1 h2 => ?_
  refine x_lstore_n (lv' := [(2, (1, r1)), (0, (2, x0)), (1, (2, x1))]) dX13_of_8 rfl (by decide) rfl ?_
  refine x_aload_n 2 dX13_of_9 rfl rfl ?_
  refine xg_X13_26 dX13_of_10 ?_
  refine x_if_eq 20 dX13_of_13 (by decide) (fun _ => ?_) (fun _ => ?_)
  · refine x_aload_n 1 dX13_of_20 rfl rfl ?_
    refine xg_X13_17 dX13_of_21 ?_
    refine x_aload_n 2 dX13_of_24 rfl rfl ?_
    refine clv_X13_20 (by omega) (Nat.le_of_ble_eq_true rfl) dX13_of_25 fun r3 h4 => ?_
    exact x_sub [1, 2, 0] rfl (WF_X13_of_28 hdd r3 x0 x1 r1 h4)
  · refine x_l0 dX13_of_16 ?_
    refine x_goto 28 dX13_of_17 (by decide) ?_
    exact x_sub [1, 2, 0] rfl (WF_X13_of_28 hdd 0 x0 x1 r1 h2)
theorem SF_X13_of (l : Launch) {d : Nat} (hdd : 63 ≤ d) (x0 : Int) (x1 : Int) (h : XH) (hok : okH h) (ho : okXs (xn h) [(2, x0), (2, x1)]) (fin : XR) (hf : F_X13_of x0 x1 h = some fin) : xSpec l yX13_of cX13_of 6 (some .boolean) d 0 [(2, x0), (2, x1)] h fin := x_enter (lv := [(0, (2, x0)), (1, (2, x1))]) (by decide) rfl rfl (Nat.le_of_ble_eq_true rfl) rfl (fun Z _ => WF_X13_of hdd x0 x1 h) hok ho fin hf
noncomputable def F_X14_of_b (R_V : Int → Int → XH → Option XR) (x0 : Int) (x1 : Int) (h : XH) : Option XR := ob h x0 12 <| mb (R_V (xv h x0 0) x1 h) fun r1 h2 => if r1 = 0 then (ob h2 x1 3 <| if xv h2 x1 1 = 0 then (some (1, h2)) else (some (0, h2))) else (some (0, h2))
theorem WF_X14_of_b {d : Nat} {dr : Nat} {Z : XZ XR} (hdd : dr + 1 ≤ d ∧ 63 ≤ d) {R_V : Int → Int → XH → Option XR} (hRm : vMono R_V) (hR_V : ∀ (b c : Int) (h : XH), okH h → okXs (xn h) [(2, b), (2, c)] → (xk h b = 11 → ∀ fin, R_V b c h = some fin → xSpec (yL Z) yX13_of cX13_of 6 (some .boolean) dr 0 [(2, b), (2, c)] h fin) ∧ (xk h b = 12 → ∀ fin, R_V b c h = some fin → xSpec (yL Z) yX14_of cX14_of 2 (some .boolean) dr 0 [(2, b), (2, c)] h fin) ∧ (xk h b = 13 → ∀ fin, R_V b c h = some fin → xSpec (yL Z) yX15_of cX15_of 7 (some .boolean) dr 0 [(2, b), (2, c)] h fin) ∧ (∀ fin, R_V b c h = some fin → 1 ≤ b ∧ b ≤ (xn h : Int) ∧ (xk h b = 11 ∨ xk h b = 12 ∨ xk h b = 13))) : ∀ x0 x1 h, XG xfh (xQ 0) RX14 "of" cX14_of 2 (some .boolean) d Z 0 [(0, (2, x0)), (1, (2, x1))] [] h (F_X14_of_b R_V x0 x1 h) := by
  intro x0 x1 h
  unfold F_X14_of_b
  refine x_aload_n 0 dX14_of_0 rfl rfl ?_
  refine xg_X14_7 dX14_of_1 ?_
  refine x_aload_n 1 dX14_of_4 rfl rfl ?_
  refine crv_X14_13 hRm hR_V hdd.1 (Nat.le_of_ble_eq_true rfl) dX14_of_5 fun r1 h2 => ?_
  refine x_if_ne 22 dX14_of_8 (by decide) (fun _ => ?_) (fun _ => ?_)
  · refine x_ic dX14_of_22 (by decide) (by decide) ?_
    exact x_cb (by decide) (x_zret rfl dX14_of_23)
  · refine x_aload_n 1 dX14_of_11 rfl rfl ?_
    refine xg_X14_17 dX14_of_12 ?_
    refine x_if_ne 22 dX14_of_15 (by decide) (fun _ => ?_) (fun _ => ?_)
    · refine x_ic dX14_of_22 (by decide) (by decide) ?_
      exact x_cb (by decide) (x_zret rfl dX14_of_23)
    · refine x_ic dX14_of_18 (by decide) (by decide) ?_
      refine x_goto 23 dX14_of_19 (by decide) ?_
      exact x_cb (by decide) (x_zret rfl dX14_of_23)
theorem SF_X14_of_b (l : Launch) {d dr : Nat} (hdd : dr + 1 ≤ d ∧ 63 ≤ d) {R_V : Int → Int → XH → Option XR} (hRm : vMono R_V) (hR_V : ∀ (b c : Int) (h : XH), okH h → okXs (xn h) [(2, b), (2, c)] → (xk h b = 11 → ∀ fin, R_V b c h = some fin → xSpec l yX13_of cX13_of 6 (some .boolean) dr 0 [(2, b), (2, c)] h fin) ∧ (xk h b = 12 → ∀ fin, R_V b c h = some fin → xSpec l yX14_of cX14_of 2 (some .boolean) dr 0 [(2, b), (2, c)] h fin) ∧ (xk h b = 13 → ∀ fin, R_V b c h = some fin → xSpec l yX15_of cX15_of 7 (some .boolean) dr 0 [(2, b), (2, c)] h fin) ∧ (∀ fin, R_V b c h = some fin → 1 ≤ b ∧ b ≤ (xn h : Int) ∧ (xk h b = 11 ∨ xk h b = 12 ∨ xk h b = 13))) (x0 : Int) (x1 : Int) (h : XH) (hok : okH h) (ho : okXs (xn h) [(2, x0), (2, x1)]) (fin : XR) (hf : F_X14_of_b R_V x0 x1 h = some fin) : xSpec l yX14_of cX14_of 2 (some .boolean) d 0 [(2, x0), (2, x1)] h fin := x_enter (lv := [(0, (2, x0)), (1, (2, x1))]) (by decide) rfl rfl (Nat.le_of_ble_eq_true rfl) rfl (fun Z hZ => by subst hZ; exact WF_X14_of_b hdd hRm hR_V x0 x1 h) hok ho fin hf
noncomputable def F_X15_of_49 (R_V : Int → Int → XH → Option XR) (x0 : Int) (h : XH) : Option XR := ob h x0 13 <| nm (α := Int) (if xv h x0 0 = 0 then 1 else 0) fun v1 => cb v1 (some (v1, h))
theorem WF_X15_of_49 {d : Nat} {dr : Nat} {Z : XZ XR} (hdd : dr + 1 ≤ d ∧ 63 ≤ d) {R_V : Int → Int → XH → Option XR} (hRm : vMono R_V) (hR_V : ∀ (b c : Int) (h : XH), okH h → okXs (xn h) [(2, b), (2, c)] → (xk h b = 11 → ∀ fin, R_V b c h = some fin → xSpec (yL Z) yX13_of cX13_of 6 (some .boolean) dr 0 [(2, b), (2, c)] h fin) ∧ (xk h b = 12 → ∀ fin, R_V b c h = some fin → xSpec (yL Z) yX14_of cX14_of 2 (some .boolean) dr 0 [(2, b), (2, c)] h fin) ∧ (xk h b = 13 → ∀ fin, R_V b c h = some fin → xSpec (yL Z) yX15_of cX15_of 7 (some .boolean) dr 0 [(2, b), (2, c)] h fin) ∧ (∀ fin, R_V b c h = some fin → 1 ≤ b ∧ b ≤ (xn h : Int) ∧ (xk h b = 11 ∨ xk h b = 12 ∨ xk h b = 13))) : ∀ x0 h, XG xfh (xQ 0) RX15 "of" cX15_of 7 (some .boolean) d Z 49 [(0, (2, x0))] [] h (F_X15_of_49 R_V x0 h) := by
  intro x0 h
  unfold F_X15_of_49
  refine x_aload_n 0 dX15_of_49 rfl rfl ?_
  refine xg_X15_7 dX15_of_50 ?_
  refine x_join 61 (fun v1 => [(0, v1)]) (fun v1 => ?_) (fun hJ => ?_)
  · exact x_zret rfl dX15_of_61
  · refine x_if_neF 60 dX15_of_53 (by decide) (fun _ => ?_) (fun _ => ?_)
    · refine x_ic dX15_of_60 (by decide) (by decide) ?_
      exact hJ _
    · refine x_ic dX15_of_56 (by decide) (by decide) ?_
      refine x_goto 61 dX15_of_57 (by decide) ?_
      exact hJ _
noncomputable def F_X15_of_68 (R_V : Int → Int → XH → Option XR) (x0 : Int) (h : XH) : Option XR := ob h x0 13 <| cb (xv h x0 0) (some (xv h x0 0, h))
theorem WF_X15_of_68 {d : Nat} {dr : Nat} {Z : XZ XR} (hdd : dr + 1 ≤ d ∧ 63 ≤ d) {R_V : Int → Int → XH → Option XR} (hRm : vMono R_V) (hR_V : ∀ (b c : Int) (h : XH), okH h → okXs (xn h) [(2, b), (2, c)] → (xk h b = 11 → ∀ fin, R_V b c h = some fin → xSpec (yL Z) yX13_of cX13_of 6 (some .boolean) dr 0 [(2, b), (2, c)] h fin) ∧ (xk h b = 12 → ∀ fin, R_V b c h = some fin → xSpec (yL Z) yX14_of cX14_of 2 (some .boolean) dr 0 [(2, b), (2, c)] h fin) ∧ (xk h b = 13 → ∀ fin, R_V b c h = some fin → xSpec (yL Z) yX15_of cX15_of 7 (some .boolean) dr 0 [(2, b), (2, c)] h fin) ∧ (∀ fin, R_V b c h = some fin → 1 ≤ b ∧ b ≤ (xn h : Int) ∧ (xk h b = 11 ∨ xk h b = 12 ∨ xk h b = 13))) : ∀ x0 h, XG xfh (xQ 0) RX15 "of" cX15_of 7 (some .boolean) d Z 68 [(0, (2, x0))] [] h (F_X15_of_68 R_V x0 h) := by
  intro x0 h
  unfold F_X15_of_68
  refine x_aload_n 0 dX15_of_68 rfl rfl ?_
  refine xg_X15_7 dX15_of_69 ?_
  exact x_zret rfl dX15_of_72
noncomputable def F_X15_of_11 (R_V : Int → Int → XH → Option XR) : Nat → Int → Int → Int → Int → Int → XH → Option XR
  | 0, _, _, _, _, _, _ => none
  | n + 1, x0, x1, x2, x3, x4, h => if x3 ≤ x4 then (F_X15_of_68 R_V x0 h) else (ai h x2 8 x4 <| nm (α := Int) (xv h x2 x4) fun v1 => mb (R_V v1 x1 h) fun r2 h3 => ob h3 x1 3 <| if xv h3 x1 1 = 0 then (ob h3 x0 13 <| if r2 = xv h3 x0 0 then (nm (w32 (x4 + 1)) fun v4 => F_X15_of_11 R_V n x0 x1 x2 x3 v4 h3) else (F_X15_of_49 R_V x0 h3)) else (some (0, h3)))
theorem WF_X15_of_11 {d : Nat} {dr : Nat} {Z : XZ XR} (hdd : dr + 1 ≤ d ∧ 63 ≤ d) {R_V : Int → Int → XH → Option XR} (hRm : vMono R_V) (hR_V : ∀ (b c : Int) (h : XH), okH h → okXs (xn h) [(2, b), (2, c)] → (xk h b = 11 → ∀ fin, R_V b c h = some fin → xSpec (yL Z) yX13_of cX13_of 6 (some .boolean) dr 0 [(2, b), (2, c)] h fin) ∧ (xk h b = 12 → ∀ fin, R_V b c h = some fin → xSpec (yL Z) yX14_of cX14_of 2 (some .boolean) dr 0 [(2, b), (2, c)] h fin) ∧ (xk h b = 13 → ∀ fin, R_V b c h = some fin → xSpec (yL Z) yX15_of cX15_of 7 (some .boolean) dr 0 [(2, b), (2, c)] h fin) ∧ (∀ fin, R_V b c h = some fin → 1 ≤ b ∧ b ≤ (xn h : Int) ∧ (xk h b = 11 ∨ xk h b = 12 ∨ xk h b = 13))) : ∀ n x0 x1 x2 x3 x4 h, XG xfh (xQ 0) RX15 "of" cX15_of 7 (some .boolean) d Z 11 [(0, (2, x0)), (1, (2, x1)), (2, (2, x2)), (3, (0, x3)), (4, (0, x4))] [] h (F_X15_of_11 R_V n x0 x1 x2 x3 x4 h) := by
  intro n
  induction n with
  | zero => intro x0 x1 x2 x3 x4 h; exact x_none
  | succ n ih =>
    intro x0 x1 x2 x3 x4 h
    rw [F_X15_of_11]
    refine x_iload 4 dX15_of_11 rfl ?_
    refine x_iload_n 3 dX15_of_13 rfl rfl ?_
    refine x_icmp_ge 68 dX15_of_14 (by decide) (fun _ => ?_) (fun _ => ?_)
    · exact x_sub [0] rfl (WF_X15_of_68 hdd hRm hR_V x0 h)
    · refine x_aload_n 2 dX15_of_17 rfl rfl ?_
      refine x_iload 4 dX15_of_18 rfl ?_
      refine x_aald 8 _ (by decide) (by decide) rfl dX15_of_20 ?_
      refine x_nmT fun v1 => ?_
      refine x_astore (lv' := [(5, (2, v1)), (0, (2, x0)), (1, (2, x1)), (2, (2, x2)), (3, (0, x3)), (4, (0, x4))]) dX15_of_21 (by decide) rfl ?_
      refine x_aload 0 dX15_of_23 rfl ?_
      refine x_aload_n 2 dX15_of_25 rfl rfl ?_
      refine crv_X15_17 hRm hR_V hdd.1 (Nat.le_of_ble_eq_true rfl) dX15_of_26 fun r2 h3 => ?_
      refine x_istore (lv' := [(6, (0, r2)), (5, (2, v1)), (0, (2, x0)), (1, (2, x1)), (2, (2, x2)), (3, (0, x3)), (4, (0, x4))]) dX15_of_29 (by decide) rfl ?_
      refine x_aload_n 3 dX15_of_31 rfl rfl ?_
      refine xg_X15_21 dX15_of_32 ?_
      refine x_if_eq 40 dX15_of_35 (by decide) (fun _ => ?_) (fun _ => ?_)
      · refine x_iload 0 dX15_of_40 rfl ?_
        refine x_aload_n 2 dX15_of_42 rfl rfl ?_
        refine xg_X15_7 dX15_of_43 ?_
        refine x_icmp_eq 62 dX15_of_46 (by decide) (fun _ => ?_) (fun _ => ?_)
        · refine x_iinc 6 dX15_of_62 rfl (by decide) fun v4 => x_lv (lv' := [(4, (0, v4)), (6, (0, r2)), (5, (2, v1)), (0, (2, x0)), (1, (2, x1)), (2, (2, x2)), (3, (0, x3))]) rfl ?_
          refine x_goto 11 dX15_of_65 (by decide) ?_
          exact x_sub [3, 4, 5, 6, 0] rfl (ih x0 x1 x2 x3 v4 h3)
        · exact x_sub [2] rfl (WF_X15_of_49 hdd hRm hR_V x0 h3)
      · refine x_ic dX15_of_38 (by decide) (by decide) ?_
        exact x_cb (by decide) (x_zret rfl dX15_of_39)
noncomputable def F_X15_of_b (R_V : Int → Int → XH → Option XR) (x0 : Int) (x1 : Int) (h : XH) : Option XR := ob h x0 13 <| nm (α := Int) (xv h x0 1) fun v1 => al h v1 8 <| nm (α := Int) ((xl h v1 : Int)) fun v2 => F_X15_of_11 R_V FU x0 x1 v1 v2 0 h
theorem WF_X15_of_b {d : Nat} {dr : Nat} {Z : XZ XR} (hdd : dr + 1 ≤ d ∧ 63 ≤ d) {R_V : Int → Int → XH → Option XR} (hRm : vMono R_V) (hR_V : ∀ (b c : Int) (h : XH), okH h → okXs (xn h) [(2, b), (2, c)] → (xk h b = 11 → ∀ fin, R_V b c h = some fin → xSpec (yL Z) yX13_of cX13_of 6 (some .boolean) dr 0 [(2, b), (2, c)] h fin) ∧ (xk h b = 12 → ∀ fin, R_V b c h = some fin → xSpec (yL Z) yX14_of cX14_of 2 (some .boolean) dr 0 [(2, b), (2, c)] h fin) ∧ (xk h b = 13 → ∀ fin, R_V b c h = some fin → xSpec (yL Z) yX15_of cX15_of 7 (some .boolean) dr 0 [(2, b), (2, c)] h fin) ∧ (∀ fin, R_V b c h = some fin → 1 ≤ b ∧ b ≤ (xn h : Int) ∧ (xk h b = 11 ∨ xk h b = 12 ∨ xk h b = 13))) : ∀ x0 x1 h, XG xfh (xQ 0) RX15 "of" cX15_of 7 (some .boolean) d Z 0 [(0, (2, x0)), (1, (2, x1))] [] h (F_X15_of_b R_V x0 x1 h) := by
  intro x0 x1 h
  unfold F_X15_of_b
  refine x_aload_n 0 dX15_of_0 rfl rfl ?_
  refine xg_X15_13 dX15_of_1 ?_
  refine x_nmT fun v1 => ?_
  refine x_astore_n (lv' := [(2, (2, v1)), (0, (2, x0)), (1, (2, x1))]) dX15_of_4 rfl (by decide) rfl ?_
  refine x_aload_n 0 dX15_of_5 rfl rfl ?_
  refine x_alen 8 (by decide) dX15_of_6 ?_
  refine x_nmT fun v2 => ?_
  refine x_istore_n (lv' := [(3, (0, v2)), (2, (2, v1)), (0, (2, x0)), (1, (2, x1))]) dX15_of_7 rfl (by decide) rfl ?_
  refine x_ic dX15_of_8 (by decide) (by decide) ?_
  refine x_istore (lv' := [(4, (0, 0)), (3, (0, v2)), (2, (2, v1)), (0, (2, x0)), (1, (2, x1))]) dX15_of_9 (by decide) rfl ?_
  exact x_sub [3, 4, 2, 1, 0] rfl (WF_X15_of_11 hdd hRm hR_V FU x0 x1 v1 v2 0 h)
theorem SF_X15_of_b (l : Launch) {d dr : Nat} (hdd : dr + 1 ≤ d ∧ 63 ≤ d) {R_V : Int → Int → XH → Option XR} (hRm : vMono R_V) (hR_V : ∀ (b c : Int) (h : XH), okH h → okXs (xn h) [(2, b), (2, c)] → (xk h b = 11 → ∀ fin, R_V b c h = some fin → xSpec l yX13_of cX13_of 6 (some .boolean) dr 0 [(2, b), (2, c)] h fin) ∧ (xk h b = 12 → ∀ fin, R_V b c h = some fin → xSpec l yX14_of cX14_of 2 (some .boolean) dr 0 [(2, b), (2, c)] h fin) ∧ (xk h b = 13 → ∀ fin, R_V b c h = some fin → xSpec l yX15_of cX15_of 7 (some .boolean) dr 0 [(2, b), (2, c)] h fin) ∧ (∀ fin, R_V b c h = some fin → 1 ≤ b ∧ b ≤ (xn h : Int) ∧ (xk h b = 11 ∨ xk h b = 12 ∨ xk h b = 13))) (x0 : Int) (x1 : Int) (h : XH) (hok : okH h) (ho : okXs (xn h) [(2, x0), (2, x1)]) (fin : XR) (hf : F_X15_of_b R_V x0 x1 h = some fin) : xSpec l yX15_of cX15_of 7 (some .boolean) d 0 [(2, x0), (2, x1)] h fin := x_enter (lv := [(0, (2, x0)), (1, (2, x1))]) (by decide) rfl rfl (Nat.le_of_ble_eq_true rfl) rfl (fun Z hZ => by subst hZ; exact WF_X15_of_b hdd hRm hR_V x0 x1 h) hok ho fin hf
noncomputable def VTest : Nat → Int → Int → XH → Option XR
  | 0, _, _, _ => none
  | n + 1, b, c, h => if xk h b = 11 then (ob h b 11 <| F_X13_of b c h) else if xk h b = 12 then (ob h b 12 <| F_X14_of_b (VTest n) b c h) else if xk h b = 13 then (ob h b 13 <| F_X15_of_b (VTest n) b c h) else none
theorem SVTest : ∀ n, vMono (VTest n) ∧ ∀ (l : Launch) (dr : Nat), 63 + n ≤ dr → ∀ (b c : Int) (h : XH), okH h → okXs (xn h) [(2, b), (2, c)] → (xk h b = 11 → ∀ fin, VTest n b c h = some fin → xSpec l yX13_of cX13_of 6 (some .boolean) dr 0 [(2, b), (2, c)] h fin) ∧ (xk h b = 12 → ∀ fin, VTest n b c h = some fin → xSpec l yX14_of cX14_of 2 (some .boolean) dr 0 [(2, b), (2, c)] h fin) ∧ (xk h b = 13 → ∀ fin, VTest n b c h = some fin → xSpec l yX15_of cX15_of 7 (some .boolean) dr 0 [(2, b), (2, c)] h fin) ∧ (∀ fin, VTest n b c h = some fin → 1 ≤ b ∧ b ≤ (xn h : Int) ∧ (xk h b = 11 ∨ xk h b = 12 ∨ xk h b = 13)) := by
  intro n
  induction n with
  | zero => exact ⟨(fun Z b c h fin hf => by cases hf), fun l dr _ b c h _ _ => ⟨(fun _ fin hf => by cases hf), (fun _ fin hf => by cases hf), (fun _ fin hf => by cases hf), (fun fin hf => by cases hf)⟩⟩
  | succ n ih =>
    obtain ⟨im, is⟩ := ih
    refine ⟨fun Z b c h => ?_, fun l dr hd b c h hok ho => ⟨?_, ?_, ?_, ?_⟩⟩
    · rw [VTest]
      refine XM.ite (fun _ => ((WF_X13_of (Z := Z) (d := 63) (by decide) b c h).1).ob) (fun _ => ?_)
      refine XM.ite (fun _ => ((WF_X14_of_b (Z := Z) (d := 63 + n + 1) (dr := 63 + n) ⟨Nat.le_refl _, by omega⟩ im (is (yL Z) (63 + n) (Nat.le_refl _)) b c h).1).ob) (fun _ => ?_)
      refine XM.ite (fun _ => ((WF_X15_of_b (Z := Z) (d := 63 + n + 1) (dr := 63 + n) ⟨Nat.le_refl _, by omega⟩ im (is (yL Z) (63 + n) (Nat.le_refl _)) b c h).1).ob) (fun _ => ?_)
      exact fun fin hf => by cases hf
    · intro hk fin hf
      rw [VTest, if_pos hk] at hf
      obtain ⟨_, _, _, hf⟩ := ob_some hf
      exact SF_X13_of l (d := dr) (by omega) b c h hok ho fin hf
    · intro hk fin hf
      rw [VTest, if_neg (by omega), if_pos hk] at hf
      obtain ⟨_, _, _, hf⟩ := ob_some hf
      exact SF_X14_of_b l (d := dr) (dr := dr - 1) ⟨by omega, by omega⟩ im (is l (dr - 1) (by omega)) b c h hok ho fin hf
    · intro hk fin hf
      rw [VTest, if_neg (by omega), if_neg (by omega), if_pos hk] at hf
      obtain ⟨_, _, _, hf⟩ := ob_some hf
      exact SF_X15_of_b l (d := dr) (dr := dr - 1) ⟨by omega, by omega⟩ im (is l (dr - 1) (by omega)) b c h hok ho fin hf
    · intro fin hf
      rw [VTest] at hf
      by_cases e0 : xk h b = 11
      · rw [if_pos e0] at hf
        obtain ⟨o1, o2, _, _⟩ := ob_some hf
        exact ⟨o1, o2, Or.inl e0⟩
      rw [if_neg e0] at hf
      by_cases e1 : xk h b = 12
      · rw [if_pos e1] at hf
        obtain ⟨o1, o2, _, _⟩ := ob_some hf
        exact ⟨o1, o2, Or.inr (Or.inl e1)⟩
      rw [if_neg e1] at hf
      by_cases e2 : xk h b = 13
      · rw [if_pos e2] at hf
        obtain ⟨o1, o2, _, _⟩ := ob_some hf
        exact ⟨o1, o2, Or.inr (Or.inr (e2))⟩
      rw [if_neg e2] at hf
      cases hf
theorem xg_X16_13 {ρ : Type} {fh : ρ → XH} {QQ : XZ ρ → State → Prop} {mn : String} {cc : ByteArray} {nL : Nat} {ret : Option FieldType} {d : Nat} {Z : XZ ρ} {pc : Nat} {lv : List (Nat × AV)} {st : List AV} {h : XH} {res : Option ρ} {a : Int} (hd : decode cc pc = .ok (.getfield 13, 3)) (kk : XG fh QQ RX16 mn cc nL ret d Z (pc + 3) lv ((2, xv h a 1) :: st) h res) : XG fh QQ RX16 mn cc nL ret d Z pc lv ((2, a) :: st) h (ob h a 14 res) := x_get (C := RX16) (ref := RX16) 14 1 rfl in_X16 (by decide) rfl (by decide) (Or.inl rfl) q877 hd kk
theorem xg_X16_17 {ρ : Type} {fh : ρ → XH} {QQ : XZ ρ → State → Prop} {mn : String} {cc : ByteArray} {nL : Nat} {ret : Option FieldType} {d : Nat} {Z : XZ ρ} {pc : Nat} {lv : List (Nat × AV)} {st : List AV} {h : XH} {res : Option ρ} {a : Int} (hd : decode cc pc = .ok (.getfield 17, 3)) (kk : XG fh QQ RX16 mn cc nL ret d Z (pc + 3) lv ((2, xv h a 2) :: st) h res) : XG fh QQ RX16 mn cc nL ret d Z pc lv ((2, a) :: st) h (ob h a 14 res) := x_get (C := RX16) (ref := RX16) 14 2 rfl in_X16 (by decide) rfl (by decide) (Or.inl rfl) q878 hd kk
theorem xg_X16_21 {ρ : Type} {fh : ρ → XH} {QQ : XZ ρ → State → Prop} {mn : String} {cc : ByteArray} {nL : Nat} {ret : Option FieldType} {d : Nat} {Z : XZ ρ} {pc : Nat} {lv : List (Nat × AV)} {st : List AV} {h : XH} {res : Option ρ} {a : Int} (hd : decode cc pc = .ok (.getfield 21, 3)) (kk : XG fh QQ RX16 mn cc nL ret d Z (pc + 3) lv ((0, xv h a 1) :: st) h res) : XG fh QQ RX16 mn cc nL ret d Z pc lv ((2, a) :: st) h (ob h a 3 res) := x_getN (C := RX2) (ref := RX2) 3 1 rfl in_X2 (by decide) rfl (by decide) (Or.inl rfl) q264 hd kk
theorem xp_X16_21 {ρ : Type} {fh : ρ → XH} {QQ : XZ ρ → State → Prop} {mn : String} {cc : ByteArray} {nL : Nat} {ret : Option FieldType} {d : Nat} {Z : XZ ρ} {pc : Nat} {lv : List (Nat × AV)} {st : List AV} {h : XH} {f : XH → Option ρ} {a x : Int} (hd : decode cc pc = .ok (.putfield 21, 3)) (kk : ∀ h1, XG fh QQ RX16 mn cc nL ret d Z (pc + 3) lv st h1 (f h1)) : XG fh QQ RX16 mn cc nL ret d Z pc lv ((0, x) :: (2, a) :: st) h (ob h a 3 (cb x (nm (hset h a 1 x) f))) := x_putN (C := RX2) (ref := RX2) 3 1 rfl in_X2 tyX2_ok nmX2 (by decide) rfl (by decide) (Or.inl rfl) (by decide) (xfit_X2 1 (by decide)) 0 rfl q264 hd kk
theorem xp_X16_38 {ρ : Type} {fh : ρ → XH} {QQ : XZ ρ → State → Prop} {mn : String} {cc : ByteArray} {nL : Nat} {ret : Option FieldType} {d : Nat} {Z : XZ ρ} {pc : Nat} {lv : List (Nat × AV)} {st : List AV} {h : XH} {f : XH → Option ρ} {a x : Int} (hd : decode cc pc = .ok (.putfield 38, 3)) (kk : ∀ h1, XG fh QQ RX16 mn cc nL ret d Z (pc + 3) lv st h1 (f h1)) : XG fh QQ RX16 mn cc nL ret d Z pc lv ((1, x) :: (2, a) :: st) h (ob h a 14 (nm (hset h a 3 x) f)) := x_put (C := RX16) (ref := RX16) 14 3 rfl in_X16 tyX16_ok nmX16 (by decide) rfl (by decide) (Or.inl rfl) (by decide) (xfit_X16 3 (by decide)) 1 rfl q879 hd kk
theorem clv_X16_27 {ρ : Type} {fh : ρ → XH} {QQ : XZ ρ → State → Prop} {mn : String} {cc : ByteArray} {nL : Nat} {ret : Option FieldType} {d : Nat} {Z : XZ ρ} {pc : Nat} {lv : List (Nat × AV)} {st : List AV} {h : XH} {g : Int → XH → Option ρ} {b c : Int} (hdd : 124 ≤ d) (hcat : (st.map fun v => if v.1 = 1 then 2 else 1).sum ≤ 8) (hdg : decode cc pc = .ok (.invokevirtual 27, 3)) (kk : ∀ r h1, XG fh QQ RX16 mn cc nL ret d Z (pc + 3) lv ((0, r) :: st) h1 (g r h1)) : XG fh QQ RX16 mn cc nL ret d Z pc lv ((2, c) :: (2, b) :: st) h (mb (VTest RF b c h) g) := by
  have hbb : okH h → okXs (xn h) ((2, b) :: [(2, c)]) → ∀ fin, VTest RF b c h = some fin → 1 ≤ b ∧ b ≤ (xn h : Int) := fun hok ho fin hf => ⟨(((SVTest RF).2 (yL Z) 123 (by rw [RF_eq]; decide) b c h hok ho).2.2.2 fin hf).1, (((SVTest RF).2 (yL Z) 123 (by rw [RF_eq]; decide) b c h hok ho).2.2.2 fin hf).2.1⟩
  by_cases e0 : xk h b = 11
  · exact x_callAi (x := ⟨RX12, "of", "(LExamSlips$Asked;)Z"⟩) [(2, c)] 1 ((SVTest RF).1 (Z.1, Z.2.1, ((0, h), h)) b c h) (fun hok ho fin hf => ((SVTest RF).2 (yL Z) 123 (by rw [RF_eq]; decide) b c h hok ho).1 e0 fin hf) RX13 RX12 11 rfl (by decide) e0 hbb (lw_app (List.forall_mem_cons.mpr ⟨q933, List.forall_mem_cons.mpr ⟨q935, List.forall_mem_cons.mpr ⟨q936, List.forall_mem_cons.mpr ⟨q937, List.forall_mem_cons.mpr ⟨q151, fun _ h => absurd h List.not_mem_nil⟩⟩⟩⟩⟩) (lw_meth q938)) q934 ⟨by decide +kernel, by decide +kernel, by decide +kernel⟩ rfl (by omega) (by decide) rfl hcat hdg kk
  by_cases e1 : xk h b = 12
  · exact x_callAi (x := ⟨RX12, "of", "(LExamSlips$Asked;)Z"⟩) [(2, c)] 1 ((SVTest RF).1 (Z.1, Z.2.1, ((0, h), h)) b c h) (fun hok ho fin hf => ((SVTest RF).2 (yL Z) 123 (by rw [RF_eq]; decide) b c h hok ho).2.1 e1 fin hf) RX14 RX12 12 rfl (by decide) e1 hbb (lw_app (List.forall_mem_cons.mpr ⟨q933, List.forall_mem_cons.mpr ⟨q935, List.forall_mem_cons.mpr ⟨q958, List.forall_mem_cons.mpr ⟨q959, List.forall_mem_cons.mpr ⟨q152, fun _ h => absurd h List.not_mem_nil⟩⟩⟩⟩⟩) (lw_meth q960)) q934 ⟨by decide +kernel, by decide +kernel, by decide +kernel⟩ rfl (by omega) (by decide) rfl hcat hdg kk
  by_cases e2 : xk h b = 13
  · exact x_callAi (x := ⟨RX12, "of", "(LExamSlips$Asked;)Z"⟩) [(2, c)] 1 ((SVTest RF).1 (Z.1, Z.2.1, ((0, h), h)) b c h) (fun hok ho fin hf => ((SVTest RF).2 (yL Z) 123 (by rw [RF_eq]; decide) b c h hok ho).2.2.1 e2 fin hf) RX15 RX12 13 rfl (by decide) e2 hbb (lw_app (List.forall_mem_cons.mpr ⟨q933, List.forall_mem_cons.mpr ⟨q935, List.forall_mem_cons.mpr ⟨q965, List.forall_mem_cons.mpr ⟨q962, List.forall_mem_cons.mpr ⟨q153, fun _ h => absurd h List.not_mem_nil⟩⟩⟩⟩⟩) (lw_meth q963)) q934 ⟨by decide +kernel, by decide +kernel, by decide +kernel⟩ rfl (by omega) (by decide) rfl hcat hdg kk
  exact x_noV (push := fun r => (0, r) :: st) [(2, c), (2, b)] ((SVTest RF).1 (Z.1, Z.2.1, ((0, h), h)) b c h) (fun hok ho fin hf => by
    have ho : okXs (xn h) [(2, b), (2, c)] := okXs.c ho.t.hd (okXs.c ho.hd okXs.nil)
    rcases (((SVTest RF).2 (yL Z) 123 (by rw [RF_eq]; decide) b c h hok ho).2.2.2 fin hf).2.2 with e | e | e <;> contradiction) rfl kk
theorem clv_X16_33 {ρ : Type} {fh : ρ → XH} {QQ : XZ ρ → State → Prop} {mn : String} {cc : ByteArray} {nL : Nat} {ret : Option FieldType} {d : Nat} {Z : XZ ρ} {pc : Nat} {lv : List (Nat × AV)} {st : List AV} {h : XH} {g : Int → XH → Option ρ} {b c : Int} (hdd : 63 ≤ d) (hcat : (st.map fun v => if v.1 = 1 then 2 else 1).sum ≤ 8) (hdg : decode cc pc = .ok (.invokevirtual 33, 3)) (kk : ∀ r h1, XG fh QQ RX16 mn cc nL ret d Z (pc + 3) lv ((1, r) :: st) h1 (g r h1)) : XG fh QQ RX16 mn cc nL ret d Z pc lv ((2, c) :: (2, b) :: st) h (mb (VSum RF b c h) g) := by
  have hbb : okH h → okXs (xn h) ((2, b) :: [(2, c)]) → ∀ fin, VSum RF b c h = some fin → 1 ≤ b ∧ b ≤ (xn h : Int) := fun hok ho fin hf => ⟨(((SVSum RF).2 (yL Z) 62 (by rw [RF_eq]; decide) b c h hok ho).2.2.2 fin hf).1, (((SVSum RF).2 (yL Z) 62 (by rw [RF_eq]; decide) b c h hok ho).2.2.2 fin hf).2.1⟩
  by_cases e0 : xk h b = 8
  · exact x_callAl (x := ⟨RX8, "of", "(LExamSlips$Asked;)J"⟩) [(2, c)] 1 ((SVSum RF).1 (Z.1, Z.2.1, ((0, h), h)) b c h) (fun hok ho fin hf => ((SVSum RF).2 (yL Z) 62 (by rw [RF_eq]; decide) b c h hok ho).1 e0 fin hf) RX9 RX8 8 rfl (by decide) e0 hbb (lw_app (List.forall_mem_cons.mpr ⟨q966, List.forall_mem_cons.mpr ⟨q941, List.forall_mem_cons.mpr ⟨q942, List.forall_mem_cons.mpr ⟨q943, List.forall_mem_cons.mpr ⟨q147, fun _ h => absurd h List.not_mem_nil⟩⟩⟩⟩⟩) (lw_meth q944)) q940 ⟨by decide +kernel, by decide +kernel, by decide +kernel⟩ rfl (by omega) (by decide) rfl hcat hdg kk
  by_cases e1 : xk h b = 9
  · exact x_callAl (x := ⟨RX8, "of", "(LExamSlips$Asked;)J"⟩) [(2, c)] 1 ((SVSum RF).1 (Z.1, Z.2.1, ((0, h), h)) b c h) (fun hok ho fin hf => ((SVSum RF).2 (yL Z) 62 (by rw [RF_eq]; decide) b c h hok ho).2.1 e1 fin hf) RX10 RX8 9 rfl (by decide) e1 hbb (lw_app (List.forall_mem_cons.mpr ⟨q966, List.forall_mem_cons.mpr ⟨q941, List.forall_mem_cons.mpr ⟨q957, List.forall_mem_cons.mpr ⟨q949, List.forall_mem_cons.mpr ⟨q148, fun _ h => absurd h List.not_mem_nil⟩⟩⟩⟩⟩) (lw_meth q950)) q940 ⟨by decide +kernel, by decide +kernel, by decide +kernel⟩ rfl (by omega) (by decide) rfl hcat hdg kk
  by_cases e2 : xk h b = 10
  · exact x_callAl (x := ⟨RX8, "of", "(LExamSlips$Asked;)J"⟩) [(2, c)] 1 ((SVSum RF).1 (Z.1, Z.2.1, ((0, h), h)) b c h) (fun hok ho fin hf => ((SVSum RF).2 (yL Z) 62 (by rw [RF_eq]; decide) b c h hok ho).2.2.1 e2 fin hf) RX11 RX8 10 rfl (by decide) e2 hbb (lw_app (List.forall_mem_cons.mpr ⟨q966, List.forall_mem_cons.mpr ⟨q941, List.forall_mem_cons.mpr ⟨q945, List.forall_mem_cons.mpr ⟨q946, List.forall_mem_cons.mpr ⟨q149, fun _ h => absurd h List.not_mem_nil⟩⟩⟩⟩⟩) (lw_meth q947)) q940 ⟨by decide +kernel, by decide +kernel, by decide +kernel⟩ rfl (by omega) (by decide) rfl hcat hdg kk
  exact x_noV (push := fun r => (1, r) :: st) [(2, c), (2, b)] ((SVSum RF).1 (Z.1, Z.2.1, ((0, h), h)) b c h) (fun hok ho fin hf => by
    have ho : okXs (xn h) [(2, b), (2, c)] := okXs.c ho.t.hd (okXs.c ho.hd okXs.nil)
    rcases (((SVSum RF).2 (yL Z) 62 (by rw [RF_eq]; decide) b c h hok ho).2.2.2 fin hf).2.2 with e | e | e <;> contradiction) rfl kk
noncomputable def F_X16_holds_23 (x0 : Int) (x1 : Int) (h : XH) : Option XR := ob h x1 3 <| if xv h x1 1 = 0 then (ob h x0 14 <| mb (VSum RF (xv h x0 1) x1 h) fun r1 h2 => ob h2 x0 14 <| nm (hset h2 x0 3 r1) fun h3 => ob h3 x1 3 <| nm (α := Int) (if xv h3 x1 1 = 0 then 1 else 0) fun v4 => cb v4 (some (v4, h3))) else (some (0, h))
theorem WF_X16_holds_23 {d : Nat} {Z : XZ XR} (hdd : 124 ≤ d) : ∀ x0 x1 h, XG xfh (xQ 0) RX16 "holds" cX16_holds 2 (some .boolean) d Z 23 [(0, (2, x0)), (1, (2, x1))] [] h (F_X16_holds_23 x0 x1 h) := by
  intro x0 x1 h
  unfold F_X16_holds_23
  refine x_aload_n 1 dX16_holds_23 rfl rfl ?_
  refine xg_X16_21 dX16_holds_24 ?_
  refine x_if_eq 32 dX16_holds_27 (by decide) (fun _ => ?_) (fun _ => ?_)
  · refine x_aload_n 0 dX16_holds_32 rfl rfl ?_
    refine x_aload_n 0 dX16_holds_33 rfl rfl ?_
    refine xg_X16_13 dX16_holds_34 ?_
    refine x_aload_n 1 dX16_holds_37 rfl rfl ?_
    refine clv_X16_33 (by omega) (Nat.le_of_ble_eq_true rfl) dX16_holds_38 fun r1 h2 => ?_
    refine xp_X16_38 dX16_holds_41 fun h3 => ?_
    refine x_aload_n 1 dX16_holds_44 rfl rfl ?_
    refine xg_X16_21 dX16_holds_45 ?_
    refine x_join 56 (fun v4 => [(0, v4)]) (fun v4 => ?_) (fun hJ => ?_)
    · exact x_zret rfl dX16_holds_56
    · refine x_if_neF 55 dX16_holds_48 (by decide) (fun _ => ?_) (fun _ => ?_)
      · refine x_ic dX16_holds_55 (by decide) (by decide) ?_
        exact hJ _
      · refine x_ic dX16_holds_51 (by decide) (by decide) ?_
        refine x_goto 56 dX16_holds_52 (by decide) ?_
        exact hJ _
  · refine x_ic dX16_holds_30 (by decide) (by decide) ?_
    exact x_cb (by decide) (x_zret rfl dX16_holds_31)
noncomputable def F_X16_holds (x0 : Int) (x1 : Int) (h : XH) : Option XR := ob h x1 3 <| cb 0 <| nm (hset h x1 1 0) fun h1 => ob h1 x0 14 <| if xv h1 x0 2 = 0 then (F_X16_holds_23 x0 x1 h1) else (ob h1 x0 14 <| mb (VTest RF (xv h1 x0 2) x1 h1) fun r2 h3 => if r2 = 0 then (some (0, h3)) else (F_X16_holds_23 x0 x1 h3))
theorem WF_X16_holds {d : Nat} {Z : XZ XR} (hdd : 124 ≤ d) : ∀ x0 x1 h, XG xfh (xQ 0) RX16 "holds" cX16_holds 2 (some .boolean) d Z 0 [(0, (2, x0)), (1, (2, x1))] [] h (F_X16_holds x0 x1 h) := by
  intro x0 x1 h
  unfold F_X16_holds
  refine x_aload_n 1 dX16_holds_0 rfl rfl ?_
  refine x_ic dX16_holds_1 (by decide) (by decide) ?_
  refine xp_X16_21 dX16_holds_2 fun h1 => ?_
  refine x_aload_n 0 dX16_holds_5 rfl rfl ?_
  refine xg_X16_17 dX16_holds_6 ?_
  refine x_ifnull 23 dX16_holds_9 (by decide) (fun _ => ?_) (fun _ => ?_)
  · exact x_sub [0, 1] rfl (WF_X16_holds_23 hdd x0 x1 h1)
  · refine x_aload_n 0 dX16_holds_12 rfl rfl ?_
    refine xg_X16_17 dX16_holds_13 ?_
    refine x_aload_n 1 dX16_holds_16 rfl rfl ?_
    refine clv_X16_27 (by omega) (Nat.le_of_ble_eq_true rfl) dX16_holds_17 fun r2 h3 => ?_
    refine x_if_eq 30 dX16_holds_20 (by decide) (fun _ => ?_) (fun _ => ?_)
    · refine x_ic dX16_holds_30 (by decide) (by decide) ?_
      exact x_cb (by decide) (x_zret rfl dX16_holds_31)
    · exact x_sub [0, 1] rfl (WF_X16_holds_23 hdd x0 x1 h3)
theorem SF_X16_holds (l : Launch) {d : Nat} (hdd : 124 ≤ d) (x0 : Int) (x1 : Int) (h : XH) (hok : okH h) (ho : okXs (xn h) [(2, x0), (2, x1)]) (fin : XR) (hf : F_X16_holds x0 x1 h = some fin) : xSpec l yX16_holds cX16_holds 2 (some .boolean) d 0 [(2, x0), (2, x1)] h fin := x_enter (lv := [(0, (2, x0)), (1, (2, x1))]) (by decide) rfl rfl (Nat.le_of_ble_eq_true rfl) rfl (fun Z _ => WF_X16_holds hdd x0 x1 h) hok ho fin hf
theorem cl_X3_19 {ρ : Type} {fh : ρ → XH} {QQ : XZ ρ → State → Prop} {mn : String} {cc : ByteArray} {nL : Nat} {ret : Option FieldType} {d : Nat} {Z : XZ ρ} {pc : Nat} {lv : List (Nat × AV)} {st : List AV} {h : XH} {g : Int → XH → Option ρ} {b a0 : Int} (hdd : 125 ≤ d) (hcat : (st.map fun v => if v.1 = 1 then 2 else 1).sum ≤ 8) (hdg : decode cc pc = .ok (.invokevirtual 19, 3)) (kk : ∀ r h1, XG fh QQ RX3 mn cc nL ret d Z (pc + 3) lv ((0, r) :: st) h1 (g r h1)) : XG fh QQ RX3 mn cc nL ret d Z pc lv ((2, a0) :: (2, b) :: st) h (ob h b 14 (mb (F_X16_holds b a0 h) g)) :=
  x_callVi [(2, a0)] 1 (WF_X16_holds (Z := (Z.1, Z.2.1, ((0, h), h))) (Nat.le_refl 124) b a0 h).1 (fun hok ho fin hf => SF_X16_holds (yL Z) (Nat.le_refl 124) b a0 h hok ho fin hf) RX16 14 rfl (by decide) (lw_V q929 q930 q931 q154 q932) ⟨rfl, by decide +kernel, by decide +kernel, by decide +kernel⟩ rfl (by omega) (by decide) rfl hcat hdg kk
theorem xg_X3_13 {ρ : Type} {fh : ρ → XH} {QQ : XZ ρ → State → Prop} {mn : String} {cc : ByteArray} {nL : Nat} {ret : Option FieldType} {d : Nat} {Z : XZ ρ} {pc : Nat} {lv : List (Nat × AV)} {st : List AV} {h : XH} {res : Option ρ} {a : Int} (hd : decode cc pc = .ok (.getfield 13, 3)) (kk : XG fh QQ RX3 mn cc nL ret d Z (pc + 3) lv ((0, xv h a 0) :: st) h res) : XG fh QQ RX3 mn cc nL ret d Z pc lv ((2, a) :: st) h (ob h a 14 res) := x_getN (C := RX16) (ref := RX16) 14 0 rfl in_X16 (by decide) rfl (by decide) (Or.inl rfl) q876 hd kk
theorem xg_X3_23 {ρ : Type} {fh : ρ → XH} {QQ : XZ ρ → State → Prop} {mn : String} {cc : ByteArray} {nL : Nat} {ret : Option FieldType} {d : Nat} {Z : XZ ρ} {pc : Nat} {lv : List (Nat × AV)} {st : List AV} {h : XH} {res : Option ρ} {a : Int} (hd : decode cc pc = .ok (.getfield 23, 3)) (kk : XG fh QQ RX3 mn cc nL ret d Z (pc + 3) lv ((1, xv h a 3) :: st) h res) : XG fh QQ RX3 mn cc nL ret d Z pc lv ((2, a) :: st) h (ob h a 14 res) := x_getN (C := RX16) (ref := RX16) 14 3 rfl in_X16 (by decide) rfl (by decide) (Or.inl rfl) q880 hd kk
theorem xg_X3_7 {ρ : Type} {fh : ρ → XH} {QQ : XZ ρ → State → Prop} {mn : String} {cc : ByteArray} {nL : Nat} {ret : Option FieldType} {d : Nat} {Z : XZ ρ} {pc : Nat} {lv : List (Nat × AV)} {st : List AV} {h : XH} {res : Option ρ} {a : Int} (hd : decode cc pc = .ok (.getfield 7, 3)) (kk : XG fh QQ RX3 mn cc nL ret d Z (pc + 3) lv ((2, xv h a 0) :: st) h res) : XG fh QQ RX3 mn cc nL ret d Z pc lv ((2, a) :: st) h (ob h a 4 res) := x_get (C := RX3) (ref := RX3) 4 0 rfl in_X3 (by decide) rfl (by decide) (Or.inl rfl) q284 hd kk
noncomputable def F_X3_tells_57 (K18 : Int → Int → Int → Int → Int → Int → Int → Int → XH → Option XR) (x1 : Int) (x2 : Int) (x4 : Int) (x5 : Int) (x6 : Int) (x8 : Int) (x9 : Int) (x10 : Int) (h : XH) : Option XR := nm (w32 (x10 + 1)) fun v1 => K18 x1 x2 x4 x5 x6 x8 x9 v1 h
theorem WF_X3_tells_57 {d : Nat} {Z : XZ XR} (hdd : 125 ≤ d) {K18 : Int → Int → Int → Int → Int → Int → Int → Int → XH → Option XR} (hK18 : ∀ x1 x2 x4 x5 x6 x8 x9 x10 h, XG xfh (xQ 0) RX3 "tells" cX3_tells 12 (some .int) d Z 18 [(1, (0, x1)), (2, (2, x2)), (4, (0, x4)), (5, (0, x5)), (6, (1, x6)), (8, (2, x8)), (9, (0, x9)), (10, (0, x10))] [] h (K18 x1 x2 x4 x5 x6 x8 x9 x10 h)) : ∀ x1 x2 x4 x5 x6 x8 x9 x10 h, XG xfh (xQ 0) RX3 "tells" cX3_tells 12 (some .int) d Z 57 [(1, (0, x1)), (2, (2, x2)), (4, (0, x4)), (5, (0, x5)), (6, (1, x6)), (8, (2, x8)), (9, (0, x9)), (10, (0, x10))] [] h (F_X3_tells_57 K18 x1 x2 x4 x5 x6 x8 x9 x10 h) := by
  intro x1 x2 x4 x5 x6 x8 x9 x10 h
  unfold F_X3_tells_57
  refine x_iinc 7 dX3_tells_57 rfl (by decide) fun v1 => x_lv (lv' := [(10, (0, v1)), (1, (0, x1)), (2, (2, x2)), (4, (0, x4)), (5, (0, x5)), (6, (1, x6)), (8, (2, x8)), (9, (0, x9))]) rfl ?_
  refine x_goto 18 dX3_tells_60 (by decide) ?_
  exact x_sub [1, 2, 3, 4, 5, 6, 7, 0] rfl (hK18 x1 x2 x4 x5 x6 x8 x9 v1 h)
noncomputable def F_X3_tells_63 (x4 : Int) (x5 : Int) (x6 : Int) (h : XH) : Option XR := nm (α := Int) (if x6 < x5 then x6 else x5) fun v1 => nm (α := Int) (if v1 < x4 then x4 else v1) fun v2 => some (w32 v2, h)
theorem WF_X3_tells_63 {d : Nat} {Z : XZ XR} (hdd : 125 ≤ d) : ∀ x4 x5 x6 h, XG xfh (xQ 0) RX3 "tells" cX3_tells 12 (some .int) d Z 63 [(4, (0, x4)), (5, (0, x5)), (6, (1, x6))] [] h (F_X3_tells_63 x4 x5 x6 h) := by
  intro x4 x5 x6 h
  unfold F_X3_tells_63
  refine x_iload 0 dX3_tells_63 rfl ?_
  refine x_i2l dX3_tells_65 ?_
  refine x_iload 1 dX3_tells_66 rfl ?_
  refine x_i2l dX3_tells_68 ?_
  refine x_lload 2 dX3_tells_69 rfl ?_
  refine x_mminl q967 q968 q132 q969 (by omega) (Nat.le_of_ble_eq_true rfl) dX3_tells_71 ?_
  refine x_nmT fun v1 => ?_
  refine x_mmaxl q970 q971 q132 q972 (by omega) (Nat.le_of_ble_eq_true rfl) dX3_tells_74 ?_
  refine x_nmT fun v2 => ?_
  refine x_l2i dX3_tells_77 ?_
  exact x_iret rfl dX3_tells_78
noncomputable def F_X3_tells_18 : Nat → Int → Int → Int → Int → Int → Int → Int → Int → XH → Option XR
  | 0, _, _, _, _, _, _, _, _, _ => none
  | n + 1, x1, x2, x4, x5, x6, x8, x9, x10, h => if x9 ≤ x10 then (F_X3_tells_63 x4 x5 x6 h) else (ai h x8 4 x10 <| nm (α := Int) (xv h x8 x10) fun v1 => ob h v1 14 <| if xv h v1 0 = x1 then (ob h v1 14 <| mb (F_X16_holds v1 x2 h) fun r2 h3 => if r2 = 0 then (F_X3_tells_57 (F_X3_tells_18 n) x1 x2 x4 x5 x6 x8 x9 x10 h3) else (ob h3 v1 14 <| nm (α := Int) (xv h3 v1 3) fun v4 => F_X3_tells_57 (F_X3_tells_18 n) x1 x2 x4 x5 v4 x8 x9 x10 h3)) else (F_X3_tells_57 (F_X3_tells_18 n) x1 x2 x4 x5 x6 x8 x9 x10 h))
theorem WF_X3_tells_18 {d : Nat} {Z : XZ XR} (hdd : 125 ≤ d) : ∀ n x1 x2 x4 x5 x6 x8 x9 x10 h, XG xfh (xQ 0) RX3 "tells" cX3_tells 12 (some .int) d Z 18 [(1, (0, x1)), (2, (2, x2)), (4, (0, x4)), (5, (0, x5)), (6, (1, x6)), (8, (2, x8)), (9, (0, x9)), (10, (0, x10))] [] h (F_X3_tells_18 n x1 x2 x4 x5 x6 x8 x9 x10 h) := by
  intro n
  induction n with
  | zero => intro x1 x2 x4 x5 x6 x8 x9 x10 h; exact x_none
  | succ n ih =>
    intro x1 x2 x4 x5 x6 x8 x9 x10 h
    rw [F_X3_tells_18]
    refine x_iload 7 dX3_tells_18 rfl ?_
    refine x_iload 6 dX3_tells_20 rfl ?_
    refine x_icmp_ge 63 dX3_tells_22 (by decide) (fun _ => ?_) (fun _ => ?_)
    · exact x_sub [2, 3, 4] rfl (WF_X3_tells_63 hdd x4 x5 x6 h)
    · refine x_aload 5 dX3_tells_25 rfl ?_
      refine x_iload 7 dX3_tells_27 rfl ?_
      refine x_aald 4 _ (by decide) (by decide) rfl dX3_tells_29 ?_
      refine x_nmT fun v1 => ?_
      refine x_astore (lv' := [(11, (2, v1)), (1, (0, x1)), (2, (2, x2)), (4, (0, x4)), (5, (0, x5)), (6, (1, x6)), (8, (2, x8)), (9, (0, x9)), (10, (0, x10))]) dX3_tells_30 (by decide) rfl ?_
      refine x_aload 0 dX3_tells_32 rfl ?_
      refine xg_X3_13 dX3_tells_34 ?_
      refine x_iload_n 1 dX3_tells_37 rfl rfl ?_
      refine x_icmp_ne 57 dX3_tells_38 (by decide) (fun _ => ?_) (fun _ => ?_)
      · exact x_sub [1, 2, 3, 4, 5, 6, 7, 8] rfl (WF_X3_tells_57 hdd ih x1 x2 x4 x5 x6 x8 x9 x10 h)
      · refine x_aload 0 dX3_tells_41 rfl ?_
        refine x_aload_n 2 dX3_tells_43 rfl rfl ?_
        refine cl_X3_19 (by omega) (Nat.le_of_ble_eq_true rfl) dX3_tells_44 fun r2 h3 => ?_
        refine x_if_eq 57 dX3_tells_47 (by decide) (fun _ => ?_) (fun _ => ?_)
        · exact x_sub [1, 2, 3, 4, 5, 6, 7, 8] rfl (WF_X3_tells_57 hdd ih x1 x2 x4 x5 x6 x8 x9 x10 h3)
        · refine x_aload 0 dX3_tells_50 rfl ?_
          refine xg_X3_23 dX3_tells_52 ?_
          refine x_nmT fun v4 => ?_
          refine x_lstore (lv' := [(6, (1, v4)), (11, (2, v1)), (1, (0, x1)), (2, (2, x2)), (4, (0, x4)), (5, (0, x5)), (8, (2, x8)), (9, (0, x9)), (10, (0, x10))]) dX3_tells_55 (by decide) rfl ?_
          exact x_sub [2, 3, 4, 5, 0, 6, 7, 8] rfl (WF_X3_tells_57 hdd ih x1 x2 x4 x5 v4 x8 x9 x10 h3)
noncomputable def F_X3_tells (x0 : Int) (x1 : Int) (x2 : Int) (x3 : Int) (x4 : Int) (x5 : Int) (h : XH) : Option XR := ob h x0 4 <| nm (α := Int) (xv h x0 0) fun v1 => al h v1 4 <| nm (α := Int) ((xl h v1 : Int)) fun v2 => F_X3_tells_18 FU x1 x2 x4 x5 x3 v1 v2 0 h
theorem WF_X3_tells {d : Nat} {Z : XZ XR} (hdd : 125 ≤ d) : ∀ x0 x1 x2 x3 x4 x5 h, XG xfh (xQ 0) RX3 "tells" cX3_tells 12 (some .int) d Z 0 [(0, (2, x0)), (1, (0, x1)), (2, (2, x2)), (3, (0, x3)), (4, (0, x4)), (5, (0, x5))] [] h (F_X3_tells x0 x1 x2 x3 x4 x5 h) := by
  intro x0 x1 x2 x3 x4 x5 h
  unfold F_X3_tells
  refine x_iload_n 3 dX3_tells_0 rfl rfl ?_
  refine x_i2l dX3_tells_1 ?_
  refine x_lstore (lv' := [(6, (1, x3)), (0, (2, x0)), (1, (0, x1)), (2, (2, x2)), (3, (0, x3)), (4, (0, x4)), (5, (0, x5))]) dX3_tells_2 (by decide) rfl ?_
  refine x_aload_n 1 dX3_tells_4 rfl rfl ?_
  refine xg_X3_7 dX3_tells_5 ?_
  refine x_nmT fun v1 => ?_
  refine x_astore (lv' := [(8, (2, v1)), (6, (1, x3)), (0, (2, x0)), (1, (0, x1)), (2, (2, x2)), (3, (0, x3)), (4, (0, x4)), (5, (0, x5))]) dX3_tells_8 (by decide) rfl ?_
  refine x_aload 0 dX3_tells_10 rfl ?_
  refine x_alen 4 (by decide) dX3_tells_12 ?_
  refine x_nmT fun v2 => ?_
  refine x_istore (lv' := [(9, (0, v2)), (8, (2, v1)), (6, (1, x3)), (0, (2, x0)), (1, (0, x1)), (2, (2, x2)), (3, (0, x3)), (4, (0, x4)), (5, (0, x5))]) dX3_tells_13 (by decide) rfl ?_
  refine x_ic dX3_tells_15 (by decide) (by decide) ?_
  refine x_istore (lv' := [(10, (0, 0)), (9, (0, v2)), (8, (2, v1)), (6, (1, x3)), (0, (2, x0)), (1, (0, x1)), (2, (2, x2)), (3, (0, x3)), (4, (0, x4)), (5, (0, x5))]) dX3_tells_16 (by decide) rfl ?_
  exact x_sub [5, 6, 8, 9, 3, 2, 1, 0] rfl (WF_X3_tells_18 hdd FU x1 x2 x4 x5 x3 v1 v2 0 h)
theorem SF_X3_tells (l : Launch) {d : Nat} (hdd : 125 ≤ d) (x0 : Int) (x1 : Int) (x2 : Int) (x3 : Int) (x4 : Int) (x5 : Int) (h : XH) (hok : okH h) (ho : okXs (xn h) [(2, x0), (0, x1), (2, x2), (0, x3), (0, x4), (0, x5)]) (fin : XR) (hf : F_X3_tells x0 x1 x2 x3 x4 x5 h = some fin) : xSpec l yX3_tells cX3_tells 12 (some .int) d 0 [(2, x0), (0, x1), (2, x2), (0, x3), (0, x4), (0, x5)] h fin := x_enter (lv := [(0, (2, x0)), (1, (0, x1)), (2, (2, x2)), (3, (0, x3)), (4, (0, x4)), (5, (0, x5))]) (by decide) rfl rfl (Nat.le_of_ble_eq_true rfl) rfl (fun Z _ => WF_X3_tells hdd x0 x1 x2 x3 x4 x5 h) hok ho fin hf
theorem xg_J2_9 {ρ : Type} {fh : ρ → XH} {QQ : XZ ρ → State → Prop} {mn : String} {cc : ByteArray} {nL : Nat} {ret : Option FieldType} {d : Nat} {Z : XZ ρ} {pc : Nat} {lv : List (Nat × AV)} {st : List AV} {h : XH} {res : Option ρ} {a : Int} (hd : decode cc pc = .ok (.getfield 9, 3)) (kk : XG fh QQ RJ2 mn cc nL ret d Z (pc + 3) lv ((2, xv h a 1) :: st) h res) : XG fh QQ RJ2 mn cc nL ret d Z pc lv ((2, a) :: st) h (ob h a 26 res) := x_get (C := RJ2) (ref := RJ2) 26 1 rfl in_J2 (by decide) rfl (by decide) (Or.inl rfl) q198 hd kk
noncomputable def F_J2_elementData (x0 : Int) (x1 : Int) (h : XH) : Option XR := ob h x0 26 <| ai h (xv h x0 1) 9 x1 <| some (xv h (xv h x0 1) x1, h)
theorem WF_J2_elementData {d : Nat} {Z : XZ XR} (hdd : 1 ≤ d) : ∀ x0 x1 h, XG xfh (xQ 3) RJ2 "elementData" cJ2_elementData 2 (some (.object "java/lang/Object")) d Z 0 [(0, (2, x0)), (1, (0, x1))] [] h (F_J2_elementData x0 x1 h) := by
  intro x0 x1 h
  unfold F_J2_elementData
  refine x_aload_n 0 dJ2_elementData_0 rfl rfl ?_
  refine xg_J2_9 dJ2_elementData_1 ?_
  refine x_iload_n 1 dJ2_elementData_4 rfl rfl ?_
  refine x_aald 9 _ (by decide) (by decide) rfl dJ2_elementData_5 ?_
  exact x_aret rfl (Or.inl ⟨_, rfl⟩) dJ2_elementData_6
theorem SF_J2_elementData (l : Launch) {d : Nat} (hdd : 1 ≤ d) (x0 : Int) (x1 : Int) (h : XH) (hok : okH h) (ho : okXs (xn h) [(2, x0), (0, x1)]) (fin : XR) (hf : F_J2_elementData x0 x1 h = some fin) : xSpec l yJ2_elementData cJ2_elementData 2 (some (.object "java/lang/Object")) d 3 [(2, x0), (0, x1)] h fin := x_enter (lv := [(0, (2, x0)), (1, (0, x1))]) (by decide) rfl rfl (Nat.le_of_ble_eq_true rfl) rfl (fun Z _ => WF_J2_elementData hdd x0 x1 h) hok ho fin hf
noncomputable def F_J7_checkIndex_9 (x0 : Int) (x1 : Int) (x2 : Int) (h : XH) : Option XR := none
theorem WF_J7_checkIndex_9 {d : Nat} {Z : XZ XR} (hdd : 1 ≤ d) : ∀ x0 x1 x2 h, XG xfh (xQ 0) RJ7 "checkIndex" cJ7_checkIndex 3 (some .int) d Z 9 [(0, (0, x0)), (1, (0, x1)), (2, (2, x2))] [] h (F_J7_checkIndex_9 x0 x1 x2 h) := by
  intro x0 x1 x2 h
  unfold F_J7_checkIndex_9
  refine x_aload_n 2 dJ7_checkIndex_9 rfl rfl ?_
  refine x_iload_n 0 dJ7_checkIndex_10 rfl rfl ?_
  refine x_iload_n 1 dJ7_checkIndex_11 rfl rfl ?_
  exact x_none
noncomputable def F_J7_checkIndex (x0 : Int) (x1 : Int) (x2 : Int) (h : XH) : Option XR := if x0 < 0 then (F_J7_checkIndex_9 x0 x1 x2 h) else (if x0 < x1 then (some (x0, h)) else (F_J7_checkIndex_9 x0 x1 x2 h))
theorem WF_J7_checkIndex {d : Nat} {Z : XZ XR} (hdd : 1 ≤ d) : ∀ x0 x1 x2 h, XG xfh (xQ 0) RJ7 "checkIndex" cJ7_checkIndex 3 (some .int) d Z 0 [(0, (0, x0)), (1, (0, x1)), (2, (2, x2))] [] h (F_J7_checkIndex x0 x1 x2 h) := by
  intro x0 x1 x2 h
  unfold F_J7_checkIndex
  refine x_iload_n 0 dJ7_checkIndex_0 rfl rfl ?_
  refine x_if_lt 9 dJ7_checkIndex_1 (by decide) (fun _ => ?_) (fun _ => ?_)
  · exact x_sub [0, 1, 2] rfl (WF_J7_checkIndex_9 hdd x0 x1 x2 h)
  · refine x_iload_n 0 dJ7_checkIndex_4 rfl rfl ?_
    refine x_iload_n 1 dJ7_checkIndex_5 rfl rfl ?_
    refine x_icmp_lt 16 dJ7_checkIndex_6 (by decide) (fun _ => ?_) (fun _ => ?_)
    · refine x_iload_n 0 dJ7_checkIndex_16 rfl rfl ?_
      exact x_iret rfl dJ7_checkIndex_17
    · exact x_sub [0, 1, 2] rfl (WF_J7_checkIndex_9 hdd x0 x1 x2 h)
theorem SF_J7_checkIndex (l : Launch) {d : Nat} (hdd : 1 ≤ d) (x0 : Int) (x1 : Int) (x2 : Int) (h : XH) (hok : okH h) (ho : okXs (xn h) [(0, x0), (0, x1), (2, x2)]) (fin : XR) (hf : F_J7_checkIndex x0 x1 x2 h = some fin) : xSpec l yJ7_checkIndex cJ7_checkIndex 3 (some .int) d 0 [(0, x0), (0, x1), (2, x2)] h fin := x_enter (lv := [(0, (0, x0)), (1, (0, x1)), (2, (2, x2))]) (by decide) rfl rfl (Nat.le_of_ble_eq_true rfl) rfl (fun Z _ => WF_J7_checkIndex hdd x0 x1 x2 h) hok ho fin hf
theorem cl_J6_105 {ρ : Type} {fh : ρ → XH} {QQ : XZ ρ → State → Prop} {mn : String} {cc : ByteArray} {nL : Nat} {ret : Option FieldType} {d : Nat} {Z : XZ ρ} {pc : Nat} {lv : List (Nat × AV)} {st : List AV} {h : XH} {g : Int → XH → Option ρ} {a0 a1 a2 : Int} (hdd : 2 ≤ d) (hcat : (st.map fun v => if v.1 = 1 then 2 else 1).sum ≤ 8) (hdg : decode cc pc = .ok (.invokestatic 105, 3)) (kk : ∀ r h1, XG fh QQ RJ6 mn cc nL ret d Z (pc + 3) lv ((0, r) :: st) h1 (g r h1)) : XG fh QQ RJ6 mn cc nL ret d Z pc lv ((2, a2) :: (0, a1) :: (0, a0) :: st) h (mb (F_J7_checkIndex a0 a1 a2 h) g) :=
  x_callSi [(0, a0), (0, a1), (2, a2)] 3 (WF_J7_checkIndex (Z := (Z.1, Z.2.1, ((0, h), h))) (Nat.le_refl 1) a0 a1 a2 h).1 (fun hok ho fin hf => SF_J7_checkIndex (yL Z) (Nat.le_refl 1) a0 a1 a2 h hok ho fin hf) (lw_S q503 q504 q138 q505) ⟨by decide +kernel, by decide +kernel, by decide +kernel⟩ rfl (by omega) (by decide) rfl hcat hdg kk
noncomputable def F_J6_checkIndex (x0 : Int) (x1 : Int) (h : XH) : Option XR := mb (F_J7_checkIndex x0 x1 0 h) fun r1 h2 => some (r1, h2)
theorem WF_J6_checkIndex {d : Nat} {Z : XZ XR} (hdd : 2 ≤ d) : ∀ x0 x1 h, XG xfh (xQ 0) RJ6 "checkIndex" cJ6_checkIndex 2 (some .int) d Z 0 [(0, (0, x0)), (1, (0, x1))] [] h (F_J6_checkIndex x0 x1 h) := by
  intro x0 x1 h
  unfold F_J6_checkIndex
  refine x_iload_n 0 dJ6_checkIndex_0 rfl rfl ?_
  refine x_iload_n 1 dJ6_checkIndex_1 rfl rfl ?_
  refine x_null dJ6_checkIndex_2 ?_
  refine cl_J6_105 (by omega) (Nat.le_of_ble_eq_true rfl) dJ6_checkIndex_3 fun r1 h2 => ?_
  exact x_iret rfl dJ6_checkIndex_6
theorem SF_J6_checkIndex (l : Launch) {d : Nat} (hdd : 2 ≤ d) (x0 : Int) (x1 : Int) (h : XH) (hok : okH h) (ho : okXs (xn h) [(0, x0), (0, x1)]) (fin : XR) (hf : F_J6_checkIndex x0 x1 h = some fin) : xSpec l yJ6_checkIndex cJ6_checkIndex 2 (some .int) d 0 [(0, x0), (0, x1)] h fin := x_enter (lv := [(0, (0, x0)), (1, (0, x1))]) (by decide) rfl rfl (Nat.le_of_ble_eq_true rfl) rfl (fun Z _ => WF_J6_checkIndex hdd x0 x1 h) hok ho fin hf
theorem cl_J2_118 {ρ : Type} {fh : ρ → XH} {QQ : XZ ρ → State → Prop} {mn : String} {cc : ByteArray} {nL : Nat} {ret : Option FieldType} {d : Nat} {Z : XZ ρ} {pc : Nat} {lv : List (Nat × AV)} {st : List AV} {h : XH} {g : Int → XH → Option ρ} {a0 a1 : Int} (hdd : 3 ≤ d) (hcat : (st.map fun v => if v.1 = 1 then 2 else 1).sum ≤ 8) (hdg : decode cc pc = .ok (.invokestatic 118, 3)) (kk : ∀ r h1, XG fh QQ RJ2 mn cc nL ret d Z (pc + 3) lv ((0, r) :: st) h1 (g r h1)) : XG fh QQ RJ2 mn cc nL ret d Z pc lv ((0, a1) :: (0, a0) :: st) h (mb (F_J6_checkIndex a0 a1 h) g) :=
  x_callSi [(0, a0), (0, a1)] 2 (WF_J6_checkIndex (Z := (Z.1, Z.2.1, ((0, h), h))) (Nat.le_refl 2) a0 a1 h).1 (fun hok ho fin hf => SF_J6_checkIndex (yL Z) (Nat.le_refl 2) a0 a1 h hok ho fin hf) (lw_S q500 q501 q137 q502) ⟨by decide +kernel, by decide +kernel, by decide +kernel⟩ rfl (by omega) (by decide) rfl hcat hdg kk
theorem cl_J2_123 {ρ : Type} {fh : ρ → XH} {QQ : XZ ρ → State → Prop} {mn : String} {cc : ByteArray} {nL : Nat} {ret : Option FieldType} {d : Nat} {Z : XZ ρ} {pc : Nat} {lv : List (Nat × AV)} {st : List AV} {h : XH} {g : Int → XH → Option ρ} {b a0 : Int} (hdd : 2 ≤ d) (hcat : (st.map fun v => if v.1 = 1 then 2 else 1).sum ≤ 8) (hdg : decode cc pc = .ok (.invokevirtual 123, 3)) (kk : ∀ r h1, XG fh QQ RJ2 mn cc nL ret d Z (pc + 3) lv ((2, r) :: st) h1 (g r h1)) : XG fh QQ RJ2 mn cc nL ret d Z pc lv ((0, a0) :: (2, b) :: st) h (ob h b 26 (mb (F_J2_elementData b a0 h) g)) :=
  x_callVr [(0, a0)] 1 (WF_J2_elementData (Z := (Z.1, Z.2.1, ((0, h), h))) (Nat.le_refl 1) b a0 h).1 (fun hok ho fin hf => SF_J2_elementData (yL Z) (Nat.le_refl 1) b a0 h hok ho fin hf) RJ2 26 rfl (by decide) (lw_V q506 q507 q508 q128 q509) ⟨rfl, by decide +kernel, by decide +kernel, by decide +kernel⟩ rfl (by omega) (by decide) rfl hcat hdg kk
theorem xg_J2_48 {ρ : Type} {fh : ρ → XH} {QQ : XZ ρ → State → Prop} {mn : String} {cc : ByteArray} {nL : Nat} {ret : Option FieldType} {d : Nat} {Z : XZ ρ} {pc : Nat} {lv : List (Nat × AV)} {st : List AV} {h : XH} {res : Option ρ} {a : Int} (hd : decode cc pc = .ok (.getfield 48, 3)) (kk : XG fh QQ RJ2 mn cc nL ret d Z (pc + 3) lv ((0, xv h a 2) :: st) h res) : XG fh QQ RJ2 mn cc nL ret d Z pc lv ((2, a) :: st) h (ob h a 26 res) := x_get (C := RJ2) (ref := RJ2) 26 2 rfl in_J2 (by decide) rfl (by decide) (Or.inl rfl) q199 hd kk
noncomputable def F_J2_get (x0 : Int) (x1 : Int) (h : XH) : Option XR := ob h x0 26 <| mb (F_J6_checkIndex x1 (xv h x0 2) h) fun r1 h2 => ob h2 x0 26 <| mb (F_J2_elementData x0 x1 h2) fun r3 h4 => some (r3, h4)
theorem WF_J2_get {d : Nat} {Z : XZ XR} (hdd : 3 ≤ d) : ∀ x0 x1 h, XG xfh (xQ 3) RJ2 "get" cJ2_get 2 (some (.object "java/lang/Object")) d Z 0 [(0, (2, x0)), (1, (0, x1))] [] h (F_J2_get x0 x1 h) := by
  intro x0 x1 h
  unfold F_J2_get
  refine x_iload_n 1 dJ2_get_0 rfl rfl ?_
  refine x_aload_n 0 dJ2_get_1 rfl rfl ?_
  refine xg_J2_48 dJ2_get_2 ?_
  refine cl_J2_118 (by omega) (Nat.le_of_ble_eq_true rfl) dJ2_get_5 fun r1 h2 => ?_
  refine x_pop dJ2_get_8 rfl ?_
  refine x_aload_n 0 dJ2_get_9 rfl rfl ?_
  refine x_iload_n 1 dJ2_get_10 rfl rfl ?_
  refine cl_J2_123 (by omega) (Nat.le_of_ble_eq_true rfl) dJ2_get_11 fun r3 h4 => ?_
  exact x_aret rfl (Or.inl ⟨_, rfl⟩) dJ2_get_14
theorem SF_J2_get (l : Launch) {d : Nat} (hdd : 3 ≤ d) (x0 : Int) (x1 : Int) (h : XH) (hok : okH h) (ho : okXs (xn h) [(2, x0), (0, x1)]) (fin : XR) (hf : F_J2_get x0 x1 h = some fin) : xSpec l yJ2_get cJ2_get 2 (some (.object "java/lang/Object")) d 3 [(2, x0), (0, x1)] h fin := x_enter (lv := [(0, (2, x0)), (1, (0, x1))]) (by decide) rfl rfl (Nat.le_of_ble_eq_true rfl) rfl (fun Z _ => WF_J2_get hdd x0 x1 h) hok ho fin hf
theorem cl_X0_27 {ρ : Type} {fh : ρ → XH} {QQ : XZ ρ → State → Prop} {mn : String} {cc : ByteArray} {nL : Nat} {ret : Option FieldType} {d : Nat} {Z : XZ ρ} {pc : Nat} {lv : List (Nat × AV)} {st : List AV} {h : XH} {g : Int → XH → Option ρ} {b a0 : Int} (hdd : 4 ≤ d) (hcat : (st.map fun v => if v.1 = 1 then 2 else 1).sum ≤ 8) (hdg : decode cc pc = .ok (.invokevirtual 27, 3)) (kk : ∀ r h1, XG fh QQ RX0 mn cc nL ret d Z (pc + 3) lv ((2, r) :: st) h1 (g r h1)) : XG fh QQ RX0 mn cc nL ret d Z pc lv ((0, a0) :: (2, b) :: st) h (ob h b 26 (mb (F_J2_get b a0 h) g)) :=
  x_callVr [(0, a0)] 1 (WF_J2_get (Z := (Z.1, Z.2.1, ((0, h), h))) (Nat.le_refl 3) b a0 h).1 (fun hok ho fin hf => SF_J2_get (yL Z) (Nat.le_refl 3) b a0 h hok ho fin hf) RJ2 26 rfl (by decide) (lw_V q496 q497 q498 q128 q499) ⟨rfl, by decide +kernel, by decide +kernel, by decide +kernel⟩ rfl (by omega) (by decide) rfl hcat hdg kk
theorem xg_X0_113 {ρ : Type} {fh : ρ → XH} {QQ : XZ ρ → State → Prop} {mn : String} {cc : ByteArray} {nL : Nat} {ret : Option FieldType} {d : Nat} {Z : XZ ρ} {pc : Nat} {lv : List (Nat × AV)} {st : List AV} {h : XH} {res : Option ρ} {a : Int} (hd : decode cc pc = .ok (.getfield 113, 3)) (kk : XG fh QQ RX0 mn cc nL ret d Z (pc + 3) lv ((2, xv h a 1) :: st) h res) : XG fh QQ RX0 mn cc nL ret d Z pc lv ((2, a) :: st) h (ob h a 2 res) := x_getN (C := RX1) (ref := RX1) 2 1 rfl in_X1 (by decide) rfl (by decide) (Or.inl rfl) q216 hd kk
theorem xg_X0_116 {ρ : Type} {fh : ρ → XH} {QQ : XZ ρ → State → Prop} {mn : String} {cc : ByteArray} {nL : Nat} {ret : Option FieldType} {d : Nat} {Z : XZ ρ} {pc : Nat} {lv : List (Nat × AV)} {st : List AV} {h : XH} {res : Option ρ} {a : Int} (hd : decode cc pc = .ok (.getfield 116, 3)) (kk : XG fh QQ RX0 mn cc nL ret d Z (pc + 3) lv ((0, xv h a 7) :: st) h res) : XG fh QQ RX0 mn cc nL ret d Z pc lv ((2, a) :: st) h (ob h a 2 res) := x_getN (C := RX1) (ref := RX1) 2 7 rfl in_X1 (by decide) rfl (by decide) (Or.inl rfl) q234 hd kk
theorem xg_X0_17 {ρ : Type} {fh : ρ → XH} {QQ : XZ ρ → State → Prop} {mn : String} {cc : ByteArray} {nL : Nat} {ret : Option FieldType} {d : Nat} {Z : XZ ρ} {pc : Nat} {lv : List (Nat × AV)} {st : List AV} {h : XH} {res : Option ρ} {a : Int} (hd : decode cc pc = .ok (.getfield 17, 3)) (kk : XG fh QQ RX0 mn cc nL ret d Z (pc + 3) lv ((2, xv h a 0) :: st) h res) : XG fh QQ RX0 mn cc nL ret d Z pc lv ((2, a) :: st) h (ob h a 1 res) := x_get (C := RX0) (ref := RX0) 1 0 rfl in_X0 (by decide) rfl (by decide) (Or.inl rfl) q294 hd kk
theorem xg_X0_74 {ρ : Type} {fh : ρ → XH} {QQ : XZ ρ → State → Prop} {mn : String} {cc : ByteArray} {nL : Nat} {ret : Option FieldType} {d : Nat} {Z : XZ ρ} {pc : Nat} {lv : List (Nat × AV)} {st : List AV} {h : XH} {res : Option ρ} {a : Int} (hd : decode cc pc = .ok (.getfield 74, 3)) (kk : XG fh QQ RX0 mn cc nL ret d Z (pc + 3) lv ((2, xv h a 3) :: st) h res) : XG fh QQ RX0 mn cc nL ret d Z pc lv ((2, a) :: st) h (ob h a 1 res) := x_get (C := RX0) (ref := RX0) 1 3 rfl in_X0 (by decide) rfl (by decide) (Or.inl rfl) q297 hd kk
noncomputable def F_X0_inUse (x0 : Int) (h : XH) : Option XR := ob h x0 1 <| ob h (xv h x0 0) 2 <| if xv h (xv h x0 0) 7 = (-1) then (ob h x0 1 <| some (xv h x0 3, h)) else (ob h x0 1 <| ob h (xv h x0 0) 2 <| ob h x0 1 <| ob h (xv h x0 0) 2 <| ob h (xv h (xv h x0 0) 1) 26 <| mb (F_J2_get (xv h (xv h x0 0) 1) (xv h (xv h x0 0) 7) h) fun r1 h2 => ob h2 r1 4 <| some (r1, h2))
theorem WF_X0_inUse {d : Nat} {Z : XZ XR} (hdd : 4 ≤ d) : ∀ x0 h, XG xfh (xQ 3) RX0 "inUse" cX0_inUse 1 (some (.object "ExamSlips$Text")) d Z 0 [(0, (2, x0))] [] h (F_X0_inUse x0 h) := by
  intro x0 h
  unfold F_X0_inUse
  refine x_aload_n 0 dX0_inUse_0 rfl rfl ?_
  refine xg_X0_17 dX0_inUse_1 ?_
  refine xg_X0_116 dX0_inUse_4 ?_
  refine x_ic dX0_inUse_7 (by decide) (by decide) ?_
  refine x_icmp_ne 18 dX0_inUse_8 (by decide) (fun _ => ?_) (fun _ => ?_)
  · refine x_aload_n 0 dX0_inUse_18 rfl rfl ?_
    refine xg_X0_17 dX0_inUse_19 ?_
    refine xg_X0_113 dX0_inUse_22 ?_
    refine x_aload_n 0 dX0_inUse_25 rfl rfl ?_
    refine xg_X0_17 dX0_inUse_26 ?_
    refine xg_X0_116 dX0_inUse_29 ?_
    refine cl_X0_27 (by omega) (Nat.le_of_ble_eq_true rfl) dX0_inUse_32 fun r1 h2 => ?_
    refine x_cast (C := RX3) 4 rfl (by decide) q276 dX0_inUse_35 ?_
    exact x_aret rfl (Or.inl ⟨_, rfl⟩) dX0_inUse_38
  · refine x_aload_n 0 dX0_inUse_11 rfl rfl ?_
    refine xg_X0_74 dX0_inUse_12 ?_
    refine x_goto 38 dX0_inUse_15 (by decide) ?_
    exact x_aret rfl (Or.inl ⟨_, rfl⟩) dX0_inUse_38
theorem SF_X0_inUse (l : Launch) {d : Nat} (hdd : 4 ≤ d) (x0 : Int) (h : XH) (hok : okH h) (ho : okXs (xn h) [(2, x0)]) (fin : XR) (hf : F_X0_inUse x0 h = some fin) : xSpec l yX0_inUse cX0_inUse 1 (some (.object "ExamSlips$Text")) d 3 [(2, x0)] h fin := x_enter (lv := [(0, (2, x0))]) (by decide) rfl rfl (Nat.le_of_ble_eq_true rfl) rfl (fun Z _ => WF_X0_inUse hdd x0 h) hok ho fin hf
theorem cl_X0_109 {ρ : Type} {fh : ρ → XH} {QQ : XZ ρ → State → Prop} {mn : String} {cc : ByteArray} {nL : Nat} {ret : Option FieldType} {d : Nat} {Z : XZ ρ} {pc : Nat} {lv : List (Nat × AV)} {st : List AV} {h : XH} {g : Int → XH → Option ρ} {a0 a1 a2 : Int} (hdd : 2 ≤ d) (hcat : (st.map fun v => if v.1 = 1 then 2 else 1).sum ≤ 8) (hdg : decode cc pc = .ok (.invokestatic 109, 3)) (kk : ∀ r h1, XG fh QQ RX0 mn cc nL ret d Z (pc + 3) lv ((0, r) :: st) h1 (g r h1)) : XG fh QQ RX0 mn cc nL ret d Z pc lv ((1, a2) :: (1, a1) :: (1, a0) :: st) h (mb (F_X0_in a0 a1 a2 h) g) :=
  x_callSi [(1, a0), (1, a1), (1, a2)] 3 (WF_X0_in (Z := (Z.1, Z.2.1, ((0, h), h))) (Nat.le_refl 1) a0 a1 a2 h).1 (fun hok ho fin hf => SF_X0_in (yL Z) (Nat.le_refl 1) a0 a1 a2 h hok ho fin hf) (lw_S q350 q351 q124 q352) ⟨by decide +kernel, by decide +kernel, by decide +kernel⟩ rfl (by omega) (by decide) rfl hcat hdg kk
theorem cl_X0_201 {ρ : Type} {fh : ρ → XH} {QQ : XZ ρ → State → Prop} {mn : String} {cc : ByteArray} {nL : Nat} {ret : Option FieldType} {d : Nat} {Z : XZ ρ} {pc : Nat} {lv : List (Nat × AV)} {st : List AV} {h : XH} {g : Int → XH → Option ρ} {b : Int} (hdd : 5 ≤ d) (hcat : (st.map fun v => if v.1 = 1 then 2 else 1).sum ≤ 8) (hdg : decode cc pc = .ok (.invokevirtual 201, 3)) (kk : ∀ r h1, XG fh QQ RX0 mn cc nL ret d Z (pc + 3) lv ((2, r) :: st) h1 (g r h1)) : XG fh QQ RX0 mn cc nL ret d Z pc lv ((2, b) :: st) h (ob h b 1 (mb (F_X0_inUse b h) g)) :=
  x_callVr [] 0 (WF_X0_inUse (Z := (Z.1, Z.2.1, ((0, h), h))) (Nat.le_refl 4) b h).1 (fun hok ho fin hf => SF_X0_inUse (yL Z) (Nat.le_refl 4) b h hok ho fin hf) RX0 1 rfl (by decide) (lw_V q921 q923 qs29 q124 q924) ⟨rfl, by decide +kernel, by decide +kernel, by decide +kernel⟩ rfl (by omega) (by decide) rfl hcat hdg kk
theorem cl_X0_204 {ρ : Type} {fh : ρ → XH} {QQ : XZ ρ → State → Prop} {mn : String} {cc : ByteArray} {nL : Nat} {ret : Option FieldType} {d : Nat} {Z : XZ ρ} {pc : Nat} {lv : List (Nat × AV)} {st : List AV} {h : XH} {g : Int → XH → Option ρ} {b a0 a1 a2 a3 a4 : Int} (hdd : 126 ≤ d) (hcat : (st.map fun v => if v.1 = 1 then 2 else 1).sum ≤ 8) (hdg : decode cc pc = .ok (.invokevirtual 204, 3)) (kk : ∀ r h1, XG fh QQ RX0 mn cc nL ret d Z (pc + 3) lv ((0, r) :: st) h1 (g r h1)) : XG fh QQ RX0 mn cc nL ret d Z pc lv ((0, a4) :: (0, a3) :: (0, a2) :: (2, a1) :: (0, a0) :: (2, b) :: st) h (ob h b 4 (mb (F_X3_tells b a0 a1 a2 a3 a4 h) g)) :=
  x_callVi [(0, a0), (2, a1), (0, a2), (0, a3), (0, a4)] 5 (WF_X3_tells (Z := (Z.1, Z.2.1, ((0, h), h))) (Nat.le_refl 125) b a0 a1 a2 a3 a4 h).1 (fun hok ho fin hf => SF_X3_tells (yL Z) (Nat.le_refl 125) b a0 a1 a2 a3 a4 h hok ho fin hf) RX3 4 rfl (by decide) (lw_V q925 q926 q927 q130 q928) ⟨rfl, by decide +kernel, by decide +kernel, by decide +kernel⟩ rfl (by omega) (by decide) rfl hcat hdg kk
theorem cl_X0_216 {ρ : Type} {fh : ρ → XH} {QQ : XZ ρ → State → Prop} {mn : String} {cc : ByteArray} {nL : Nat} {ret : Option FieldType} {d : Nat} {Z : XZ ρ} {pc : Nat} {lv : List (Nat × AV)} {st : List AV} {h : XH} {g : Int → XH → Option ρ} {b : Int} (hdd : 2 ≤ d) (hcat : (st.map fun v => if v.1 = 1 then 2 else 1).sum ≤ 8) (hdg : decode cc pc = .ok (.invokevirtual 216, 3)) (kk : ∀ r h1, XG fh QQ RX0 mn cc nL ret d Z (pc + 3) lv ((2, r) :: st) h1 (g r h1)) : XG fh QQ RX0 mn cc nL ret d Z pc lv ((2, b) :: st) h (ob h b 3 (mb (F_X2_clear b h) g)) :=
  x_callVr [] 0 (WF_X2_clear (Z := (Z.1, Z.2.1, ((0, h), h))) (Nat.le_refl 1) b h).1 (fun hok ho fin hf => SF_X2_clear (yL Z) (Nat.le_refl 1) b h hok ho fin hf) RX2 3 rfl (by decide) (lw_V q985 q918 q919 q129 q920) ⟨rfl, by decide +kernel, by decide +kernel, by decide +kernel⟩ rfl (by omega) (by decide) rfl hcat hdg kk
theorem xg_X0_197 {ρ : Type} {fh : ρ → XH} {QQ : XZ ρ → State → Prop} {mn : String} {cc : ByteArray} {nL : Nat} {ret : Option FieldType} {d : Nat} {Z : XZ ρ} {pc : Nat} {lv : List (Nat × AV)} {st : List AV} {h : XH} {res : Option ρ} {a : Int} (hd : decode cc pc = .ok (.getfield 197, 3)) (kk : XG fh QQ RX0 mn cc nL ret d Z (pc + 3) lv ((2, xv h a 0) :: st) h res) : XG fh QQ RX0 mn cc nL ret d Z pc lv ((2, a) :: st) h (ob h a 3 res) := x_getN (C := RX2) (ref := RX2) 3 0 rfl in_X2 (by decide) rfl (by decide) (Or.inl rfl) q263 hd kk
theorem xg_X0_63 {ρ : Type} {fh : ρ → XH} {QQ : XZ ρ → State → Prop} {mn : String} {cc : ByteArray} {nL : Nat} {ret : Option FieldType} {d : Nat} {Z : XZ ρ} {pc : Nat} {lv : List (Nat × AV)} {st : List AV} {h : XH} {res : Option ρ} {a : Int} (hd : decode cc pc = .ok (.getfield 63, 3)) (kk : XG fh QQ RX0 mn cc nL ret d Z (pc + 3) lv ((2, xv h a 2) :: st) h res) : XG fh QQ RX0 mn cc nL ret d Z pc lv ((2, a) :: st) h (ob h a 1 res) := x_get (C := RX0) (ref := RX0) 1 2 rfl in_X0 (by decide) rfl (by decide) (Or.inl rfl) q296 hd kk
noncomputable def F_X0_chance (x0 : Int) (x1 : Int) (h : XH) : Option XR := mb (F_X0_in x1 0 2 h) fun r1 h2 => if r1 = 0 then (some ((-1), h2)) else (ob h2 x0 1 <| ob h2 (xv h2 x0 2) 3 <| mb (F_X2_clear (xv h2 x0 2) h2) fun r3 h4 => ob h4 x0 1 <| ob h4 (xv h4 x0 2) 3 <| ai h4 (xv h4 (xv h4 x0 2) 0) 1 2 <| nm (hset h4 (xv h4 (xv h4 x0 2) 0) 2 x1) fun h5 => ob h5 x0 1 <| mb (F_X0_inUse x0 h5) fun r6 h7 => ob h7 x0 1 <| ob h7 r6 4 <| mb (F_X3_tells r6 2 (xv h7 x0 2) (w32 (50 * x1)) 0 100 h7) fun r8 h9 => some (r8, h9))
theorem WF_X0_chance {d : Nat} {Z : XZ XR} (hdd : 126 ≤ d) : ∀ x0 x1 h, XG xfh (xQ 0) RX0 "chance" cX0_chance 2 (some .int) d Z 0 [(0, (2, x0)), (1, (0, x1))] [] h (F_X0_chance x0 x1 h) := by
  intro x0 x1 h
  unfold F_X0_chance
  refine x_iload_n 1 dX0_chance_0 rfl rfl ?_
  refine x_i2l dX0_chance_1 ?_
  refine x_l0 dX0_chance_2 ?_
  refine x_ldc2 (n := 2) q491 dX0_chance_3 (by decide +kernel) ⟨by decide, by decide⟩ ?_
  refine cl_X0_109 (by omega) (Nat.le_of_ble_eq_true rfl) dX0_chance_6 fun r1 h2 => ?_
  refine x_if_ne 14 dX0_chance_9 (by decide) (fun _ => ?_) (fun _ => ?_)
  · refine x_aload_n 0 dX0_chance_14 rfl rfl ?_
    refine xg_X0_63 dX0_chance_15 ?_
    refine cl_X0_216 (by omega) (Nat.le_of_ble_eq_true rfl) dX0_chance_18 fun r3 h4 => ?_
    refine x_pop dX0_chance_21 rfl ?_
    refine x_aload_n 0 dX0_chance_22 rfl rfl ?_
    refine xg_X0_63 dX0_chance_23 ?_
    refine xg_X0_197 dX0_chance_26 ?_
    refine x_ic dX0_chance_29 (by decide) (by decide) ?_
    refine x_iload_n 1 dX0_chance_30 rfl rfl ?_
    refine x_i2l dX0_chance_31 ?_
    refine x_last dX0_chance_32 fun h5 => ?_
    refine x_aload_n 0 dX0_chance_33 rfl rfl ?_
    refine cl_X0_201 (by omega) (Nat.le_of_ble_eq_true rfl) dX0_chance_34 fun r6 h7 => ?_
    refine x_ic dX0_chance_37 (by decide) (by decide) ?_
    refine x_aload_n 0 dX0_chance_38 rfl rfl ?_
    refine xg_X0_63 dX0_chance_39 ?_
    refine x_bp dX0_chance_42 (by decide) (by decide) ?_
    refine x_iload_n 1 dX0_chance_44 rfl rfl ?_
    refine x_imul dX0_chance_45 ?_
    refine x_ic dX0_chance_46 (by decide) (by decide) ?_
    refine x_bp dX0_chance_47 (by decide) (by decide) ?_
    refine cl_X0_204 (by omega) (Nat.le_of_ble_eq_true rfl) dX0_chance_49 fun r8 h9 => ?_
    exact x_iret rfl dX0_chance_52
  · refine x_ic dX0_chance_12 (by decide) (by decide) ?_
    exact x_iret rfl dX0_chance_13
theorem SF_X0_chance (l : Launch) {d : Nat} (hdd : 126 ≤ d) (x0 : Int) (x1 : Int) (h : XH) (hok : okH h) (ho : okXs (xn h) [(2, x0), (0, x1)]) (fin : XR) (hf : F_X0_chance x0 x1 h = some fin) : xSpec l yX0_chance cX0_chance 2 (some .int) d 0 [(2, x0), (0, x1)] h fin := x_enter (lv := [(0, (2, x0)), (1, (0, x1))]) (by decide) rfl rfl (Nat.le_of_ble_eq_true rfl) rfl (fun Z _ => WF_X0_chance hdd x0 x1 h) hok ho fin hf
theorem cl_X0_3 {ρ : Type} {fh : ρ → XH} {QQ : XZ ρ → State → Prop} {mn : String} {cc : ByteArray} {nL : Nat} {ret : Option FieldType} {d : Nat} {Z : XZ ρ} {pc : Nat} {lv : List (Nat × AV)} {st : List AV} {h : XH} {g : Int → XH → Option ρ} {b a0 : Int} (hdd : 127 ≤ d) (hcat : (st.map fun v => if v.1 = 1 then 2 else 1).sum ≤ 8) (hdg : decode cc pc = .ok (.invokevirtual 3, 3)) (kk : ∀ r h1, XG fh QQ RX0 mn cc nL ret d Z (pc + 3) lv ((0, r) :: st) h1 (g r h1)) : XG fh QQ RX0 mn cc nL ret d Z pc lv ((0, a0) :: (2, b) :: st) h (ob h b 1 (mb (F_X0_chance b a0 h) g)) :=
  x_callVi [(0, a0)] 1 (WF_X0_chance (Z := (Z.1, Z.2.1, ((0, h), h))) (Nat.le_refl 126) b a0 h).1 (fun hok ho fin hf => SF_X0_chance (yL Z) (Nat.le_refl 126) b a0 h hok ho fin hf) RX0 1 rfl (by decide) (lw_V q1009 q982 q983 q124 q984) ⟨rfl, by decide +kernel, by decide +kernel, by decide +kernel⟩ rfl (by omega) (by decide) rfl hcat hdg kk
noncomputable def F_X0_chances_6 : Nat → Int → Int → Int → XH → Option XR
  | 0, _, _, _, _ => none
  | n + 1, x0, x1, x2, h => if 3 ≤ x2 then (some (x1, h)) else (ob h x0 1 <| mb (F_X0_chance x0 x2 h) fun r1 h2 => ai h2 x1 0 x2 <| nm (hset h2 x1 x2 r1) fun h3 => nm (w32 (x2 + 1)) fun v4 => F_X0_chances_6 n x0 x1 v4 h3)
theorem WF_X0_chances_6 {d : Nat} {Z : XZ XR} (hdd : 127 ≤ d) : ∀ n x0 x1 x2 h, XG xfh (xQ 3) RX0 "chances" cX0_chances 3 (some (.array .int)) d Z 6 [(0, (2, x0)), (1, (2, x1)), (2, (0, x2))] [] h (F_X0_chances_6 n x0 x1 x2 h) := by
  intro n
  induction n with
  | zero => intro x0 x1 x2 h; exact x_none
  | succ n ih =>
    intro x0 x1 x2 h
    rw [F_X0_chances_6]
    refine x_iload_n 2 dX0_chances_6 rfl rfl ?_
    refine x_ic dX0_chances_7 (by decide) (by decide) ?_
    refine x_icmp_ge 25 dX0_chances_8 (by decide) (fun _ => ?_) (fun _ => ?_)
    · refine x_aload_n 1 dX0_chances_25 rfl rfl ?_
      exact x_aret rfl (Or.inr ⟨_, rfl⟩) dX0_chances_26
    · refine x_aload_n 1 dX0_chances_11 rfl rfl ?_
      refine x_iload_n 2 dX0_chances_12 rfl rfl ?_
      refine x_aload_n 0 dX0_chances_13 rfl rfl ?_
      refine x_iload_n 2 dX0_chances_14 rfl rfl ?_
      refine cl_X0_3 (by omega) (Nat.le_of_ble_eq_true rfl) dX0_chances_15 fun r1 h2 => ?_
      refine x_iast dX0_chances_18 fun h3 => ?_
      refine x_iinc 2 dX0_chances_19 rfl (by decide) fun v4 => x_lv (lv' := [(2, (0, v4)), (0, (2, x0)), (1, (2, x1))]) rfl ?_
      refine x_goto 6 dX0_chances_22 (by decide) ?_
      exact x_sub [1, 2, 0] rfl (ih x0 x1 v4 h3)
noncomputable def F_X0_chances (x0 : Int) (h : XH) : Option XR := na h 0 3 fun r1 h2 => F_X0_chances_6 FU x0 r1 0 h2
theorem WF_X0_chances {d : Nat} {Z : XZ XR} (hdd : 127 ≤ d) : ∀ x0 h, XG xfh (xQ 3) RX0 "chances" cX0_chances 3 (some (.array .int)) d Z 0 [(0, (2, x0))] [] h (F_X0_chances x0 h) := by
  intro x0 h
  unfold F_X0_chances
  refine x_ic dX0_chances_0 (by decide) (by decide) ?_
  refine x_newarr (atype := .int) 0 (by decide) rfl rfl q252 dX0_chances_1 fun r1 h2 => ?_
  refine x_astore_n (lv' := [(1, (2, r1)), (0, (2, x0))]) dX0_chances_3 rfl (by decide) rfl ?_
  refine x_ic dX0_chances_4 (by decide) (by decide) ?_
  refine x_istore_n (lv' := [(2, (0, 0)), (1, (2, r1)), (0, (2, x0))]) dX0_chances_5 rfl (by decide) rfl ?_
  exact x_sub [2, 1, 0] rfl (WF_X0_chances_6 hdd FU x0 r1 0 h2)
theorem SF_X0_chances (l : Launch) {d : Nat} (hdd : 127 ≤ d) (x0 : Int) (h : XH) (hok : okH h) (ho : okXs (xn h) [(2, x0)]) (fin : XR) (hf : F_X0_chances x0 h = some fin) : xSpec l yX0_chances cX0_chances 3 (some (.array .int)) d 3 [(2, x0)] h fin := x_enter (lv := [(0, (2, x0))]) (by decide) rfl rfl (Nat.le_of_ble_eq_true rfl) rfl (fun Z _ => WF_X0_chances hdd x0 h) hok ho fin hf
theorem xpF_X18_15 {ρ : Type} {fh : ρ → XH} {QQ : XZ ρ → State → Prop} {cc : ByteArray} {nL : Nat} {ret : Option FieldType} {d : Nat} {Z : XZ ρ} {pc : Nat} {lv : List (Nat × AV)} {st : List AV} {h : XH} {f : XH → Option ρ} {a x : Int} (hd : decode cc pc = .ok (.putfield 15, 3)) (kk : ∀ h1, XG fh QQ RX18 "<init>" cc nL ret d Z (pc + 3) lv st h1 (f h1)) : XG fh QQ RX18 "<init>" cc nL ret d Z pc lv ((0, x) :: (2, a) :: st) h (ob h a 16 (nm (hset h a 1 x) f)) := x_putF (C := RX18) (ref := RX18) 16 1 rfl in_X18 tyX18_ok nmX18 (by decide) rfl (by decide) (Or.inl rfl) rfl rfl rfl (xfit_X18 1 (by decide)) 0 rfl q1015 hd kk
theorem xpF_X18_9 {ρ : Type} {fh : ρ → XH} {QQ : XZ ρ → State → Prop} {cc : ByteArray} {nL : Nat} {ret : Option FieldType} {d : Nat} {Z : XZ ρ} {pc : Nat} {lv : List (Nat × AV)} {st : List AV} {h : XH} {f : XH → Option ρ} {a x : Int} (hd : decode cc pc = .ok (.putfield 9, 3)) (kk : ∀ h1, XG fh QQ RX18 "<init>" cc nL ret d Z (pc + 3) lv st h1 (f h1)) : XG fh QQ RX18 "<init>" cc nL ret d Z pc lv ((2, x) :: (2, a) :: st) h (ob h a 16 (nm (hset h a 0 x) f)) := x_putF (C := RX18) (ref := RX18) 16 0 rfl in_X18 tyX18_ok nmX18 (by decide) rfl (by decide) (Or.inl rfl) rfl rfl rfl (xfit_X18 0 (by decide)) 2 rfl q1014 hd kk
noncomputable def F_X18_init (x0 : Int) (x1 : Int) (x2 : Int) (h : XH) : Option XR := pz x0 <| ob h x0 16 <| nm (hset h x0 0 x1) fun h1 => ob h1 x0 16 <| nm (hset h1 x0 1 x2) fun h2 => some (0, h2)
theorem WF_X18_init {d : Nat} {Z : XZ XR} (hdd : 1 ≤ d) : ∀ x0 x1 x2 h, XG xfh (xQ 2) RX18 "<init>" cX18_init 3 none d Z 0 [(0, (2, x0)), (1, (2, x1)), (2, (0, x2))] [] h (F_X18_init x0 x1 x2 h) := by
  intro x0 x1 x2 h
  unfold F_X18_init
  refine x_aload_n 0 dX18_init_0 rfl rfl ?_
  refine x_objinit q1013 q176 q177 (by omega) (Nat.le_of_ble_eq_true rfl) dX18_init_1 ?_
  refine x_aload_n 0 dX18_init_4 rfl rfl ?_
  refine x_aload_n 1 dX18_init_5 rfl rfl ?_
  refine xpF_X18_9 dX18_init_6 fun h1 => ?_
  refine x_aload_n 0 dX18_init_9 rfl rfl ?_
  refine x_iload_n 2 dX18_init_10 rfl rfl ?_
  refine xpF_X18_15 dX18_init_11 fun h2 => ?_
  exact x_vret rfl dX18_init_14
theorem SF_X18_init (l : Launch) {d : Nat} (hdd : 1 ≤ d) (x0 : Int) (x1 : Int) (x2 : Int) (h : XH) (hok : okH h) (ho : okXs (xn h) [(2, x0), (2, x1), (0, x2)]) (fin : XR) (hf : F_X18_init x0 x1 x2 h = some fin) : xSpec l yX18_init cX18_init 3 none d 2 [(2, x0), (2, x1), (0, x2)] h fin := x_enter (lv := [(0, (2, x0)), (1, (2, x1)), (2, (0, x2))]) (by decide) rfl rfl (Nat.le_of_ble_eq_true rfl) rfl (fun Z _ => WF_X18_init hdd x0 x1 x2 h) hok ho fin hf
theorem cl_X17_24 {ρ : Type} {fh : ρ → XH} {QQ : XZ ρ → State → Prop} {mn : String} {cc : ByteArray} {nL : Nat} {ret : Option FieldType} {d : Nat} {Z : XZ ρ} {pc : Nat} {lv : List (Nat × AV)} {st : List AV} {h : XH} {g : Int → XH → Option ρ} {b : Int} (hdd : 128 ≤ d) (hcat : (st.map fun v => if v.1 = 1 then 2 else 1).sum ≤ 8) (hdg : decode cc pc = .ok (.invokevirtual 24, 3)) (kk : ∀ r h1, XG fh QQ RX17 mn cc nL ret d Z (pc + 3) lv ((2, r) :: st) h1 (g r h1)) : XG fh QQ RX17 mn cc nL ret d Z pc lv ((2, b) :: st) h (ob h b 1 (mb (F_X0_chances b h) g)) :=
  x_callPr [] 0 (WF_X0_chances (Z := (Z.1, Z.2.1, ((0, h), h))) (Nat.le_refl 127) b h).1 (fun hok ho fin hf => SF_X0_chances (yL Z) (Nat.le_refl 127) b h hok ho fin hf) RX0 1 rfl (by decide) q1005 q124 q1007 qs32 (lw_meth q1008) ⟨by decide +kernel, by decide +kernel, by decide +kernel⟩ rfl (by omega) (by decide) rfl hcat hdg kk
theorem cl_X17_37 {ρ : Type} {fh : ρ → XH} {QQ : XZ ρ → State → Prop} {mn : String} {cc : ByteArray} {nL : Nat} {ret : Option FieldType} {d : Nat} {Z : XZ ρ} {pc : Nat} {lv : List (Nat × AV)} {st : List AV} {h : XH} {g : Int → XH → Option ρ} {b a0 a1 : Int} (hdd : 2 ≤ d) (hcat : (st.map fun v => if v.1 = 1 then 2 else 1).sum ≤ 8) (hdg : decode cc pc = .ok (.invokespecial 37, 3)) (kk : ∀ r h1, XG fh QQ RX17 mn cc nL ret d Z (pc + 3) lv st h1 (g r h1)) : XG fh QQ RX17 mn cc nL ret d Z pc lv ((0, a1) :: (2, a0) :: (2, b) :: st) h (pz b (mb (F_X18_init b a0 a1 h) g)) :=
  x_callIv [(2, a0), (0, a1)] 2 (WF_X18_init (Z := (Z.1, Z.2.1, ((0, h), h))) (Nat.le_refl 1) b a0 a1 h).1 (fun hok ho fin hf => SF_X18_init (yL Z) (Nat.le_refl 1) b a0 a1 h hok ho fin hf) (lw_meth q1012) q156 q1010 q1011 rfl ⟨by decide +kernel, by decide +kernel, by decide +kernel⟩ rfl (by omega) (by decide) rfl hcat hdg kk
theorem xpF_X17_15 {ρ : Type} {fh : ρ → XH} {QQ : XZ ρ → State → Prop} {cc : ByteArray} {nL : Nat} {ret : Option FieldType} {d : Nat} {Z : XZ ρ} {pc : Nat} {lv : List (Nat × AV)} {st : List AV} {h : XH} {f : XH → Option ρ} {a x : Int} (hd : decode cc pc = .ok (.putfield 15, 3)) (kk : ∀ h1, XG fh QQ RX17 "<init>" cc nL ret d Z (pc + 3) lv st h1 (f h1)) : XG fh QQ RX17 "<init>" cc nL ret d Z pc lv ((2, x) :: (2, a) :: st) h (ob h a 15 (nm (hset h a 0 x) f)) := x_putF (C := RX17) (ref := RX17) 15 0 rfl in_X17 tyX17_ok nmX17 (by decide) rfl (by decide) (Or.inl rfl) rfl rfl rfl (xfit_X17 0 (by decide)) 2 rfl q1024 hd kk
theorem xpF_X17_19 {ρ : Type} {fh : ρ → XH} {QQ : XZ ρ → State → Prop} {cc : ByteArray} {nL : Nat} {ret : Option FieldType} {d : Nat} {Z : XZ ρ} {pc : Nat} {lv : List (Nat × AV)} {st : List AV} {h : XH} {f : XH → Option ρ} {a x : Int} (hd : decode cc pc = .ok (.putfield 19, 3)) (kk : ∀ h1, XG fh QQ RX17 "<init>" cc nL ret d Z (pc + 3) lv st h1 (f h1)) : XG fh QQ RX17 "<init>" cc nL ret d Z pc lv ((2, x) :: (2, a) :: st) h (ob h a 15 (nm (hset h a 1 x) f)) := x_putF (C := RX17) (ref := RX17) 15 1 rfl in_X17 tyX17_ok nmX17 (by decide) rfl (by decide) (Or.inl rfl) rfl rfl rfl (xfit_X17 1 (by decide)) 2 rfl q1025 hd kk
theorem xg_X17_28 {ρ : Type} {fh : ρ → XH} {QQ : XZ ρ → State → Prop} {mn : String} {cc : ByteArray} {nL : Nat} {ret : Option FieldType} {d : Nat} {Z : XZ ρ} {pc : Nat} {lv : List (Nat × AV)} {st : List AV} {h : XH} {res : Option ρ} {a : Int} (hd : decode cc pc = .ok (.getfield 28, 3)) (kk : XG fh QQ RX17 mn cc nL ret d Z (pc + 3) lv ((2, xv h a 0) :: st) h res) : XG fh QQ RX17 mn cc nL ret d Z pc lv ((2, a) :: st) h (ob h a 1 res) := x_getN (C := RX0) (ref := RX0) 1 0 rfl in_X0 (by decide) rfl (by decide) (Or.inl rfl) q289 hd kk
theorem xg_X17_3 {ρ : Type} {fh : ρ → XH} {QQ : XZ ρ → State → Prop} {mn : String} {cc : ByteArray} {nL : Nat} {ret : Option FieldType} {d : Nat} {Z : XZ ρ} {pc : Nat} {lv : List (Nat × AV)} {st : List AV} {h : XH} {res : Option ρ} {a : Int} (hd : decode cc pc = .ok (.getfield 3, 3)) (kk : XG fh QQ RX17 mn cc nL ret d Z (pc + 3) lv ((2, xv h a 3) :: st) h res) : XG fh QQ RX17 mn cc nL ret d Z pc lv ((2, a) :: st) h (ob h a 15 res) := x_get (C := RX17) (ref := RX17) 15 3 rfl in_X17 (by decide) rfl (by decide) (Or.inl rfl) q1028 hd kk
theorem xpF_X17_3 {ρ : Type} {fh : ρ → XH} {QQ : XZ ρ → State → Prop} {cc : ByteArray} {nL : Nat} {ret : Option FieldType} {d : Nat} {Z : XZ ρ} {pc : Nat} {lv : List (Nat × AV)} {st : List AV} {h : XH} {f : XH → Option ρ} {a x : Int} (hd : decode cc pc = .ok (.putfield 3, 3)) (kk : ∀ h1, XG fh QQ RX17 "<init>" cc nL ret d Z (pc + 3) lv st h1 (f h1)) : XG fh QQ RX17 "<init>" cc nL ret d Z pc lv ((2, x) :: (2, a) :: st) h (ob h a 15 (nm (hset h a 3 x) f)) := x_putF (C := RX17) (ref := RX17) 15 3 rfl in_X17 tyX17_ok nmX17 (by decide) rfl (by decide) (Or.inl rfl) rfl rfl rfl (xfit_X17 3 (by decide)) 2 rfl q1028 hd kk
theorem xg_X17_32 {ρ : Type} {fh : ρ → XH} {QQ : XZ ρ → State → Prop} {mn : String} {cc : ByteArray} {nL : Nat} {ret : Option FieldType} {d : Nat} {Z : XZ ρ} {pc : Nat} {lv : List (Nat × AV)} {st : List AV} {h : XH} {res : Option ρ} {a : Int} (hd : decode cc pc = .ok (.getfield 32, 3)) (kk : XG fh QQ RX17 mn cc nL ret d Z (pc + 3) lv ((2, xv h a 3) :: st) h res) : XG fh QQ RX17 mn cc nL ret d Z pc lv ((2, a) :: st) h (ob h a 2 res) := x_getN (C := RX1) (ref := RX1) 2 3 rfl in_X1 (by decide) rfl (by decide) (Or.inl rfl) q220 hd kk
theorem xpF_X17_40 {ρ : Type} {fh : ρ → XH} {QQ : XZ ρ → State → Prop} {cc : ByteArray} {nL : Nat} {ret : Option FieldType} {d : Nat} {Z : XZ ρ} {pc : Nat} {lv : List (Nat × AV)} {st : List AV} {h : XH} {f : XH → Option ρ} {a x : Int} (hd : decode cc pc = .ok (.putfield 40, 3)) (kk : ∀ h1, XG fh QQ RX17 "<init>" cc nL ret d Z (pc + 3) lv st h1 (f h1)) : XG fh QQ RX17 "<init>" cc nL ret d Z pc lv ((2, x) :: (2, a) :: st) h (ob h a 15 (nm (hset h a 2 x) f)) := x_putF (C := RX17) (ref := RX17) 15 2 rfl in_X17 tyX17_ok nmX17 (by decide) rfl (by decide) (Or.inl rfl) rfl rfl rfl (xfit_X17 2 (by decide)) 2 rfl q1026 hd kk
theorem xn_X17_22 {ρ : Type} {fh : ρ → XH} {QQ : XZ ρ → State → Prop} {mn : String} {cc : ByteArray} {nL : Nat} {ret : Option FieldType} {d : Nat} {Z : XZ ρ} {pc : Nat} {lv : List (Nat × AV)} {st : List AV} {h : XH} {f : Int → XH → Option ρ} (hd : decode cc pc = .ok (.new 22, 3)) (kk : ∀ r h1, XG fh QQ RX17 mn cc nL ret d Z (pc + 3) lv ((2, r) :: st) h1 (f r h1)) : XG fh QQ RX17 mn cc nL ret d Z pc lv st h (nw h 16 2 f) := x_new (C := RX18) 16 rfl in_X18 tyX18_ok (by decide) rfl (by decide) xfit_X18 q1003 q1004 q156 hd kk
noncomputable def F_X17_init (x0 : Int) (x1 : Int) (h : XH) : Option XR := ob h x0 15 <| nm (hset h x0 3 x1) fun h1 => pz x0 <| na h1 0 3 fun r2 h3 => ob h3 x0 15 <| nm (hset h3 x0 0 r2) fun h4 => na h4 0 3 fun r5 h6 => ob h6 x0 15 <| nm (hset h6 x0 1 r5) fun h7 => nw h7 16 2 fun r8 h9 => ob h9 x0 15 <| ob h9 (xv h9 x0 3) 1 <| mb (F_X0_chances (xv h9 x0 3) h9) fun r10 h11 => ob h11 x0 15 <| ob h11 (xv h11 x0 3) 1 <| ob h11 (xv h11 (xv h11 x0 3) 0) 2 <| ai h11 (xv h11 (xv h11 (xv h11 x0 3) 0) 3) 0 1 <| pz r8 <| mb (F_X18_init r8 r10 (xv h11 (xv h11 (xv h11 (xv h11 x0 3) 0) 3) 1) h11) fun r12 h13 => ob h13 x0 15 <| nm (hset h13 x0 2 r8) fun h14 => some (0, h14)
theorem WF_X17_init {d : Nat} {Z : XZ XR} (hdd : 128 ≤ d) : ∀ x0 x1 h, XG xfh (xQ 2) RX17 "<init>" cX17_init 2 none d Z 0 [(0, (2, x0)), (1, (2, x1))] [] h (F_X17_init x0 x1 h) := by
  intro x0 x1 h
  unfold F_X17_init
  refine x_aload_n 0 dX17_init_0 rfl rfl ?_
  refine x_aload_n 1 dX17_init_1 rfl rfl ?_
  refine xpF_X17_3 dX17_init_2 fun h1 => ?_
  refine x_aload_n 0 dX17_init_5 rfl rfl ?_
  refine x_objinit q1002 q176 q177 (by omega) (Nat.le_of_ble_eq_true rfl) dX17_init_6 ?_
  refine x_aload_n 0 dX17_init_9 rfl rfl ?_
  refine x_ic dX17_init_10 (by decide) (by decide) ?_
  refine x_newarr (atype := .int) 0 (by decide) rfl rfl q252 dX17_init_11 fun r2 h3 => ?_
  refine xpF_X17_15 dX17_init_13 fun h4 => ?_
  refine x_aload_n 0 dX17_init_16 rfl rfl ?_
  refine x_ic dX17_init_17 (by decide) (by decide) ?_
  refine x_newarr (atype := .int) 0 (by decide) rfl rfl q252 dX17_init_18 fun r5 h6 => ?_
  refine xpF_X17_19 dX17_init_20 fun h7 => ?_
  refine x_aload_n 0 dX17_init_23 rfl rfl ?_
  refine xn_X17_22 dX17_init_24 fun r8 h9 => ?_
  refine x_dup dX17_init_27 rfl ?_
  refine x_aload_n 0 dX17_init_28 rfl rfl ?_
  refine xg_X17_3 dX17_init_29 ?_
  refine cl_X17_24 (by omega) (Nat.le_of_ble_eq_true rfl) dX17_init_32 fun r10 h11 => ?_
  refine x_aload_n 0 dX17_init_35 rfl rfl ?_
  refine xg_X17_3 dX17_init_36 ?_
  refine xg_X17_28 dX17_init_39 ?_
  refine xg_X17_32 dX17_init_42 ?_
  refine x_ic dX17_init_45 (by decide) (by decide) ?_
  refine x_iald dX17_init_46 ?_
  refine cl_X17_37 (by omega) (Nat.le_of_ble_eq_true rfl) dX17_init_47 fun r12 h13 => ?_
  refine xpF_X17_40 dX17_init_50 fun h14 => ?_
  exact x_vret rfl dX17_init_53
theorem SF_X17_init (l : Launch) {d : Nat} (hdd : 128 ≤ d) (x0 : Int) (x1 : Int) (h : XH) (hok : okH h) (ho : okXs (xn h) [(2, x0), (2, x1)]) (fin : XR) (hf : F_X17_init x0 x1 h = some fin) : xSpec l yX17_init cX17_init 2 none d 2 [(2, x0), (2, x1)] h fin := x_enter (lv := [(0, (2, x0)), (1, (2, x1))]) (by decide) rfl rfl (Nat.le_of_ble_eq_true rfl) rfl (fun Z _ => WF_X17_init hdd x0 x1 h) hok ho fin hf
