/-! printed by tools/genx.py: the model's constructor, in the system's layer -/
set_option maxRecDepth 100000
set_option maxHeartbeats 4000000
theorem xpF_X4_102 {ρ : Type} {fh : ρ → XH} {QQ : XZ ρ → State → Prop} {cc : ByteArray} {nL : Nat} {ret : Option FieldType} {d : Nat} {Z : XZ ρ} {pc : Nat} {lv : List (Nat × AV)} {st : List AV} {h : XH} {f : XH → Option ρ} {a x : Int} (hd : decode cc pc = .ok (.putfield 102, 3)) (kk : ∀ h1, XG fh QQ RX4 "<init>" cc nL ret d Z (pc + 3) lv st h1 (f h1)) : XG fh QQ RX4 "<init>" cc nL ret d Z pc lv ((2, x) :: (2, a) :: st) h (ob h a 0 (nm (hset h a 46 x) f)) := x_putF (C := RX4) (ref := RX4) 0 46 rfl in_X4 tyX4_ok nmX4 (by decide) rfl (by decide) (Or.inl rfl) rfl rfl rfl (xfit_X4 46 (by decide)) 2 rfl q1711 hd kk
theorem xpF_X4_105 {ρ : Type} {fh : ρ → XH} {QQ : XZ ρ → State → Prop} {cc : ByteArray} {nL : Nat} {ret : Option FieldType} {d : Nat} {Z : XZ ρ} {pc : Nat} {lv : List (Nat × AV)} {st : List AV} {h : XH} {f : XH → Option ρ} {a x : Int} (hd : decode cc pc = .ok (.putfield 105, 3)) (kk : ∀ h1, XG fh QQ RX4 "<init>" cc nL ret d Z (pc + 3) lv st h1 (f h1)) : XG fh QQ RX4 "<init>" cc nL ret d Z pc lv ((2, x) :: (2, a) :: st) h (ob h a 0 (nm (hset h a 47 x) f)) := x_putF (C := RX4) (ref := RX4) 0 47 rfl in_X4 tyX4_ok nmX4 (by decide) rfl (by decide) (Or.inl rfl) rfl rfl rfl (xfit_X4 47 (by decide)) 2 rfl q1712 hd kk
theorem xpF_X4_108 {ρ : Type} {fh : ρ → XH} {QQ : XZ ρ → State → Prop} {cc : ByteArray} {nL : Nat} {ret : Option FieldType} {d : Nat} {Z : XZ ρ} {pc : Nat} {lv : List (Nat × AV)} {st : List AV} {h : XH} {f : XH → Option ρ} {a x : Int} (hd : decode cc pc = .ok (.putfield 108, 3)) (kk : ∀ h1, XG fh QQ RX4 "<init>" cc nL ret d Z (pc + 3) lv st h1 (f h1)) : XG fh QQ RX4 "<init>" cc nL ret d Z pc lv ((2, x) :: (2, a) :: st) h (ob h a 0 (nm (hset h a 52 x) f)) := x_putF (C := RX4) (ref := RX4) 0 52 rfl in_X4 tyX4_ok nmX4 (by decide) rfl (by decide) (Or.inl rfl) rfl rfl rfl (xfit_X4 52 (by decide)) 2 rfl q1717 hd kk
theorem xpF_X4_111 {ρ : Type} {fh : ρ → XH} {QQ : XZ ρ → State → Prop} {cc : ByteArray} {nL : Nat} {ret : Option FieldType} {d : Nat} {Z : XZ ρ} {pc : Nat} {lv : List (Nat × AV)} {st : List AV} {h : XH} {f : XH → Option ρ} {a x : Int} (hd : decode cc pc = .ok (.putfield 111, 3)) (kk : ∀ h1, XG fh QQ RX4 "<init>" cc nL ret d Z (pc + 3) lv st h1 (f h1)) : XG fh QQ RX4 "<init>" cc nL ret d Z pc lv ((2, x) :: (2, a) :: st) h (ob h a 0 (nm (hset h a 53 x) f)) := x_putF (C := RX4) (ref := RX4) 0 53 rfl in_X4 tyX4_ok nmX4 (by decide) rfl (by decide) (Or.inl rfl) rfl rfl rfl (xfit_X4 53 (by decide)) 2 rfl q1718 hd kk
theorem xpF_X4_114 {ρ : Type} {fh : ρ → XH} {QQ : XZ ρ → State → Prop} {cc : ByteArray} {nL : Nat} {ret : Option FieldType} {d : Nat} {Z : XZ ρ} {pc : Nat} {lv : List (Nat × AV)} {st : List AV} {h : XH} {f : XH → Option ρ} {a x : Int} (hd : decode cc pc = .ok (.putfield 114, 3)) (kk : ∀ h1, XG fh QQ RX4 "<init>" cc nL ret d Z (pc + 3) lv st h1 (f h1)) : XG fh QQ RX4 "<init>" cc nL ret d Z pc lv ((2, x) :: (2, a) :: st) h (ob h a 0 (nm (hset h a 54 x) f)) := x_putF (C := RX4) (ref := RX4) 0 54 rfl in_X4 tyX4_ok nmX4 (by decide) rfl (by decide) (Or.inl rfl) rfl rfl rfl (xfit_X4 54 (by decide)) 2 rfl q1719 hd kk
theorem xpF_X4_117 {ρ : Type} {fh : ρ → XH} {QQ : XZ ρ → State → Prop} {cc : ByteArray} {nL : Nat} {ret : Option FieldType} {d : Nat} {Z : XZ ρ} {pc : Nat} {lv : List (Nat × AV)} {st : List AV} {h : XH} {f : XH → Option ρ} {a x : Int} (hd : decode cc pc = .ok (.putfield 117, 3)) (kk : ∀ h1, XG fh QQ RX4 "<init>" cc nL ret d Z (pc + 3) lv st h1 (f h1)) : XG fh QQ RX4 "<init>" cc nL ret d Z pc lv ((2, x) :: (2, a) :: st) h (ob h a 0 (nm (hset h a 55 x) f)) := x_putF (C := RX4) (ref := RX4) 0 55 rfl in_X4 tyX4_ok nmX4 (by decide) rfl (by decide) (Or.inl rfl) rfl rfl rfl (xfit_X4 55 (by decide)) 2 rfl q1720 hd kk
theorem xp_X4_120 {ρ : Type} {fh : ρ → XH} {QQ : XZ ρ → State → Prop} {mn : String} {cc : ByteArray} {nL : Nat} {ret : Option FieldType} {d : Nat} {Z : XZ ρ} {pc : Nat} {lv : List (Nat × AV)} {st : List AV} {h : XH} {f : XH → Option ρ} {a x : Int} (hd : decode cc pc = .ok (.putfield 120, 3)) (kk : ∀ h1, XG fh QQ RX4 mn cc nL ret d Z (pc + 3) lv st h1 (f h1)) : XG fh QQ RX4 mn cc nL ret d Z pc lv ((0, x) :: (2, a) :: st) h (ob h a 0 (nm (hset h a 58 x) f)) := x_put (C := RX4) (ref := RX4) 0 58 rfl in_X4 tyX4_ok nmX4 (by decide) rfl (by decide) (Or.inl rfl) (by decide) (xfit_X4 58 (by decide)) 0 rfl q1723 hd kk
theorem xpF_X4_123 {ρ : Type} {fh : ρ → XH} {QQ : XZ ρ → State → Prop} {cc : ByteArray} {nL : Nat} {ret : Option FieldType} {d : Nat} {Z : XZ ρ} {pc : Nat} {lv : List (Nat × AV)} {st : List AV} {h : XH} {f : XH → Option ρ} {a x : Int} (hd : decode cc pc = .ok (.putfield 123, 3)) (kk : ∀ h1, XG fh QQ RX4 "<init>" cc nL ret d Z (pc + 3) lv st h1 (f h1)) : XG fh QQ RX4 "<init>" cc nL ret d Z pc lv ((2, x) :: (2, a) :: st) h (ob h a 0 (nm (hset h a 60 x) f)) := x_putF (C := RX4) (ref := RX4) 0 60 rfl in_X4 tyX4_ok nmX4 (by decide) rfl (by decide) (Or.inl rfl) rfl rfl rfl (xfit_X4 60 (by decide)) 2 rfl q1725 hd kk
theorem xpF_X4_126 {ρ : Type} {fh : ρ → XH} {QQ : XZ ρ → State → Prop} {cc : ByteArray} {nL : Nat} {ret : Option FieldType} {d : Nat} {Z : XZ ρ} {pc : Nat} {lv : List (Nat × AV)} {st : List AV} {h : XH} {f : XH → Option ρ} {a x : Int} (hd : decode cc pc = .ok (.putfield 126, 3)) (kk : ∀ h1, XG fh QQ RX4 "<init>" cc nL ret d Z (pc + 3) lv st h1 (f h1)) : XG fh QQ RX4 "<init>" cc nL ret d Z pc lv ((2, x) :: (2, a) :: st) h (ob h a 0 (nm (hset h a 61 x) f)) := x_putF (C := RX4) (ref := RX4) 0 61 rfl in_X4 tyX4_ok nmX4 (by decide) rfl (by decide) (Or.inl rfl) rfl rfl rfl (xfit_X4 61 (by decide)) 2 rfl q1726 hd kk
theorem xpF_X4_129 {ρ : Type} {fh : ρ → XH} {QQ : XZ ρ → State → Prop} {cc : ByteArray} {nL : Nat} {ret : Option FieldType} {d : Nat} {Z : XZ ρ} {pc : Nat} {lv : List (Nat × AV)} {st : List AV} {h : XH} {f : XH → Option ρ} {a x : Int} (hd : decode cc pc = .ok (.putfield 129, 3)) (kk : ∀ h1, XG fh QQ RX4 "<init>" cc nL ret d Z (pc + 3) lv st h1 (f h1)) : XG fh QQ RX4 "<init>" cc nL ret d Z pc lv ((2, x) :: (2, a) :: st) h (ob h a 0 (nm (hset h a 62 x) f)) := x_putF (C := RX4) (ref := RX4) 0 62 rfl in_X4 tyX4_ok nmX4 (by decide) rfl (by decide) (Or.inl rfl) rfl rfl rfl (xfit_X4 62 (by decide)) 2 rfl q1727 hd kk
theorem xp_X4_132 {ρ : Type} {fh : ρ → XH} {QQ : XZ ρ → State → Prop} {mn : String} {cc : ByteArray} {nL : Nat} {ret : Option FieldType} {d : Nat} {Z : XZ ρ} {pc : Nat} {lv : List (Nat × AV)} {st : List AV} {h : XH} {f : XH → Option ρ} {a x : Int} (hd : decode cc pc = .ok (.putfield 132, 3)) (kk : ∀ h1, XG fh QQ RX4 mn cc nL ret d Z (pc + 3) lv st h1 (f h1)) : XG fh QQ RX4 mn cc nL ret d Z pc lv ((0, x) :: (2, a) :: st) h (ob h a 0 (nm (hset h a 64 x) f)) := x_put (C := RX4) (ref := RX4) 0 64 rfl in_X4 tyX4_ok nmX4 (by decide) rfl (by decide) (Or.inl rfl) (by decide) (xfit_X4 64 (by decide)) 0 rfl q1729 hd kk
theorem xg_X4_20 {ρ : Type} {fh : ρ → XH} {QQ : XZ ρ → State → Prop} {mn : String} {cc : ByteArray} {nL : Nat} {ret : Option FieldType} {d : Nat} {Z : XZ ρ} {pc : Nat} {lv : List (Nat × AV)} {st : List AV} {h : XH} {res : Option ρ} {a : Int} (hd : decode cc pc = .ok (.getfield 20, 3)) (kk : XG fh QQ RX4 mn cc nL ret d Z (pc + 3) lv ((2, xv h a 3) :: st) h res) : XG fh QQ RX4 mn cc nL ret d Z pc lv ((2, a) :: st) h (ob h a 0 res) := x_get (C := RX4) (ref := RX4) 0 3 rfl in_X4 (by decide) rfl (by decide) (Or.inl rfl) q1668 hd kk
theorem xpF_X4_20 {ρ : Type} {fh : ρ → XH} {QQ : XZ ρ → State → Prop} {cc : ByteArray} {nL : Nat} {ret : Option FieldType} {d : Nat} {Z : XZ ρ} {pc : Nat} {lv : List (Nat × AV)} {st : List AV} {h : XH} {f : XH → Option ρ} {a x : Int} (hd : decode cc pc = .ok (.putfield 20, 3)) (kk : ∀ h1, XG fh QQ RX4 "<init>" cc nL ret d Z (pc + 3) lv st h1 (f h1)) : XG fh QQ RX4 "<init>" cc nL ret d Z pc lv ((2, x) :: (2, a) :: st) h (ob h a 0 (nm (hset h a 3 x) f)) := x_putF (C := RX4) (ref := RX4) 0 3 rfl in_X4 tyX4_ok nmX4 (by decide) rfl (by decide) (Or.inl rfl) rfl rfl rfl (xfit_X4 3 (by decide)) 2 rfl q1668 hd kk
theorem xpF_X4_23 {ρ : Type} {fh : ρ → XH} {QQ : XZ ρ → State → Prop} {cc : ByteArray} {nL : Nat} {ret : Option FieldType} {d : Nat} {Z : XZ ρ} {pc : Nat} {lv : List (Nat × AV)} {st : List AV} {h : XH} {f : XH → Option ρ} {a x : Int} (hd : decode cc pc = .ok (.putfield 23, 3)) (kk : ∀ h1, XG fh QQ RX4 "<init>" cc nL ret d Z (pc + 3) lv st h1 (f h1)) : XG fh QQ RX4 "<init>" cc nL ret d Z pc lv ((2, x) :: (2, a) :: st) h (ob h a 0 (nm (hset h a 4 x) f)) := x_putF (C := RX4) (ref := RX4) 0 4 rfl in_X4 tyX4_ok nmX4 (by decide) rfl (by decide) (Or.inl rfl) rfl rfl rfl (xfit_X4 4 (by decide)) 2 rfl q1669 hd kk
theorem xpF_X4_26 {ρ : Type} {fh : ρ → XH} {QQ : XZ ρ → State → Prop} {cc : ByteArray} {nL : Nat} {ret : Option FieldType} {d : Nat} {Z : XZ ρ} {pc : Nat} {lv : List (Nat × AV)} {st : List AV} {h : XH} {f : XH → Option ρ} {a x : Int} (hd : decode cc pc = .ok (.putfield 26, 3)) (kk : ∀ h1, XG fh QQ RX4 "<init>" cc nL ret d Z (pc + 3) lv st h1 (f h1)) : XG fh QQ RX4 "<init>" cc nL ret d Z pc lv ((2, x) :: (2, a) :: st) h (ob h a 0 (nm (hset h a 5 x) f)) := x_putF (C := RX4) (ref := RX4) 0 5 rfl in_X4 tyX4_ok nmX4 (by decide) rfl (by decide) (Or.inl rfl) rfl rfl rfl (xfit_X4 5 (by decide)) 2 rfl q1670 hd kk
theorem xpF_X4_30 {ρ : Type} {fh : ρ → XH} {QQ : XZ ρ → State → Prop} {cc : ByteArray} {nL : Nat} {ret : Option FieldType} {d : Nat} {Z : XZ ρ} {pc : Nat} {lv : List (Nat × AV)} {st : List AV} {h : XH} {f : XH → Option ρ} {a x : Int} (hd : decode cc pc = .ok (.putfield 30, 3)) (kk : ∀ h1, XG fh QQ RX4 "<init>" cc nL ret d Z (pc + 3) lv st h1 (f h1)) : XG fh QQ RX4 "<init>" cc nL ret d Z pc lv ((2, x) :: (2, a) :: st) h (ob h a 0 (nm (hset h a 6 x) f)) := x_putF (C := RX4) (ref := RX4) 0 6 rfl in_X4 tyX4_ok nmX4 (by decide) rfl (by decide) (Or.inl rfl) rfl rfl rfl (xfit_X4 6 (by decide)) 2 rfl q1671 hd kk
theorem xpF_X4_34 {ρ : Type} {fh : ρ → XH} {QQ : XZ ρ → State → Prop} {cc : ByteArray} {nL : Nat} {ret : Option FieldType} {d : Nat} {Z : XZ ρ} {pc : Nat} {lv : List (Nat × AV)} {st : List AV} {h : XH} {f : XH → Option ρ} {a x : Int} (hd : decode cc pc = .ok (.putfield 34, 3)) (kk : ∀ h1, XG fh QQ RX4 "<init>" cc nL ret d Z (pc + 3) lv st h1 (f h1)) : XG fh QQ RX4 "<init>" cc nL ret d Z pc lv ((2, x) :: (2, a) :: st) h (ob h a 0 (nm (hset h a 7 x) f)) := x_putF (C := RX4) (ref := RX4) 0 7 rfl in_X4 tyX4_ok nmX4 (by decide) rfl (by decide) (Or.inl rfl) rfl rfl rfl (xfit_X4 7 (by decide)) 2 rfl q1672 hd kk
theorem xpF_X4_37 {ρ : Type} {fh : ρ → XH} {QQ : XZ ρ → State → Prop} {cc : ByteArray} {nL : Nat} {ret : Option FieldType} {d : Nat} {Z : XZ ρ} {pc : Nat} {lv : List (Nat × AV)} {st : List AV} {h : XH} {f : XH → Option ρ} {a x : Int} (hd : decode cc pc = .ok (.putfield 37, 3)) (kk : ∀ h1, XG fh QQ RX4 "<init>" cc nL ret d Z (pc + 3) lv st h1 (f h1)) : XG fh QQ RX4 "<init>" cc nL ret d Z pc lv ((2, x) :: (2, a) :: st) h (ob h a 0 (nm (hset h a 8 x) f)) := x_putF (C := RX4) (ref := RX4) 0 8 rfl in_X4 tyX4_ok nmX4 (by decide) rfl (by decide) (Or.inl rfl) rfl rfl rfl (xfit_X4 8 (by decide)) 2 rfl q1673 hd kk
theorem xp_X4_40 {ρ : Type} {fh : ρ → XH} {QQ : XZ ρ → State → Prop} {mn : String} {cc : ByteArray} {nL : Nat} {ret : Option FieldType} {d : Nat} {Z : XZ ρ} {pc : Nat} {lv : List (Nat × AV)} {st : List AV} {h : XH} {f : XH → Option ρ} {a x : Int} (hd : decode cc pc = .ok (.putfield 40, 3)) (kk : ∀ h1, XG fh QQ RX4 mn cc nL ret d Z (pc + 3) lv st h1 (f h1)) : XG fh QQ RX4 mn cc nL ret d Z pc lv ((0, x) :: (2, a) :: st) h (ob h a 0 (nm (hset h a 10 x) f)) := x_put (C := RX4) (ref := RX4) 0 10 rfl in_X4 tyX4_ok nmX4 (by decide) rfl (by decide) (Or.inl rfl) (by decide) (xfit_X4 10 (by decide)) 0 rfl q1675 hd kk
theorem xpF_X4_43 {ρ : Type} {fh : ρ → XH} {QQ : XZ ρ → State → Prop} {cc : ByteArray} {nL : Nat} {ret : Option FieldType} {d : Nat} {Z : XZ ρ} {pc : Nat} {lv : List (Nat × AV)} {st : List AV} {h : XH} {f : XH → Option ρ} {a x : Int} (hd : decode cc pc = .ok (.putfield 43, 3)) (kk : ∀ h1, XG fh QQ RX4 "<init>" cc nL ret d Z (pc + 3) lv st h1 (f h1)) : XG fh QQ RX4 "<init>" cc nL ret d Z pc lv ((2, x) :: (2, a) :: st) h (ob h a 0 (nm (hset h a 11 x) f)) := x_putF (C := RX4) (ref := RX4) 0 11 rfl in_X4 tyX4_ok nmX4 (by decide) rfl (by decide) (Or.inl rfl) rfl rfl rfl (xfit_X4 11 (by decide)) 2 rfl q1676 hd kk
theorem xpF_X4_46 {ρ : Type} {fh : ρ → XH} {QQ : XZ ρ → State → Prop} {cc : ByteArray} {nL : Nat} {ret : Option FieldType} {d : Nat} {Z : XZ ρ} {pc : Nat} {lv : List (Nat × AV)} {st : List AV} {h : XH} {f : XH → Option ρ} {a x : Int} (hd : decode cc pc = .ok (.putfield 46, 3)) (kk : ∀ h1, XG fh QQ RX4 "<init>" cc nL ret d Z (pc + 3) lv st h1 (f h1)) : XG fh QQ RX4 "<init>" cc nL ret d Z pc lv ((2, x) :: (2, a) :: st) h (ob h a 0 (nm (hset h a 12 x) f)) := x_putF (C := RX4) (ref := RX4) 0 12 rfl in_X4 tyX4_ok nmX4 (by decide) rfl (by decide) (Or.inl rfl) rfl rfl rfl (xfit_X4 12 (by decide)) 2 rfl q1677 hd kk
theorem xpF_X4_49 {ρ : Type} {fh : ρ → XH} {QQ : XZ ρ → State → Prop} {cc : ByteArray} {nL : Nat} {ret : Option FieldType} {d : Nat} {Z : XZ ρ} {pc : Nat} {lv : List (Nat × AV)} {st : List AV} {h : XH} {f : XH → Option ρ} {a x : Int} (hd : decode cc pc = .ok (.putfield 49, 3)) (kk : ∀ h1, XG fh QQ RX4 "<init>" cc nL ret d Z (pc + 3) lv st h1 (f h1)) : XG fh QQ RX4 "<init>" cc nL ret d Z pc lv ((2, x) :: (2, a) :: st) h (ob h a 0 (nm (hset h a 13 x) f)) := x_putF (C := RX4) (ref := RX4) 0 13 rfl in_X4 tyX4_ok nmX4 (by decide) rfl (by decide) (Or.inl rfl) rfl rfl rfl (xfit_X4 13 (by decide)) 2 rfl q1678 hd kk
theorem xpF_X4_52 {ρ : Type} {fh : ρ → XH} {QQ : XZ ρ → State → Prop} {cc : ByteArray} {nL : Nat} {ret : Option FieldType} {d : Nat} {Z : XZ ρ} {pc : Nat} {lv : List (Nat × AV)} {st : List AV} {h : XH} {f : XH → Option ρ} {a x : Int} (hd : decode cc pc = .ok (.putfield 52, 3)) (kk : ∀ h1, XG fh QQ RX4 "<init>" cc nL ret d Z (pc + 3) lv st h1 (f h1)) : XG fh QQ RX4 "<init>" cc nL ret d Z pc lv ((2, x) :: (2, a) :: st) h (ob h a 0 (nm (hset h a 21 x) f)) := x_putF (C := RX4) (ref := RX4) 0 21 rfl in_X4 tyX4_ok nmX4 (by decide) rfl (by decide) (Or.inl rfl) rfl rfl rfl (xfit_X4 21 (by decide)) 2 rfl q1686 hd kk
theorem xpF_X4_55 {ρ : Type} {fh : ρ → XH} {QQ : XZ ρ → State → Prop} {cc : ByteArray} {nL : Nat} {ret : Option FieldType} {d : Nat} {Z : XZ ρ} {pc : Nat} {lv : List (Nat × AV)} {st : List AV} {h : XH} {f : XH → Option ρ} {a x : Int} (hd : decode cc pc = .ok (.putfield 55, 3)) (kk : ∀ h1, XG fh QQ RX4 "<init>" cc nL ret d Z (pc + 3) lv st h1 (f h1)) : XG fh QQ RX4 "<init>" cc nL ret d Z pc lv ((2, x) :: (2, a) :: st) h (ob h a 0 (nm (hset h a 22 x) f)) := x_putF (C := RX4) (ref := RX4) 0 22 rfl in_X4 tyX4_ok nmX4 (by decide) rfl (by decide) (Or.inl rfl) rfl rfl rfl (xfit_X4 22 (by decide)) 2 rfl q1687 hd kk
theorem xpF_X4_58 {ρ : Type} {fh : ρ → XH} {QQ : XZ ρ → State → Prop} {cc : ByteArray} {nL : Nat} {ret : Option FieldType} {d : Nat} {Z : XZ ρ} {pc : Nat} {lv : List (Nat × AV)} {st : List AV} {h : XH} {f : XH → Option ρ} {a x : Int} (hd : decode cc pc = .ok (.putfield 58, 3)) (kk : ∀ h1, XG fh QQ RX4 "<init>" cc nL ret d Z (pc + 3) lv st h1 (f h1)) : XG fh QQ RX4 "<init>" cc nL ret d Z pc lv ((2, x) :: (2, a) :: st) h (ob h a 0 (nm (hset h a 23 x) f)) := x_putF (C := RX4) (ref := RX4) 0 23 rfl in_X4 tyX4_ok nmX4 (by decide) rfl (by decide) (Or.inl rfl) rfl rfl rfl (xfit_X4 23 (by decide)) 2 rfl q1688 hd kk
theorem xpF_X4_61 {ρ : Type} {fh : ρ → XH} {QQ : XZ ρ → State → Prop} {cc : ByteArray} {nL : Nat} {ret : Option FieldType} {d : Nat} {Z : XZ ρ} {pc : Nat} {lv : List (Nat × AV)} {st : List AV} {h : XH} {f : XH → Option ρ} {a x : Int} (hd : decode cc pc = .ok (.putfield 61, 3)) (kk : ∀ h1, XG fh QQ RX4 "<init>" cc nL ret d Z (pc + 3) lv st h1 (f h1)) : XG fh QQ RX4 "<init>" cc nL ret d Z pc lv ((2, x) :: (2, a) :: st) h (ob h a 0 (nm (hset h a 24 x) f)) := x_putF (C := RX4) (ref := RX4) 0 24 rfl in_X4 tyX4_ok nmX4 (by decide) rfl (by decide) (Or.inl rfl) rfl rfl rfl (xfit_X4 24 (by decide)) 2 rfl q1689 hd kk
theorem xpF_X4_64 {ρ : Type} {fh : ρ → XH} {QQ : XZ ρ → State → Prop} {cc : ByteArray} {nL : Nat} {ret : Option FieldType} {d : Nat} {Z : XZ ρ} {pc : Nat} {lv : List (Nat × AV)} {st : List AV} {h : XH} {f : XH → Option ρ} {a x : Int} (hd : decode cc pc = .ok (.putfield 64, 3)) (kk : ∀ h1, XG fh QQ RX4 "<init>" cc nL ret d Z (pc + 3) lv st h1 (f h1)) : XG fh QQ RX4 "<init>" cc nL ret d Z pc lv ((2, x) :: (2, a) :: st) h (ob h a 0 (nm (hset h a 25 x) f)) := x_putF (C := RX4) (ref := RX4) 0 25 rfl in_X4 tyX4_ok nmX4 (by decide) rfl (by decide) (Or.inl rfl) rfl rfl rfl (xfit_X4 25 (by decide)) 2 rfl q1690 hd kk
theorem xpF_X4_67 {ρ : Type} {fh : ρ → XH} {QQ : XZ ρ → State → Prop} {cc : ByteArray} {nL : Nat} {ret : Option FieldType} {d : Nat} {Z : XZ ρ} {pc : Nat} {lv : List (Nat × AV)} {st : List AV} {h : XH} {f : XH → Option ρ} {a x : Int} (hd : decode cc pc = .ok (.putfield 67, 3)) (kk : ∀ h1, XG fh QQ RX4 "<init>" cc nL ret d Z (pc + 3) lv st h1 (f h1)) : XG fh QQ RX4 "<init>" cc nL ret d Z pc lv ((2, x) :: (2, a) :: st) h (ob h a 0 (nm (hset h a 26 x) f)) := x_putF (C := RX4) (ref := RX4) 0 26 rfl in_X4 tyX4_ok nmX4 (by decide) rfl (by decide) (Or.inl rfl) rfl rfl rfl (xfit_X4 26 (by decide)) 2 rfl q1691 hd kk
theorem xpF_X4_7 {ρ : Type} {fh : ρ → XH} {QQ : XZ ρ → State → Prop} {cc : ByteArray} {nL : Nat} {ret : Option FieldType} {d : Nat} {Z : XZ ρ} {pc : Nat} {lv : List (Nat × AV)} {st : List AV} {h : XH} {f : XH → Option ρ} {a x : Int} (hd : decode cc pc = .ok (.putfield 7, 3)) (kk : ∀ h1, XG fh QQ RX4 "<init>" cc nL ret d Z (pc + 3) lv st h1 (f h1)) : XG fh QQ RX4 "<init>" cc nL ret d Z pc lv ((2, x) :: (2, a) :: st) h (ob h a 0 (nm (hset h a 2 x) f)) := x_putF (C := RX4) (ref := RX4) 0 2 rfl in_X4 tyX4_ok nmX4 (by decide) rfl (by decide) (Or.inl rfl) rfl rfl rfl (xfit_X4 2 (by decide)) 2 rfl q1667 hd kk
theorem xpF_X4_71 {ρ : Type} {fh : ρ → XH} {QQ : XZ ρ → State → Prop} {cc : ByteArray} {nL : Nat} {ret : Option FieldType} {d : Nat} {Z : XZ ρ} {pc : Nat} {lv : List (Nat × AV)} {st : List AV} {h : XH} {f : XH → Option ρ} {a x : Int} (hd : decode cc pc = .ok (.putfield 71, 3)) (kk : ∀ h1, XG fh QQ RX4 "<init>" cc nL ret d Z (pc + 3) lv st h1 (f h1)) : XG fh QQ RX4 "<init>" cc nL ret d Z pc lv ((2, x) :: (2, a) :: st) h (ob h a 0 (nm (hset h a 27 x) f)) := x_putF (C := RX4) (ref := RX4) 0 27 rfl in_X4 tyX4_ok nmX4 (by decide) rfl (by decide) (Or.inl rfl) rfl rfl rfl (xfit_X4 27 (by decide)) 2 rfl q1692 hd kk
theorem xpF_X4_75 {ρ : Type} {fh : ρ → XH} {QQ : XZ ρ → State → Prop} {cc : ByteArray} {nL : Nat} {ret : Option FieldType} {d : Nat} {Z : XZ ρ} {pc : Nat} {lv : List (Nat × AV)} {st : List AV} {h : XH} {f : XH → Option ρ} {a x : Int} (hd : decode cc pc = .ok (.putfield 75, 3)) (kk : ∀ h1, XG fh QQ RX4 "<init>" cc nL ret d Z (pc + 3) lv st h1 (f h1)) : XG fh QQ RX4 "<init>" cc nL ret d Z pc lv ((2, x) :: (2, a) :: st) h (ob h a 0 (nm (hset h a 31 x) f)) := x_putF (C := RX4) (ref := RX4) 0 31 rfl in_X4 tyX4_ok nmX4 (by decide) rfl (by decide) (Or.inl rfl) rfl rfl rfl (xfit_X4 31 (by decide)) 2 rfl q1696 hd kk
theorem xpF_X4_78 {ρ : Type} {fh : ρ → XH} {QQ : XZ ρ → State → Prop} {cc : ByteArray} {nL : Nat} {ret : Option FieldType} {d : Nat} {Z : XZ ρ} {pc : Nat} {lv : List (Nat × AV)} {st : List AV} {h : XH} {f : XH → Option ρ} {a x : Int} (hd : decode cc pc = .ok (.putfield 78, 3)) (kk : ∀ h1, XG fh QQ RX4 "<init>" cc nL ret d Z (pc + 3) lv st h1 (f h1)) : XG fh QQ RX4 "<init>" cc nL ret d Z pc lv ((2, x) :: (2, a) :: st) h (ob h a 0 (nm (hset h a 32 x) f)) := x_putF (C := RX4) (ref := RX4) 0 32 rfl in_X4 tyX4_ok nmX4 (by decide) rfl (by decide) (Or.inl rfl) rfl rfl rfl (xfit_X4 32 (by decide)) 2 rfl q1697 hd kk
theorem xpF_X4_81 {ρ : Type} {fh : ρ → XH} {QQ : XZ ρ → State → Prop} {cc : ByteArray} {nL : Nat} {ret : Option FieldType} {d : Nat} {Z : XZ ρ} {pc : Nat} {lv : List (Nat × AV)} {st : List AV} {h : XH} {f : XH → Option ρ} {a x : Int} (hd : decode cc pc = .ok (.putfield 81, 3)) (kk : ∀ h1, XG fh QQ RX4 "<init>" cc nL ret d Z (pc + 3) lv st h1 (f h1)) : XG fh QQ RX4 "<init>" cc nL ret d Z pc lv ((2, x) :: (2, a) :: st) h (ob h a 0 (nm (hset h a 33 x) f)) := x_putF (C := RX4) (ref := RX4) 0 33 rfl in_X4 tyX4_ok nmX4 (by decide) rfl (by decide) (Or.inl rfl) rfl rfl rfl (xfit_X4 33 (by decide)) 2 rfl q1698 hd kk
theorem xp_X4_84 {ρ : Type} {fh : ρ → XH} {QQ : XZ ρ → State → Prop} {mn : String} {cc : ByteArray} {nL : Nat} {ret : Option FieldType} {d : Nat} {Z : XZ ρ} {pc : Nat} {lv : List (Nat × AV)} {st : List AV} {h : XH} {f : XH → Option ρ} {a x : Int} (hd : decode cc pc = .ok (.putfield 84, 3)) (kk : ∀ h1, XG fh QQ RX4 mn cc nL ret d Z (pc + 3) lv st h1 (f h1)) : XG fh QQ RX4 mn cc nL ret d Z pc lv ((0, x) :: (2, a) :: st) h (ob h a 0 (nm (hset h a 35 x) f)) := x_put (C := RX4) (ref := RX4) 0 35 rfl in_X4 tyX4_ok nmX4 (by decide) rfl (by decide) (Or.inl rfl) (by decide) (xfit_X4 35 (by decide)) 0 rfl q1700 hd kk
theorem xpF_X4_87 {ρ : Type} {fh : ρ → XH} {QQ : XZ ρ → State → Prop} {cc : ByteArray} {nL : Nat} {ret : Option FieldType} {d : Nat} {Z : XZ ρ} {pc : Nat} {lv : List (Nat × AV)} {st : List AV} {h : XH} {f : XH → Option ρ} {a x : Int} (hd : decode cc pc = .ok (.putfield 87, 3)) (kk : ∀ h1, XG fh QQ RX4 "<init>" cc nL ret d Z (pc + 3) lv st h1 (f h1)) : XG fh QQ RX4 "<init>" cc nL ret d Z pc lv ((2, x) :: (2, a) :: st) h (ob h a 0 (nm (hset h a 38 x) f)) := x_putF (C := RX4) (ref := RX4) 0 38 rfl in_X4 tyX4_ok nmX4 (by decide) rfl (by decide) (Or.inl rfl) rfl rfl rfl (xfit_X4 38 (by decide)) 2 rfl q1703 hd kk
theorem xpF_X4_90 {ρ : Type} {fh : ρ → XH} {QQ : XZ ρ → State → Prop} {cc : ByteArray} {nL : Nat} {ret : Option FieldType} {d : Nat} {Z : XZ ρ} {pc : Nat} {lv : List (Nat × AV)} {st : List AV} {h : XH} {f : XH → Option ρ} {a x : Int} (hd : decode cc pc = .ok (.putfield 90, 3)) (kk : ∀ h1, XG fh QQ RX4 "<init>" cc nL ret d Z (pc + 3) lv st h1 (f h1)) : XG fh QQ RX4 "<init>" cc nL ret d Z pc lv ((2, x) :: (2, a) :: st) h (ob h a 0 (nm (hset h a 39 x) f)) := x_putF (C := RX4) (ref := RX4) 0 39 rfl in_X4 tyX4_ok nmX4 (by decide) rfl (by decide) (Or.inl rfl) rfl rfl rfl (xfit_X4 39 (by decide)) 2 rfl q1704 hd kk
theorem xpF_X4_93 {ρ : Type} {fh : ρ → XH} {QQ : XZ ρ → State → Prop} {cc : ByteArray} {nL : Nat} {ret : Option FieldType} {d : Nat} {Z : XZ ρ} {pc : Nat} {lv : List (Nat × AV)} {st : List AV} {h : XH} {f : XH → Option ρ} {a x : Int} (hd : decode cc pc = .ok (.putfield 93, 3)) (kk : ∀ h1, XG fh QQ RX4 "<init>" cc nL ret d Z (pc + 3) lv st h1 (f h1)) : XG fh QQ RX4 "<init>" cc nL ret d Z pc lv ((2, x) :: (2, a) :: st) h (ob h a 0 (nm (hset h a 40 x) f)) := x_putF (C := RX4) (ref := RX4) 0 40 rfl in_X4 tyX4_ok nmX4 (by decide) rfl (by decide) (Or.inl rfl) rfl rfl rfl (xfit_X4 40 (by decide)) 2 rfl q1705 hd kk
theorem xpF_X4_96 {ρ : Type} {fh : ρ → XH} {QQ : XZ ρ → State → Prop} {cc : ByteArray} {nL : Nat} {ret : Option FieldType} {d : Nat} {Z : XZ ρ} {pc : Nat} {lv : List (Nat × AV)} {st : List AV} {h : XH} {f : XH → Option ρ} {a x : Int} (hd : decode cc pc = .ok (.putfield 96, 3)) (kk : ∀ h1, XG fh QQ RX4 "<init>" cc nL ret d Z (pc + 3) lv st h1 (f h1)) : XG fh QQ RX4 "<init>" cc nL ret d Z pc lv ((2, x) :: (2, a) :: st) h (ob h a 0 (nm (hset h a 41 x) f)) := x_putF (C := RX4) (ref := RX4) 0 41 rfl in_X4 tyX4_ok nmX4 (by decide) rfl (by decide) (Or.inl rfl) rfl rfl rfl (xfit_X4 41 (by decide)) 2 rfl q1706 hd kk
theorem xpF_X4_99 {ρ : Type} {fh : ρ → XH} {QQ : XZ ρ → State → Prop} {cc : ByteArray} {nL : Nat} {ret : Option FieldType} {d : Nat} {Z : XZ ρ} {pc : Nat} {lv : List (Nat × AV)} {st : List AV} {h : XH} {f : XH → Option ρ} {a x : Int} (hd : decode cc pc = .ok (.putfield 99, 3)) (kk : ∀ h1, XG fh QQ RX4 "<init>" cc nL ret d Z (pc + 3) lv st h1 (f h1)) : XG fh QQ RX4 "<init>" cc nL ret d Z pc lv ((2, x) :: (2, a) :: st) h (ob h a 0 (nm (hset h a 42 x) f)) := x_putF (C := RX4) (ref := RX4) 0 42 rfl in_X4 tyX4_ok nmX4 (by decide) rfl (by decide) (Or.inl rfl) rfl rfl rfl (xfit_X4 42 (by decide)) 2 rfl q1707 hd kk
noncomputable def F_X4_init_789 (s0 : Int) (x0 : Int) (h : XH) : Option XR := ob h s0 0 <| ai h (xv h s0 3) 0 106 <| nm (hset h (xv h s0 3) 106 6) fun h1 => ob h1 x0 0 <| ai h1 (xv h1 x0 3) 0 394 <| nm (hset h1 (xv h1 x0 3) 394 (-1)) fun h2 => some (0, h2)
theorem WF_X4_init_789 {d : Nat} {Z : XZ XR} (hdd : 1 ≤ d) : ∀ s0 x0 h, XG xfh (xQ 2) RX4 "<init>" cX4_init 1 none d Z 789 [(0, (2, x0))] [(2, s0)] h (F_X4_init_789 s0 x0 h) := by
  intro s0 x0 h
  unfold F_X4_init_789
  refine xg_X4_20 dX4_init_789 ?_
  refine x_bp dX4_init_792 (by decide) (by decide) ?_
  refine x_bp dX4_init_794 (by decide) (by decide) ?_
  refine x_iast dX4_init_796 fun h1 => ?_
  refine x_aload_n 0 dX4_init_797 rfl rfl ?_
  refine xg_X4_20 dX4_init_798 ?_
  refine x_sp dX4_init_801 (by decide) (by decide) ?_
  refine x_ic dX4_init_804 (by decide) (by decide) ?_
  refine x_iast dX4_init_805 fun h2 => ?_
  exact x_vret rfl dX4_init_806
noncomputable def F_X4_init_717 (s0 : Int) (x0 : Int) (h : XH) : Option XR := na h 1 12 fun r1 h2 => ob h2 s0 0 <| nm (hset h2 s0 60 r1) fun h3 => na h3 1 12 fun r4 h5 => ob h5 x0 0 <| nm (hset h5 x0 61 r4) fun h6 => na h6 1 12 fun r7 h8 => ob h8 x0 0 <| nm (hset h8 x0 62 r7) fun h9 => ob h9 x0 0 <| nm (hset h9 x0 64 (-1)) fun h10 => ob h10 x0 0 <| ai h10 (xv h10 x0 3) 0 100 <| nm (hset h10 (xv h10 x0 3) 100 8) fun h11 => ob h11 x0 0 <| ai h11 (xv h11 x0 3) 0 101 <| nm (hset h11 (xv h11 x0 3) 101 3) fun h12 => ob h12 x0 0 <| ai h12 (xv h12 x0 3) 0 102 <| nm (hset h12 (xv h12 x0 3) 102 2) fun h13 => ob h13 x0 0 <| ai h13 (xv h13 x0 3) 0 104 <| nm (hset h13 (xv h13 x0 3) 104 10) fun h14 => ob h14 x0 0 <| ai h14 (xv h14 x0 3) 0 105 <| nm (hset h14 (xv h14 x0 3) 105 19) fun h15 => F_X4_init_789 x0 x0 h15
theorem WF_X4_init_717 {d : Nat} {Z : XZ XR} (hdd : 1 ≤ d) : ∀ s0 x0 h, XG xfh (xQ 2) RX4 "<init>" cX4_init 1 none d Z 717 [(0, (2, x0))] [(2, s0)] h (F_X4_init_717 s0 x0 h) := by
  intro s0 x0 h
  unfold F_X4_init_717
  refine x_bp dX4_init_717 (by decide) (by decide) ?_
  refine x_newarr (atype := .long) 1 (by decide) rfl rfl q275 dX4_init_719 fun r1 h2 => ?_
  refine xpF_X4_123 dX4_init_721 fun h3 => ?_
  refine x_aload_n 0 dX4_init_724 rfl rfl ?_
  refine x_bp dX4_init_725 (by decide) (by decide) ?_
  refine x_newarr (atype := .long) 1 (by decide) rfl rfl q275 dX4_init_727 fun r4 h5 => ?_
  refine xpF_X4_126 dX4_init_729 fun h6 => ?_
  refine x_aload_n 0 dX4_init_732 rfl rfl ?_
  refine x_bp dX4_init_733 (by decide) (by decide) ?_
  refine x_newarr (atype := .long) 1 (by decide) rfl rfl q275 dX4_init_735 fun r7 h8 => ?_
  refine xpF_X4_129 dX4_init_737 fun h9 => ?_
  refine x_aload_n 0 dX4_init_740 rfl rfl ?_
  refine x_ic dX4_init_741 (by decide) (by decide) ?_
  refine xp_X4_132 dX4_init_742 fun h10 => ?_
  refine x_aload_n 0 dX4_init_745 rfl rfl ?_
  refine xg_X4_20 dX4_init_746 ?_
  refine x_bp dX4_init_749 (by decide) (by decide) ?_
  refine x_bp dX4_init_751 (by decide) (by decide) ?_
  refine x_iast dX4_init_753 fun h11 => ?_
  refine x_aload_n 0 dX4_init_754 rfl rfl ?_
  refine xg_X4_20 dX4_init_755 ?_
  refine x_bp dX4_init_758 (by decide) (by decide) ?_
  refine x_ic dX4_init_760 (by decide) (by decide) ?_
  refine x_iast dX4_init_761 fun h12 => ?_
  refine x_aload_n 0 dX4_init_762 rfl rfl ?_
  refine xg_X4_20 dX4_init_763 ?_
  refine x_bp dX4_init_766 (by decide) (by decide) ?_
  refine x_ic dX4_init_768 (by decide) (by decide) ?_
  refine x_iast dX4_init_769 fun h13 => ?_
  refine x_aload_n 0 dX4_init_770 rfl rfl ?_
  refine xg_X4_20 dX4_init_771 ?_
  refine x_bp dX4_init_774 (by decide) (by decide) ?_
  refine x_bp dX4_init_776 (by decide) (by decide) ?_
  refine x_iast dX4_init_778 fun h14 => ?_
  refine x_aload_n 0 dX4_init_779 rfl rfl ?_
  refine xg_X4_20 dX4_init_780 ?_
  refine x_bp dX4_init_783 (by decide) (by decide) ?_
  refine x_bp dX4_init_785 (by decide) (by decide) ?_
  refine x_iast dX4_init_787 fun h15 => ?_
  refine x_aload_n 0 dX4_init_788 rfl rfl ?_
  exact x_sub [0] rfl (WF_X4_init_789 hdd x0 x0 h15)
noncomputable def F_X4_init_640 (x0 : Int) (h : XH) : Option XR := na h 0 20 fun r1 h2 => ob h2 x0 0 <| nm (hset h2 x0 40 r1) fun h3 => na h3 0 20 fun r4 h5 => ob h5 x0 0 <| nm (hset h5 x0 41 r4) fun h6 => na h6 0 20 fun r7 h8 => ob h8 x0 0 <| nm (hset h8 x0 42 r7) fun h9 => na h9 0 40 fun r10 h11 => ob h11 x0 0 <| nm (hset h11 x0 46 r10) fun h12 => na h12 0 20 fun r13 h14 => ob h14 x0 0 <| nm (hset h14 x0 47 r13) fun h15 => na h15 0 3 fun r16 h17 => ob h17 x0 0 <| nm (hset h17 x0 52 r16) fun h18 => na h18 0 12 fun r19 h20 => ob h20 x0 0 <| nm (hset h20 x0 53 r19) fun h21 => na h21 0 12 fun r22 h23 => ob h23 x0 0 <| nm (hset h23 x0 54 r22) fun h24 => na h24 0 12 fun r25 h26 => ob h26 x0 0 <| nm (hset h26 x0 55 r25) fun h27 => ob h27 x0 0 <| nm (hset h27 x0 58 (-1)) fun h28 => F_X4_init_717 x0 x0 h28
theorem WF_X4_init_640 {d : Nat} {Z : XZ XR} (hdd : 1 ≤ d) : ∀ x0 h, XG xfh (xQ 2) RX4 "<init>" cX4_init 1 none d Z 640 [(0, (2, x0))] [] h (F_X4_init_640 x0 h) := by
  intro x0 h
  unfold F_X4_init_640
  refine x_aload_n 0 dX4_init_640 rfl rfl ?_
  refine x_bp dX4_init_641 (by decide) (by decide) ?_
  refine x_newarr (atype := .int) 0 (by decide) rfl rfl q252 dX4_init_643 fun r1 h2 => ?_
  refine xpF_X4_93 dX4_init_645 fun h3 => ?_
  refine x_aload_n 0 dX4_init_648 rfl rfl ?_
  refine x_bp dX4_init_649 (by decide) (by decide) ?_
  refine x_newarr (atype := .int) 0 (by decide) rfl rfl q252 dX4_init_651 fun r4 h5 => ?_
  refine xpF_X4_96 dX4_init_653 fun h6 => ?_
  refine x_aload_n 0 dX4_init_656 rfl rfl ?_
  refine x_bp dX4_init_657 (by decide) (by decide) ?_
  refine x_newarr (atype := .int) 0 (by decide) rfl rfl q252 dX4_init_659 fun r7 h8 => ?_
  refine xpF_X4_99 dX4_init_661 fun h9 => ?_
  refine x_aload_n 0 dX4_init_664 rfl rfl ?_
  refine x_bp dX4_init_665 (by decide) (by decide) ?_
  refine x_newarr (atype := .int) 0 (by decide) rfl rfl q252 dX4_init_667 fun r10 h11 => ?_
  refine xpF_X4_102 dX4_init_669 fun h12 => ?_
  refine x_aload_n 0 dX4_init_672 rfl rfl ?_
  refine x_bp dX4_init_673 (by decide) (by decide) ?_
  refine x_newarr (atype := .int) 0 (by decide) rfl rfl q252 dX4_init_675 fun r13 h14 => ?_
  refine xpF_X4_105 dX4_init_677 fun h15 => ?_
  refine x_aload_n 0 dX4_init_680 rfl rfl ?_
  refine x_ic dX4_init_681 (by decide) (by decide) ?_
  refine x_newarr (atype := .int) 0 (by decide) rfl rfl q252 dX4_init_682 fun r16 h17 => ?_
  refine xpF_X4_108 dX4_init_684 fun h18 => ?_
  refine x_aload_n 0 dX4_init_687 rfl rfl ?_
  refine x_bp dX4_init_688 (by decide) (by decide) ?_
  refine x_newarr (atype := .int) 0 (by decide) rfl rfl q252 dX4_init_690 fun r19 h20 => ?_
  refine xpF_X4_111 dX4_init_692 fun h21 => ?_
  refine x_aload_n 0 dX4_init_695 rfl rfl ?_
  refine x_bp dX4_init_696 (by decide) (by decide) ?_
  refine x_newarr (atype := .int) 0 (by decide) rfl rfl q252 dX4_init_698 fun r22 h23 => ?_
  refine xpF_X4_114 dX4_init_700 fun h24 => ?_
  refine x_aload_n 0 dX4_init_703 rfl rfl ?_
  refine x_bp dX4_init_704 (by decide) (by decide) ?_
  refine x_newarr (atype := .int) 0 (by decide) rfl rfl q252 dX4_init_706 fun r25 h26 => ?_
  refine xpF_X4_117 dX4_init_708 fun h27 => ?_
  refine x_aload_n 0 dX4_init_711 rfl rfl ?_
  refine x_ic dX4_init_712 (by decide) (by decide) ?_
  refine xp_X4_120 dX4_init_713 fun h28 => ?_
  refine x_aload_n 0 dX4_init_716 rfl rfl ?_
  exact x_sub [0] rfl (WF_X4_init_717 hdd x0 x0 h28)
noncomputable def F_X4_init_562 (s0 : Int) (s1 : Int) (x0 : Int) (h : XH) : Option XR := ob h s0 0 <| nm (hset h s0 23 s1) fun h1 => na h1 0 3 fun r2 h3 => ob h3 x0 0 <| nm (hset h3 x0 24 r2) fun h4 => na h4 0 3 fun r5 h6 => ob h6 x0 0 <| nm (hset h6 x0 25 r5) fun h7 => na h7 1 4 fun r8 h9 => ob h9 x0 0 <| nm (hset h9 x0 26 r8) fun h10 => na h10 1 4 fun r11 h12 => ob h12 x0 0 <| nm (hset h12 x0 27 r11) fun h13 => na h13 0 148176 fun r14 h15 => ob h15 x0 0 <| nm (hset h15 x0 31 r14) fun h16 => na h16 1 441 fun r17 h18 => ob h18 x0 0 <| nm (hset h18 x0 32 r17) fun h19 => na h19 0 80 fun r20 h21 => ob h21 x0 0 <| nm (hset h21 x0 33 r20) fun h22 => ob h22 x0 0 <| nm (hset h22 x0 35 (-1)) fun h23 => na h23 0 20 fun r24 h25 => ob h25 x0 0 <| nm (hset h25 x0 38 r24) fun h26 => na h26 0 400 fun r27 h28 => ob h28 x0 0 <| nm (hset h28 x0 39 r27) fun h29 => F_X4_init_640 x0 h29
theorem WF_X4_init_562 {d : Nat} {Z : XZ XR} (hdd : 1 ≤ d) : ∀ s0 s1 x0 h, XG xfh (xQ 2) RX4 "<init>" cX4_init 1 none d Z 562 [(0, (2, x0))] [(2, s1), (2, s0)] h (F_X4_init_562 s0 s1 x0 h) := by
  intro s0 s1 x0 h
  unfold F_X4_init_562
  refine xpF_X4_58 dX4_init_562 fun h1 => ?_
  refine x_aload_n 0 dX4_init_565 rfl rfl ?_
  refine x_ic dX4_init_566 (by decide) (by decide) ?_
  refine x_newarr (atype := .int) 0 (by decide) rfl rfl q252 dX4_init_567 fun r2 h3 => ?_
  refine xpF_X4_61 dX4_init_569 fun h4 => ?_
  refine x_aload_n 0 dX4_init_572 rfl rfl ?_
  refine x_ic dX4_init_573 (by decide) (by decide) ?_
  refine x_newarr (atype := .int) 0 (by decide) rfl rfl q252 dX4_init_574 fun r5 h6 => ?_
  refine xpF_X4_64 dX4_init_576 fun h7 => ?_
  refine x_aload_n 0 dX4_init_579 rfl rfl ?_
  refine x_ic dX4_init_580 (by decide) (by decide) ?_
  refine x_newarr (atype := .long) 1 (by decide) rfl rfl q275 dX4_init_581 fun r8 h9 => ?_
  refine xpF_X4_67 dX4_init_583 fun h10 => ?_
  refine x_aload_n 0 dX4_init_586 rfl rfl ?_
  refine x_ic dX4_init_587 (by decide) (by decide) ?_
  refine x_newarr (atype := .long) 1 (by decide) rfl rfl q275 dX4_init_588 fun r11 h12 => ?_
  refine xpF_X4_71 dX4_init_590 fun h13 => ?_
  refine x_aload_n 0 dX4_init_593 rfl rfl ?_
  refine x_ldc (n := 148176) q1664 dX4_init_594 (by decide +kernel) ⟨by decide, by decide⟩ ?_
  refine x_newarr (atype := .int) 0 (by decide) rfl rfl q252 dX4_init_596 fun r14 h15 => ?_
  refine xpF_X4_75 dX4_init_598 fun h16 => ?_
  refine x_aload_n 0 dX4_init_601 rfl rfl ?_
  refine x_sp dX4_init_602 (by decide) (by decide) ?_
  refine x_newarr (atype := .long) 1 (by decide) rfl rfl q275 dX4_init_605 fun r17 h18 => ?_
  refine xpF_X4_78 dX4_init_607 fun h19 => ?_
  refine x_aload_n 0 dX4_init_610 rfl rfl ?_
  refine x_bp dX4_init_611 (by decide) (by decide) ?_
  refine x_newarr (atype := .int) 0 (by decide) rfl rfl q252 dX4_init_613 fun r20 h21 => ?_
  refine xpF_X4_81 dX4_init_615 fun h22 => ?_
  refine x_aload_n 0 dX4_init_618 rfl rfl ?_
  refine x_ic dX4_init_619 (by decide) (by decide) ?_
  refine xp_X4_84 dX4_init_620 fun h23 => ?_
  refine x_aload_n 0 dX4_init_623 rfl rfl ?_
  refine x_bp dX4_init_624 (by decide) (by decide) ?_
  refine x_newarr (atype := .int) 0 (by decide) rfl rfl q252 dX4_init_626 fun r24 h25 => ?_
  refine xpF_X4_87 dX4_init_628 fun h26 => ?_
  refine x_aload_n 0 dX4_init_631 rfl rfl ?_
  refine x_sp dX4_init_632 (by decide) (by decide) ?_
  refine x_newarr (atype := .int) 0 (by decide) rfl rfl q252 dX4_init_635 fun r27 h28 => ?_
  refine xpF_X4_90 dX4_init_637 fun h29 => ?_
  exact x_sub [0] rfl (WF_X4_init_640 hdd x0 h29)
noncomputable def F_X4_init_485 (s0 : Int) (s1 : Int) (s2 : Int) (s3 : Int) (s4 : Int) (x0 : Int) (h : XH) : Option XR := ai h s2 2 s3 <| nm (hset h s2 s3 (w8 s4)) fun h1 => ai h1 s1 2 75 <| nm (hset h1 s1 75 (w8 32)) fun h2 => ob h2 s0 0 <| nm (hset h2 s0 6 s1) fun h3 => na h3 2 400 fun r4 h5 => ob h5 x0 0 <| nm (hset h5 x0 7 r4) fun h6 => na h6 0 5 fun r7 h8 => ob h8 x0 0 <| nm (hset h8 x0 8 r7) fun h9 => ob h9 x0 0 <| nm (hset h9 x0 10 (-1)) fun h10 => na h10 0 401 fun r11 h12 => ob h12 x0 0 <| nm (hset h12 x0 11 r11) fun h13 => na h13 0 401 fun r14 h15 => ob h15 x0 0 <| nm (hset h15 x0 12 r14) fun h16 => na h16 0 401 fun r17 h18 => ob h18 x0 0 <| nm (hset h18 x0 13 r17) fun h19 => na h19 0 7 fun r20 h21 => ob h21 x0 0 <| nm (hset h21 x0 21 r20) fun h22 => na h22 0 3 fun r23 h24 => ob h24 x0 0 <| nm (hset h24 x0 22 r23) fun h25 => na h25 0 3 fun r26 h27 => F_X4_init_562 x0 r26 x0 h27
theorem WF_X4_init_485 {d : Nat} {Z : XZ XR} (hdd : 1 ≤ d) : ∀ s0 s1 s2 s3 s4 x0 h, XG xfh (xQ 2) RX4 "<init>" cX4_init 1 none d Z 485 [(0, (2, x0))] [(0, s4), (0, s3), (2, s2), (2, s1), (2, s0)] h (F_X4_init_485 s0 s1 s2 s3 s4 x0 h) := by
  intro s0 s1 s2 s3 s4 x0 h
  unfold F_X4_init_485
  refine x_bast dX4_init_485 fun h1 => ?_
  refine x_dup dX4_init_486 rfl ?_
  refine x_bp dX4_init_487 (by decide) (by decide) ?_
  refine x_bp dX4_init_489 (by decide) (by decide) ?_
  refine x_bast dX4_init_491 fun h2 => ?_
  refine xpF_X4_30 dX4_init_492 fun h3 => ?_
  refine x_aload_n 0 dX4_init_495 rfl rfl ?_
  refine x_sp dX4_init_496 (by decide) (by decide) ?_
  refine x_newarr (atype := .byte) 2 (by decide) rfl rfl q337 dX4_init_499 fun r4 h5 => ?_
  refine xpF_X4_34 dX4_init_501 fun h6 => ?_
  refine x_aload_n 0 dX4_init_504 rfl rfl ?_
  refine x_ic dX4_init_505 (by decide) (by decide) ?_
  refine x_newarr (atype := .int) 0 (by decide) rfl rfl q252 dX4_init_506 fun r7 h8 => ?_
  refine xpF_X4_37 dX4_init_508 fun h9 => ?_
  refine x_aload_n 0 dX4_init_511 rfl rfl ?_
  refine x_ic dX4_init_512 (by decide) (by decide) ?_
  refine xp_X4_40 dX4_init_513 fun h10 => ?_
  refine x_aload_n 0 dX4_init_516 rfl rfl ?_
  refine x_sp dX4_init_517 (by decide) (by decide) ?_
  refine x_newarr (atype := .int) 0 (by decide) rfl rfl q252 dX4_init_520 fun r11 h12 => ?_
  refine xpF_X4_43 dX4_init_522 fun h13 => ?_
  refine x_aload_n 0 dX4_init_525 rfl rfl ?_
  refine x_sp dX4_init_526 (by decide) (by decide) ?_
  refine x_newarr (atype := .int) 0 (by decide) rfl rfl q252 dX4_init_529 fun r14 h15 => ?_
  refine xpF_X4_46 dX4_init_531 fun h16 => ?_
  refine x_aload_n 0 dX4_init_534 rfl rfl ?_
  refine x_sp dX4_init_535 (by decide) (by decide) ?_
  refine x_newarr (atype := .int) 0 (by decide) rfl rfl q252 dX4_init_538 fun r17 h18 => ?_
  refine xpF_X4_49 dX4_init_540 fun h19 => ?_
  refine x_aload_n 0 dX4_init_543 rfl rfl ?_
  refine x_bp dX4_init_544 (by decide) (by decide) ?_
  refine x_newarr (atype := .int) 0 (by decide) rfl rfl q252 dX4_init_546 fun r20 h21 => ?_
  refine xpF_X4_52 dX4_init_548 fun h22 => ?_
  refine x_aload_n 0 dX4_init_551 rfl rfl ?_
  refine x_ic dX4_init_552 (by decide) (by decide) ?_
  refine x_newarr (atype := .int) 0 (by decide) rfl rfl q252 dX4_init_553 fun r23 h24 => ?_
  refine xpF_X4_55 dX4_init_555 fun h25 => ?_
  refine x_aload_n 0 dX4_init_558 rfl rfl ?_
  refine x_ic dX4_init_559 (by decide) (by decide) ?_
  refine x_newarr (atype := .int) 0 (by decide) rfl rfl q252 dX4_init_560 fun r26 h27 => ?_
  exact x_sub [0] rfl (WF_X4_init_562 hdd x0 r26 x0 h27)
noncomputable def F_X4_init_425 (s0 : Int) (s1 : Int) (s2 : Int) (s3 : Int) (s4 : Int) (x0 : Int) (h : XH) : Option XR := ai h s2 2 s3 <| nm (hset h s2 s3 (w8 s4)) fun h1 => ai h1 s1 2 65 <| nm (hset h1 s1 65 (w8 121)) fun h2 => ai h2 s1 2 66 <| nm (hset h2 s1 66 (w8 32)) fun h3 => ai h3 s1 2 67 <| nm (hset h3 s1 67 (w8 113)) fun h4 => ai h4 s1 2 68 <| nm (hset h4 s1 68 (w8 117)) fun h5 => ai h5 s1 2 69 <| nm (hset h5 s1 69 (w8 101)) fun h6 => ai h6 s1 2 70 <| nm (hset h6 s1 70 (w8 115)) fun h7 => ai h7 s1 2 71 <| nm (hset h7 s1 71 (w8 116)) fun h8 => ai h8 s1 2 72 <| nm (hset h8 s1 72 (w8 105)) fun h9 => ai h9 s1 2 73 <| nm (hset h9 s1 73 (w8 111)) fun h10 => F_X4_init_485 s0 s1 s1 74 110 x0 h10
theorem WF_X4_init_425 {d : Nat} {Z : XZ XR} (hdd : 1 ≤ d) : ∀ s0 s1 s2 s3 s4 x0 h, XG xfh (xQ 2) RX4 "<init>" cX4_init 1 none d Z 425 [(0, (2, x0))] [(0, s4), (0, s3), (2, s2), (2, s1), (2, s0)] h (F_X4_init_425 s0 s1 s2 s3 s4 x0 h) := by
  intro s0 s1 s2 s3 s4 x0 h
  unfold F_X4_init_425
  refine x_bast dX4_init_425 fun h1 => ?_
  refine x_dup dX4_init_426 rfl ?_
  refine x_bp dX4_init_427 (by decide) (by decide) ?_
  refine x_bp dX4_init_429 (by decide) (by decide) ?_
  refine x_bast dX4_init_431 fun h2 => ?_
  refine x_dup dX4_init_432 rfl ?_
  refine x_bp dX4_init_433 (by decide) (by decide) ?_
  refine x_bp dX4_init_435 (by decide) (by decide) ?_
  refine x_bast dX4_init_437 fun h3 => ?_
  refine x_dup dX4_init_438 rfl ?_
  refine x_bp dX4_init_439 (by decide) (by decide) ?_
  refine x_bp dX4_init_441 (by decide) (by decide) ?_
  refine x_bast dX4_init_443 fun h4 => ?_
  refine x_dup dX4_init_444 rfl ?_
  refine x_bp dX4_init_445 (by decide) (by decide) ?_
  refine x_bp dX4_init_447 (by decide) (by decide) ?_
  refine x_bast dX4_init_449 fun h5 => ?_
  refine x_dup dX4_init_450 rfl ?_
  refine x_bp dX4_init_451 (by decide) (by decide) ?_
  refine x_bp dX4_init_453 (by decide) (by decide) ?_
  refine x_bast dX4_init_455 fun h6 => ?_
  refine x_dup dX4_init_456 rfl ?_
  refine x_bp dX4_init_457 (by decide) (by decide) ?_
  refine x_bp dX4_init_459 (by decide) (by decide) ?_
  refine x_bast dX4_init_461 fun h7 => ?_
  refine x_dup dX4_init_462 rfl ?_
  refine x_bp dX4_init_463 (by decide) (by decide) ?_
  refine x_bp dX4_init_465 (by decide) (by decide) ?_
  refine x_bast dX4_init_467 fun h8 => ?_
  refine x_dup dX4_init_468 rfl ?_
  refine x_bp dX4_init_469 (by decide) (by decide) ?_
  refine x_bp dX4_init_471 (by decide) (by decide) ?_
  refine x_bast dX4_init_473 fun h9 => ?_
  refine x_dup dX4_init_474 rfl ?_
  refine x_bp dX4_init_475 (by decide) (by decide) ?_
  refine x_bp dX4_init_477 (by decide) (by decide) ?_
  refine x_bast dX4_init_479 fun h10 => ?_
  refine x_dup dX4_init_480 rfl ?_
  refine x_bp dX4_init_481 (by decide) (by decide) ?_
  refine x_bp dX4_init_483 (by decide) (by decide) ?_
  exact x_sub [0] rfl (WF_X4_init_485 hdd s0 s1 s1 74 110 x0 h10)
noncomputable def F_X4_init_365 (s0 : Int) (s1 : Int) (s2 : Int) (s3 : Int) (s4 : Int) (x0 : Int) (h : XH) : Option XR := ai h s2 2 s3 <| nm (hset h s2 s3 (w8 s4)) fun h1 => ai h1 s1 2 55 <| nm (hset h1 s1 55 (w8 100)) fun h2 => ai h2 s1 2 56 <| nm (hset h2 s1 56 (w8 32)) fun h3 => ai h3 s1 2 57 <| nm (hset h3 s1 57 (w8 108)) fun h4 => ai h4 s1 2 58 <| nm (hset h4 s1 58 (w8 105)) fun h5 => ai h5 s1 2 59 <| nm (hset h5 s1 59 (w8 107)) fun h6 => ai h6 s1 2 60 <| nm (hset h6 s1 60 (w8 101)) fun h7 => ai h7 s1 2 61 <| nm (hset h7 s1 61 (w8 100)) fun h8 => ai h8 s1 2 62 <| nm (hset h8 s1 62 (w8 32)) fun h9 => ai h9 s1 2 63 <| nm (hset h9 s1 63 (w8 100)) fun h10 => F_X4_init_425 s0 s1 s1 64 97 x0 h10
theorem WF_X4_init_365 {d : Nat} {Z : XZ XR} (hdd : 1 ≤ d) : ∀ s0 s1 s2 s3 s4 x0 h, XG xfh (xQ 2) RX4 "<init>" cX4_init 1 none d Z 365 [(0, (2, x0))] [(0, s4), (0, s3), (2, s2), (2, s1), (2, s0)] h (F_X4_init_365 s0 s1 s2 s3 s4 x0 h) := by
  intro s0 s1 s2 s3 s4 x0 h
  unfold F_X4_init_365
  refine x_bast dX4_init_365 fun h1 => ?_
  refine x_dup dX4_init_366 rfl ?_
  refine x_bp dX4_init_367 (by decide) (by decide) ?_
  refine x_bp dX4_init_369 (by decide) (by decide) ?_
  refine x_bast dX4_init_371 fun h2 => ?_
  refine x_dup dX4_init_372 rfl ?_
  refine x_bp dX4_init_373 (by decide) (by decide) ?_
  refine x_bp dX4_init_375 (by decide) (by decide) ?_
  refine x_bast dX4_init_377 fun h3 => ?_
  refine x_dup dX4_init_378 rfl ?_
  refine x_bp dX4_init_379 (by decide) (by decide) ?_
  refine x_bp dX4_init_381 (by decide) (by decide) ?_
  refine x_bast dX4_init_383 fun h4 => ?_
  refine x_dup dX4_init_384 rfl ?_
  refine x_bp dX4_init_385 (by decide) (by decide) ?_
  refine x_bp dX4_init_387 (by decide) (by decide) ?_
  refine x_bast dX4_init_389 fun h5 => ?_
  refine x_dup dX4_init_390 rfl ?_
  refine x_bp dX4_init_391 (by decide) (by decide) ?_
  refine x_bp dX4_init_393 (by decide) (by decide) ?_
  refine x_bast dX4_init_395 fun h6 => ?_
  refine x_dup dX4_init_396 rfl ?_
  refine x_bp dX4_init_397 (by decide) (by decide) ?_
  refine x_bp dX4_init_399 (by decide) (by decide) ?_
  refine x_bast dX4_init_401 fun h7 => ?_
  refine x_dup dX4_init_402 rfl ?_
  refine x_bp dX4_init_403 (by decide) (by decide) ?_
  refine x_bp dX4_init_405 (by decide) (by decide) ?_
  refine x_bast dX4_init_407 fun h8 => ?_
  refine x_dup dX4_init_408 rfl ?_
  refine x_bp dX4_init_409 (by decide) (by decide) ?_
  refine x_bp dX4_init_411 (by decide) (by decide) ?_
  refine x_bast dX4_init_413 fun h9 => ?_
  refine x_dup dX4_init_414 rfl ?_
  refine x_bp dX4_init_415 (by decide) (by decide) ?_
  refine x_bp dX4_init_417 (by decide) (by decide) ?_
  refine x_bast dX4_init_419 fun h10 => ?_
  refine x_dup dX4_init_420 rfl ?_
  refine x_bp dX4_init_421 (by decide) (by decide) ?_
  refine x_bp dX4_init_423 (by decide) (by decide) ?_
  exact x_sub [0] rfl (WF_X4_init_425 hdd s0 s1 s1 64 97 x0 h10)
noncomputable def F_X4_init_305 (s0 : Int) (s1 : Int) (s2 : Int) (s3 : Int) (s4 : Int) (x0 : Int) (h : XH) : Option XR := ai h s2 2 s3 <| nm (hset h s2 s3 (w8 s4)) fun h1 => ai h1 s1 2 45 <| nm (hset h1 s1 45 (w8 101)) fun h2 => ai h2 s1 2 46 <| nm (hset h2 s1 46 (w8 118)) fun h3 => ai h3 s1 2 47 <| nm (hset h3 s1 47 (w8 101)) fun h4 => ai h4 s1 2 48 <| nm (hset h4 s1 48 (w8 108)) fun h5 => ai h5 s1 2 49 <| nm (hset h5 s1 49 (w8 32)) fun h6 => ai h6 s1 2 50 <| nm (hset h6 s1 50 (w8 104)) fun h7 => ai h7 s1 2 51 <| nm (hset h7 s1 51 (w8 101)) fun h8 => ai h8 s1 2 52 <| nm (hset h8 s1 52 (w8 108)) fun h9 => ai h9 s1 2 53 <| nm (hset h9 s1 53 (w8 112)) fun h10 => F_X4_init_365 s0 s1 s1 54 101 x0 h10
theorem WF_X4_init_305 {d : Nat} {Z : XZ XR} (hdd : 1 ≤ d) : ∀ s0 s1 s2 s3 s4 x0 h, XG xfh (xQ 2) RX4 "<init>" cX4_init 1 none d Z 305 [(0, (2, x0))] [(0, s4), (0, s3), (2, s2), (2, s1), (2, s0)] h (F_X4_init_305 s0 s1 s2 s3 s4 x0 h) := by
  intro s0 s1 s2 s3 s4 x0 h
  unfold F_X4_init_305
  refine x_bast dX4_init_305 fun h1 => ?_
  refine x_dup dX4_init_306 rfl ?_
  refine x_bp dX4_init_307 (by decide) (by decide) ?_
  refine x_bp dX4_init_309 (by decide) (by decide) ?_
  refine x_bast dX4_init_311 fun h2 => ?_
  refine x_dup dX4_init_312 rfl ?_
  refine x_bp dX4_init_313 (by decide) (by decide) ?_
  refine x_bp dX4_init_315 (by decide) (by decide) ?_
  refine x_bast dX4_init_317 fun h3 => ?_
  refine x_dup dX4_init_318 rfl ?_
  refine x_bp dX4_init_319 (by decide) (by decide) ?_
  refine x_bp dX4_init_321 (by decide) (by decide) ?_
  refine x_bast dX4_init_323 fun h4 => ?_
  refine x_dup dX4_init_324 rfl ?_
  refine x_bp dX4_init_325 (by decide) (by decide) ?_
  refine x_bp dX4_init_327 (by decide) (by decide) ?_
  refine x_bast dX4_init_329 fun h5 => ?_
  refine x_dup dX4_init_330 rfl ?_
  refine x_bp dX4_init_331 (by decide) (by decide) ?_
  refine x_bp dX4_init_333 (by decide) (by decide) ?_
  refine x_bast dX4_init_335 fun h6 => ?_
  refine x_dup dX4_init_336 rfl ?_
  refine x_bp dX4_init_337 (by decide) (by decide) ?_
  refine x_bp dX4_init_339 (by decide) (by decide) ?_
  refine x_bast dX4_init_341 fun h7 => ?_
  refine x_dup dX4_init_342 rfl ?_
  refine x_bp dX4_init_343 (by decide) (by decide) ?_
  refine x_bp dX4_init_345 (by decide) (by decide) ?_
  refine x_bast dX4_init_347 fun h8 => ?_
  refine x_dup dX4_init_348 rfl ?_
  refine x_bp dX4_init_349 (by decide) (by decide) ?_
  refine x_bp dX4_init_351 (by decide) (by decide) ?_
  refine x_bast dX4_init_353 fun h9 => ?_
  refine x_dup dX4_init_354 rfl ?_
  refine x_bp dX4_init_355 (by decide) (by decide) ?_
  refine x_bp dX4_init_357 (by decide) (by decide) ?_
  refine x_bast dX4_init_359 fun h10 => ?_
  refine x_dup dX4_init_360 rfl ?_
  refine x_bp dX4_init_361 (by decide) (by decide) ?_
  refine x_bp dX4_init_363 (by decide) (by decide) ?_
  exact x_sub [0] rfl (WF_X4_init_365 hdd s0 s1 s1 54 101 x0 h10)
noncomputable def F_X4_init_245 (s0 : Int) (s1 : Int) (s2 : Int) (s3 : Int) (s4 : Int) (x0 : Int) (h : XH) : Option XR := ai h s2 2 s3 <| nm (hset h s2 s3 (w8 s4)) fun h1 => ai h1 s1 2 35 <| nm (hset h1 s1 35 (w8 110)) fun h2 => ai h2 s1 2 36 <| nm (hset h2 s1 36 (w8 103)) fun h3 => ai h3 s1 2 37 <| nm (hset h3 s1 37 (w8 32)) fun h4 => ai h4 s1 2 38 <| nm (hset h4 s1 38 (w8 112)) fun h5 => ai h5 s1 2 39 <| nm (hset h5 s1 39 (w8 97)) fun h6 => ai h6 s1 2 40 <| nm (hset h6 s1 40 (w8 103)) fun h7 => ai h7 s1 2 41 <| nm (hset h7 s1 41 (w8 101)) fun h8 => ai h8 s1 2 42 <| nm (hset h8 s1 42 (w8 115)) fun h9 => ai h9 s1 2 43 <| nm (hset h9 s1 43 (w8 32)) fun h10 => F_X4_init_305 s0 s1 s1 44 108 x0 h10
theorem WF_X4_init_245 {d : Nat} {Z : XZ XR} (hdd : 1 ≤ d) : ∀ s0 s1 s2 s3 s4 x0 h, XG xfh (xQ 2) RX4 "<init>" cX4_init 1 none d Z 245 [(0, (2, x0))] [(0, s4), (0, s3), (2, s2), (2, s1), (2, s0)] h (F_X4_init_245 s0 s1 s2 s3 s4 x0 h) := by
  intro s0 s1 s2 s3 s4 x0 h
  unfold F_X4_init_245
  refine x_bast dX4_init_245 fun h1 => ?_
  refine x_dup dX4_init_246 rfl ?_
  refine x_bp dX4_init_247 (by decide) (by decide) ?_
  refine x_bp dX4_init_249 (by decide) (by decide) ?_
  refine x_bast dX4_init_251 fun h2 => ?_
  refine x_dup dX4_init_252 rfl ?_
  refine x_bp dX4_init_253 (by decide) (by decide) ?_
  refine x_bp dX4_init_255 (by decide) (by decide) ?_
  refine x_bast dX4_init_257 fun h3 => ?_
  refine x_dup dX4_init_258 rfl ?_
  refine x_bp dX4_init_259 (by decide) (by decide) ?_
  refine x_bp dX4_init_261 (by decide) (by decide) ?_
  refine x_bast dX4_init_263 fun h4 => ?_
  refine x_dup dX4_init_264 rfl ?_
  refine x_bp dX4_init_265 (by decide) (by decide) ?_
  refine x_bp dX4_init_267 (by decide) (by decide) ?_
  refine x_bast dX4_init_269 fun h5 => ?_
  refine x_dup dX4_init_270 rfl ?_
  refine x_bp dX4_init_271 (by decide) (by decide) ?_
  refine x_bp dX4_init_273 (by decide) (by decide) ?_
  refine x_bast dX4_init_275 fun h6 => ?_
  refine x_dup dX4_init_276 rfl ?_
  refine x_bp dX4_init_277 (by decide) (by decide) ?_
  refine x_bp dX4_init_279 (by decide) (by decide) ?_
  refine x_bast dX4_init_281 fun h7 => ?_
  refine x_dup dX4_init_282 rfl ?_
  refine x_bp dX4_init_283 (by decide) (by decide) ?_
  refine x_bp dX4_init_285 (by decide) (by decide) ?_
  refine x_bast dX4_init_287 fun h8 => ?_
  refine x_dup dX4_init_288 rfl ?_
  refine x_bp dX4_init_289 (by decide) (by decide) ?_
  refine x_bp dX4_init_291 (by decide) (by decide) ?_
  refine x_bast dX4_init_293 fun h9 => ?_
  refine x_dup dX4_init_294 rfl ?_
  refine x_bp dX4_init_295 (by decide) (by decide) ?_
  refine x_bp dX4_init_297 (by decide) (by decide) ?_
  refine x_bast dX4_init_299 fun h10 => ?_
  refine x_dup dX4_init_300 rfl ?_
  refine x_bp dX4_init_301 (by decide) (by decide) ?_
  refine x_bp dX4_init_303 (by decide) (by decide) ?_
  exact x_sub [0] rfl (WF_X4_init_305 hdd s0 s1 s1 44 108 x0 h10)
noncomputable def F_X4_init_185 (s0 : Int) (s1 : Int) (s2 : Int) (s3 : Int) (s4 : Int) (x0 : Int) (h : XH) : Option XR := ai h s2 2 s3 <| nm (hset h s2 s3 (w8 s4)) fun h1 => ai h1 s1 2 25 <| nm (hset h1 s1 25 (w8 97)) fun h2 => ai h2 s1 2 26 <| nm (hset h2 s1 26 (w8 110)) fun h3 => ai h3 s1 2 27 <| nm (hset h3 s1 27 (w8 100)) fun h4 => ai h4 s1 2 28 <| nm (hset h4 s1 28 (w8 32)) fun h5 => ai h5 s1 2 29 <| nm (hset h5 s1 29 (w8 110)) fun h6 => ai h6 s1 2 30 <| nm (hset h6 s1 30 (w8 111)) fun h7 => ai h7 s1 2 31 <| nm (hset h7 s1 31 (w8 116)) fun h8 => ai h8 s1 2 32 <| nm (hset h8 s1 32 (w8 32)) fun h9 => ai h9 s1 2 33 <| nm (hset h9 s1 33 (w8 107)) fun h10 => F_X4_init_245 s0 s1 s1 34 105 x0 h10
theorem WF_X4_init_185 {d : Nat} {Z : XZ XR} (hdd : 1 ≤ d) : ∀ s0 s1 s2 s3 s4 x0 h, XG xfh (xQ 2) RX4 "<init>" cX4_init 1 none d Z 185 [(0, (2, x0))] [(0, s4), (0, s3), (2, s2), (2, s1), (2, s0)] h (F_X4_init_185 s0 s1 s2 s3 s4 x0 h) := by
  intro s0 s1 s2 s3 s4 x0 h
  unfold F_X4_init_185
  refine x_bast dX4_init_185 fun h1 => ?_
  refine x_dup dX4_init_186 rfl ?_
  refine x_bp dX4_init_187 (by decide) (by decide) ?_
  refine x_bp dX4_init_189 (by decide) (by decide) ?_
  refine x_bast dX4_init_191 fun h2 => ?_
  refine x_dup dX4_init_192 rfl ?_
  refine x_bp dX4_init_193 (by decide) (by decide) ?_
  refine x_bp dX4_init_195 (by decide) (by decide) ?_
  refine x_bast dX4_init_197 fun h3 => ?_
  refine x_dup dX4_init_198 rfl ?_
  refine x_bp dX4_init_199 (by decide) (by decide) ?_
  refine x_bp dX4_init_201 (by decide) (by decide) ?_
  refine x_bast dX4_init_203 fun h4 => ?_
  refine x_dup dX4_init_204 rfl ?_
  refine x_bp dX4_init_205 (by decide) (by decide) ?_
  refine x_bp dX4_init_207 (by decide) (by decide) ?_
  refine x_bast dX4_init_209 fun h5 => ?_
  refine x_dup dX4_init_210 rfl ?_
  refine x_bp dX4_init_211 (by decide) (by decide) ?_
  refine x_bp dX4_init_213 (by decide) (by decide) ?_
  refine x_bast dX4_init_215 fun h6 => ?_
  refine x_dup dX4_init_216 rfl ?_
  refine x_bp dX4_init_217 (by decide) (by decide) ?_
  refine x_bp dX4_init_219 (by decide) (by decide) ?_
  refine x_bast dX4_init_221 fun h7 => ?_
  refine x_dup dX4_init_222 rfl ?_
  refine x_bp dX4_init_223 (by decide) (by decide) ?_
  refine x_bp dX4_init_225 (by decide) (by decide) ?_
  refine x_bast dX4_init_227 fun h8 => ?_
  refine x_dup dX4_init_228 rfl ?_
  refine x_bp dX4_init_229 (by decide) (by decide) ?_
  refine x_bp dX4_init_231 (by decide) (by decide) ?_
  refine x_bast dX4_init_233 fun h9 => ?_
  refine x_dup dX4_init_234 rfl ?_
  refine x_bp dX4_init_235 (by decide) (by decide) ?_
  refine x_bp dX4_init_237 (by decide) (by decide) ?_
  refine x_bast dX4_init_239 fun h10 => ?_
  refine x_dup dX4_init_240 rfl ?_
  refine x_bp dX4_init_241 (by decide) (by decide) ?_
  refine x_bp dX4_init_243 (by decide) (by decide) ?_
  exact x_sub [0] rfl (WF_X4_init_245 hdd s0 s1 s1 34 105 x0 h10)
noncomputable def F_X4_init_125 (s0 : Int) (s1 : Int) (s2 : Int) (s3 : Int) (s4 : Int) (x0 : Int) (h : XH) : Option XR := ai h s2 2 s3 <| nm (hset h s2 s3 (w8 s4)) fun h1 => ai h1 s1 2 15 <| nm (hset h1 s1 15 (w8 110)) fun h2 => ai h2 s1 2 16 <| nm (hset h2 s1 16 (w8 99)) fun h3 => ai h3 s1 2 17 <| nm (hset h3 s1 17 (w8 101)) fun h4 => ai h4 s1 2 18 <| nm (hset h4 s1 18 (w8 32)) fun h5 => ai h5 s1 2 19 <| nm (hset h5 s1 19 (w8 105)) fun h6 => ai h6 s1 2 20 <| nm (hset h6 s1 20 (w8 102)) fun h7 => ai h7 s1 2 21 <| nm (hset h7 s1 21 (w8 32)) fun h8 => ai h8 s1 2 22 <| nm (hset h8 s1 22 (w8 111)) fun h9 => ai h9 s1 2 23 <| nm (hset h9 s1 23 (w8 114)) fun h10 => F_X4_init_185 s0 s1 s1 24 32 x0 h10
theorem WF_X4_init_125 {d : Nat} {Z : XZ XR} (hdd : 1 ≤ d) : ∀ s0 s1 s2 s3 s4 x0 h, XG xfh (xQ 2) RX4 "<init>" cX4_init 1 none d Z 125 [(0, (2, x0))] [(0, s4), (0, s3), (2, s2), (2, s1), (2, s0)] h (F_X4_init_125 s0 s1 s2 s3 s4 x0 h) := by
  intro s0 s1 s2 s3 s4 x0 h
  unfold F_X4_init_125
  refine x_bast dX4_init_125 fun h1 => ?_
  refine x_dup dX4_init_126 rfl ?_
  refine x_bp dX4_init_127 (by decide) (by decide) ?_
  refine x_bp dX4_init_129 (by decide) (by decide) ?_
  refine x_bast dX4_init_131 fun h2 => ?_
  refine x_dup dX4_init_132 rfl ?_
  refine x_bp dX4_init_133 (by decide) (by decide) ?_
  refine x_bp dX4_init_135 (by decide) (by decide) ?_
  refine x_bast dX4_init_137 fun h3 => ?_
  refine x_dup dX4_init_138 rfl ?_
  refine x_bp dX4_init_139 (by decide) (by decide) ?_
  refine x_bp dX4_init_141 (by decide) (by decide) ?_
  refine x_bast dX4_init_143 fun h4 => ?_
  refine x_dup dX4_init_144 rfl ?_
  refine x_bp dX4_init_145 (by decide) (by decide) ?_
  refine x_bp dX4_init_147 (by decide) (by decide) ?_
  refine x_bast dX4_init_149 fun h5 => ?_
  refine x_dup dX4_init_150 rfl ?_
  refine x_bp dX4_init_151 (by decide) (by decide) ?_
  refine x_bp dX4_init_153 (by decide) (by decide) ?_
  refine x_bast dX4_init_155 fun h6 => ?_
  refine x_dup dX4_init_156 rfl ?_
  refine x_bp dX4_init_157 (by decide) (by decide) ?_
  refine x_bp dX4_init_159 (by decide) (by decide) ?_
  refine x_bast dX4_init_161 fun h7 => ?_
  refine x_dup dX4_init_162 rfl ?_
  refine x_bp dX4_init_163 (by decide) (by decide) ?_
  refine x_bp dX4_init_165 (by decide) (by decide) ?_
  refine x_bast dX4_init_167 fun h8 => ?_
  refine x_dup dX4_init_168 rfl ?_
  refine x_bp dX4_init_169 (by decide) (by decide) ?_
  refine x_bp dX4_init_171 (by decide) (by decide) ?_
  refine x_bast dX4_init_173 fun h9 => ?_
  refine x_dup dX4_init_174 rfl ?_
  refine x_bp dX4_init_175 (by decide) (by decide) ?_
  refine x_bp dX4_init_177 (by decide) (by decide) ?_
  refine x_bast dX4_init_179 fun h10 => ?_
  refine x_dup dX4_init_180 rfl ?_
  refine x_bp dX4_init_181 (by decide) (by decide) ?_
  refine x_bp dX4_init_183 (by decide) (by decide) ?_
  exact x_sub [0] rfl (WF_X4_init_185 hdd s0 s1 s1 24 32 x0 h10)
noncomputable def F_X4_init_66 (s0 : Int) (s1 : Int) (s2 : Int) (s3 : Int) (s4 : Int) (x0 : Int) (h : XH) : Option XR := ai h s2 2 s3 <| nm (hset h s2 s3 (w8 s4)) fun h1 => ai h1 s1 2 5 <| nm (hset h1 s1 5 (w8 32)) fun h2 => ai h2 s1 2 6 <| nm (hset h2 s1 6 (w8 107)) fun h3 => ai h3 s1 2 7 <| nm (hset h3 s1 7 (w8 101)) fun h4 => ai h4 s1 2 8 <| nm (hset h4 s1 8 (w8 101)) fun h5 => ai h5 s1 2 9 <| nm (hset h5 s1 9 (w8 112)) fun h6 => ai h6 s1 2 10 <| nm (hset h6 s1 10 (w8 115)) fun h7 => ai h7 s1 2 11 <| nm (hset h7 s1 11 (w8 32)) fun h8 => ai h8 s1 2 12 <| nm (hset h8 s1 12 (w8 99)) fun h9 => ai h9 s1 2 13 <| nm (hset h9 s1 13 (w8 104)) fun h10 => F_X4_init_125 s0 s1 s1 14 97 x0 h10
theorem WF_X4_init_66 {d : Nat} {Z : XZ XR} (hdd : 1 ≤ d) : ∀ s0 s1 s2 s3 s4 x0 h, XG xfh (xQ 2) RX4 "<init>" cX4_init 1 none d Z 66 [(0, (2, x0))] [(0, s4), (0, s3), (2, s2), (2, s1), (2, s0)] h (F_X4_init_66 s0 s1 s2 s3 s4 x0 h) := by
  intro s0 s1 s2 s3 s4 x0 h
  unfold F_X4_init_66
  refine x_bast dX4_init_66 fun h1 => ?_
  refine x_dup dX4_init_67 rfl ?_
  refine x_ic dX4_init_68 (by decide) (by decide) ?_
  refine x_bp dX4_init_69 (by decide) (by decide) ?_
  refine x_bast dX4_init_71 fun h2 => ?_
  refine x_dup dX4_init_72 rfl ?_
  refine x_bp dX4_init_73 (by decide) (by decide) ?_
  refine x_bp dX4_init_75 (by decide) (by decide) ?_
  refine x_bast dX4_init_77 fun h3 => ?_
  refine x_dup dX4_init_78 rfl ?_
  refine x_bp dX4_init_79 (by decide) (by decide) ?_
  refine x_bp dX4_init_81 (by decide) (by decide) ?_
  refine x_bast dX4_init_83 fun h4 => ?_
  refine x_dup dX4_init_84 rfl ?_
  refine x_bp dX4_init_85 (by decide) (by decide) ?_
  refine x_bp dX4_init_87 (by decide) (by decide) ?_
  refine x_bast dX4_init_89 fun h5 => ?_
  refine x_dup dX4_init_90 rfl ?_
  refine x_bp dX4_init_91 (by decide) (by decide) ?_
  refine x_bp dX4_init_93 (by decide) (by decide) ?_
  refine x_bast dX4_init_95 fun h6 => ?_
  refine x_dup dX4_init_96 rfl ?_
  refine x_bp dX4_init_97 (by decide) (by decide) ?_
  refine x_bp dX4_init_99 (by decide) (by decide) ?_
  refine x_bast dX4_init_101 fun h7 => ?_
  refine x_dup dX4_init_102 rfl ?_
  refine x_bp dX4_init_103 (by decide) (by decide) ?_
  refine x_bp dX4_init_105 (by decide) (by decide) ?_
  refine x_bast dX4_init_107 fun h8 => ?_
  refine x_dup dX4_init_108 rfl ?_
  refine x_bp dX4_init_109 (by decide) (by decide) ?_
  refine x_bp dX4_init_111 (by decide) (by decide) ?_
  refine x_bast dX4_init_113 fun h9 => ?_
  refine x_dup dX4_init_114 rfl ?_
  refine x_bp dX4_init_115 (by decide) (by decide) ?_
  refine x_bp dX4_init_117 (by decide) (by decide) ?_
  refine x_bast dX4_init_119 fun h10 => ?_
  refine x_dup dX4_init_120 rfl ?_
  refine x_bp dX4_init_121 (by decide) (by decide) ?_
  refine x_bp dX4_init_123 (by decide) (by decide) ?_
  exact x_sub [0] rfl (WF_X4_init_125 hdd s0 s1 s1 14 97 x0 h10)
noncomputable def F_X4_init (x0 : Int) (h : XH) : Option XR := pz x0 <| na h 0 7 fun r1 h2 => ob h2 x0 0 <| nm (hset h2 x0 2 r1) fun h3 => na h3 0 5201 fun r4 h5 => ob h5 x0 0 <| nm (hset h5 x0 3 r4) fun h6 => na h6 0 10402 fun r7 h8 => ob h8 x0 0 <| nm (hset h8 x0 4 r7) fun h9 => na h9 3 2 fun r10 h11 => ob h11 x0 0 <| nm (hset h11 x0 5 r10) fun h12 => na h12 2 76 fun r13 h14 => ai h14 r13 2 0 <| nm (hset h14 r13 0 (w8 104)) fun h15 => ai h15 r13 2 1 <| nm (hset h15 r13 1 (w8 111)) fun h16 => ai h16 r13 2 2 <| nm (hset h16 r13 2 (w8 117)) fun h17 => ai h17 r13 2 3 <| nm (hset h17 r13 3 (w8 114)) fun h18 => F_X4_init_66 x0 r13 r13 4 115 x0 h18
theorem WF_X4_init {d : Nat} {Z : XZ XR} (hdd : 1 ≤ d) : ∀ x0 h, XG xfh (xQ 2) RX4 "<init>" cX4_init 1 none d Z 0 [(0, (2, x0))] [] h (F_X4_init x0 h) := by
  intro x0 h
  unfold F_X4_init
  refine x_aload_n 0 dX4_init_0 rfl rfl ?_
  refine x_objinit q1663 q176 q177 (by omega) (Nat.le_of_ble_eq_true rfl) dX4_init_1 ?_
  refine x_aload_n 0 dX4_init_4 rfl rfl ?_
  refine x_bp dX4_init_5 (by decide) (by decide) ?_
  refine x_newarr (atype := .int) 0 (by decide) rfl rfl q252 dX4_init_7 fun r1 h2 => ?_
  refine xpF_X4_7 dX4_init_9 fun h3 => ?_
  refine x_aload_n 0 dX4_init_12 rfl rfl ?_
  refine x_sp dX4_init_13 (by decide) (by decide) ?_
  refine x_newarr (atype := .int) 0 (by decide) rfl rfl q252 dX4_init_16 fun r4 h5 => ?_
  refine xpF_X4_20 dX4_init_18 fun h6 => ?_
  refine x_aload_n 0 dX4_init_21 rfl rfl ?_
  refine x_sp dX4_init_22 (by decide) (by decide) ?_
  refine x_newarr (atype := .int) 0 (by decide) rfl rfl q252 dX4_init_25 fun r7 h8 => ?_
  refine xpF_X4_23 dX4_init_27 fun h9 => ?_
  refine x_aload_n 0 dX4_init_30 rfl rfl ?_
  refine x_ic dX4_init_31 (by decide) (by decide) ?_
  refine x_newarr (atype := .boolean) 3 (by decide) rfl rfl q1441 dX4_init_32 fun r10 h11 => ?_
  refine xpF_X4_26 dX4_init_34 fun h12 => ?_
  refine x_aload_n 0 dX4_init_37 rfl rfl ?_
  refine x_bp dX4_init_38 (by decide) (by decide) ?_
  refine x_newarr (atype := .byte) 2 (by decide) rfl rfl q337 dX4_init_40 fun r13 h14 => ?_
  refine x_dup dX4_init_42 rfl ?_
  refine x_ic dX4_init_43 (by decide) (by decide) ?_
  refine x_bp dX4_init_44 (by decide) (by decide) ?_
  refine x_bast dX4_init_46 fun h15 => ?_
  refine x_dup dX4_init_47 rfl ?_
  refine x_ic dX4_init_48 (by decide) (by decide) ?_
  refine x_bp dX4_init_49 (by decide) (by decide) ?_
  refine x_bast dX4_init_51 fun h16 => ?_
  refine x_dup dX4_init_52 rfl ?_
  refine x_ic dX4_init_53 (by decide) (by decide) ?_
  refine x_bp dX4_init_54 (by decide) (by decide) ?_
  refine x_bast dX4_init_56 fun h17 => ?_
  refine x_dup dX4_init_57 rfl ?_
  refine x_ic dX4_init_58 (by decide) (by decide) ?_
  refine x_bp dX4_init_59 (by decide) (by decide) ?_
  refine x_bast dX4_init_61 fun h18 => ?_
  refine x_dup dX4_init_62 rfl ?_
  refine x_ic dX4_init_63 (by decide) (by decide) ?_
  refine x_bp dX4_init_64 (by decide) (by decide) ?_
  exact x_sub [0] rfl (WF_X4_init_66 hdd x0 r13 r13 4 115 x0 h18)
theorem SF_X4_init (l : Launch) {d : Nat} (hdd : 1 ≤ d) (x0 : Int) (h : XH) (hok : okH h) (ho : okXs (xn h) [(2, x0)]) (fin : XR) (hf : F_X4_init x0 h = some fin) : xSpec l yX4_init cX4_init 1 none d 2 [(2, x0)] h fin := x_enter (lv := [(0, (2, x0))]) (by decide) rfl rfl (Nat.le_of_ble_eq_true rfl) rfl (fun Z _ => WF_X4_init hdd x0 h) hok ho fin hf
