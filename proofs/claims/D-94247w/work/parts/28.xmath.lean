/-! the system's layer: Math.min and max -/
set_option maxRecDepth 100000
set_option maxHeartbeats 2000000
section ROWS
variable {ρ : Type} {fh : ρ → XH} {QQ : XZ ρ → State → Prop} {own mn : String} {cc : ByteArray} {nL : Nat} {ret : Option FieldType} {d : Nat} {Z : XZ ρ} {pc : Nat} {lv : List (Nat × AV)} {st : List AV} {h : XH} {res : Option ρ}
theorem x_mmax {ix : Nat} {a b : Int} (hq : Cond.methodLink own ix Lib.Math.max.name ∈ lw_all) (hsta : Cond.static Lib.Math.max.name ∈ lw_all) (hini : Cond.initialized "java/lang/Math" ∈ lw_all) (hco : Cond.code Lib.Math.max.name Lib.Math.max.code 2 (some .int) ∈ lw_all) (hdd : 1 ≤ d) (hcat : (st.map fun v => if v.1 = 1 then 2 else 1).sum ≤ 8) (hd : decode cc pc = .ok (.invokestatic ix, 3)) (kk : XG fh QQ own mn cc nL ret d Z (pc + 3) lv ((0, if a < b then b else a) :: st) h res) : XG fh QQ own mn cc nL ret d Z pc lv ((0, b) :: (0, a) :: st) h res := ⟨kk.1, fun X ad H locs ls cells slots hS hl hlv hst hf => by
  have hmo := kk.1 (yF Z) hf
  have p7 := hS.2.2.2.2.2.2.1
  have p8 := hS.2.2.2.2.2.2.2
  have hc8 := cat_sumX (ad := ad) hcat
  have h2 := kk.2 X ad H locs ls cells slots hS hl hlv (hst.t.t.c (by split; exact hst.hd; exact hst.t.hd)) hf
  refine va_mmax X.hx X.hb (by rw [hl.1]) X.hown (X.hts _ hq) (X.hts _ hsta) (X.hts _ hini) (X.hts _ hco) (by rw [X.hR]; exact hdd) (by rw [X.hR]; show _ ≤ 64 * d; omega) (by rw [X.hR]; show _ ≤ xc (fh (yF Z)) - xc (yH Z); omega) (by rw [X.hR]; show _ ≤ xs (fh (yF Z)) - xs (yH Z); omega) hd ?_
  by_cases c0 : a < b
  · rw [if_pos c0] at h2
    rw [if_pos ((I32_lt hst.t.i hst.i).mpr c0)]
    exact h2
  · rw [if_neg c0] at h2
    rw [if_neg (fun q => c0 ((I32_lt hst.t.i hst.i).mp q))]
    exact h2⟩
theorem x_mmin {ix : Nat} {a b : Int} (hq : Cond.methodLink own ix Lib.Math.min.name ∈ lw_all) (hsta : Cond.static Lib.Math.min.name ∈ lw_all) (hini : Cond.initialized "java/lang/Math" ∈ lw_all) (hco : Cond.code Lib.Math.min.name Lib.Math.min.code 2 (some .int) ∈ lw_all) (hdd : 1 ≤ d) (hcat : (st.map fun v => if v.1 = 1 then 2 else 1).sum ≤ 8) (hd : decode cc pc = .ok (.invokestatic ix, 3)) (kk : XG fh QQ own mn cc nL ret d Z (pc + 3) lv ((0, if b < a then b else a) :: st) h res) : XG fh QQ own mn cc nL ret d Z pc lv ((0, b) :: (0, a) :: st) h res := ⟨kk.1, fun X ad H locs ls cells slots hS hl hlv hst hf => by
  have hmo := kk.1 (yF Z) hf
  have p7 := hS.2.2.2.2.2.2.1
  have p8 := hS.2.2.2.2.2.2.2
  have hc8 := cat_sumX (ad := ad) hcat
  have h2 := kk.2 X ad H locs ls cells slots hS hl hlv (hst.t.t.c (by split; exact hst.hd; exact hst.t.hd)) hf
  refine va_mmin X.hx X.hb (by rw [hl.1]) X.hown (X.hts _ hq) (X.hts _ hsta) (X.hts _ hini) (X.hts _ hco) (by rw [X.hR]; exact hdd) (by rw [X.hR]; show _ ≤ 64 * d; omega) (by rw [X.hR]; show _ ≤ xc (fh (yF Z)) - xc (yH Z); omega) (by rw [X.hR]; show _ ≤ xs (fh (yF Z)) - xs (yH Z); omega) hd ?_
  by_cases c0 : b < a
  · rw [if_pos c0] at h2
    rw [if_pos ((I32_lt hst.i hst.t.i).mpr c0)]
    exact h2
  · rw [if_neg c0] at h2
    rw [if_neg (fun q => c0 ((I32_lt hst.i hst.t.i).mp q))]
    exact h2⟩
theorem x_mmaxl {ix : Nat} {a b : Int} (hq : Cond.methodLink own ix Lib.MathLoose.max_long.x ∈ lw_all) (hsta : Cond.static Lib.MathLoose.max_long.x ∈ lw_all) (hini : Cond.initialized "java/lang/Math" ∈ lw_all) (hco : Cond.code Lib.MathLoose.max_long.x Lib.MathLoose.max_long.code 4 (some .long) ∈ lw_all) (hdd : 1 ≤ d) (hcat : (st.map fun v => if v.1 = 1 then 2 else 1).sum ≤ 8) (hd : decode cc pc = .ok (.invokestatic ix, 3)) (kk : XG fh QQ own mn cc nL ret d Z (pc + 3) lv ((1, if b < a then a else b) :: st) h res) : XG fh QQ own mn cc nL ret d Z pc lv ((1, b) :: (1, a) :: st) h res := ⟨kk.1, fun X ad H locs ls cells slots hS hl hlv hst hf => by
  have hmo := kk.1 (yF Z) hf
  have p7 := hS.2.2.2.2.2.2.1
  have p8 := hS.2.2.2.2.2.2.2
  have hc8 := cat_sumX (ad := ad) hcat
  have h2 := kk.2 X ad H locs ls cells slots hS hl hlv (hst.t.t.c (by split; exact hst.t.hd; exact hst.hd)) hf
  refine va_mmax_long X.hx X.hb (by rw [hl.1]) X.hown (X.hts _ hq) (X.hts _ hsta) (X.hts _ hini) (X.hts _ hco) (by rw [X.hR]; exact hdd) (by rw [X.hR]; show _ ≤ 64 * d; omega) (by rw [X.hR]; show _ ≤ xc (fh (yF Z)) - xc (yH Z); omega) (by rw [X.hR]; show _ ≤ xs (fh (yF Z)) - xs (yH Z); omega) hd ?_
  by_cases c0 : b < a
  · rw [if_pos c0] at h2
    rw [if_pos ((I64_lt hst.l hst.t.l).mpr c0)]
    exact h2
  · rw [if_neg c0] at h2
    rw [if_neg (fun q => c0 ((I64_lt hst.l hst.t.l).mp q))]
    exact h2⟩
theorem x_mminl {ix : Nat} {a b : Int} (hq : Cond.methodLink own ix Lib.MathLoose.min_long.x ∈ lw_all) (hsta : Cond.static Lib.MathLoose.min_long.x ∈ lw_all) (hini : Cond.initialized "java/lang/Math" ∈ lw_all) (hco : Cond.code Lib.MathLoose.min_long.x Lib.MathLoose.min_long.code 4 (some .long) ∈ lw_all) (hdd : 1 ≤ d) (hcat : (st.map fun v => if v.1 = 1 then 2 else 1).sum ≤ 8) (hd : decode cc pc = .ok (.invokestatic ix, 3)) (kk : XG fh QQ own mn cc nL ret d Z (pc + 3) lv ((1, if b < a then b else a) :: st) h res) : XG fh QQ own mn cc nL ret d Z pc lv ((1, b) :: (1, a) :: st) h res := ⟨kk.1, fun X ad H locs ls cells slots hS hl hlv hst hf => by
  have hmo := kk.1 (yF Z) hf
  have p7 := hS.2.2.2.2.2.2.1
  have p8 := hS.2.2.2.2.2.2.2
  have hc8 := cat_sumX (ad := ad) hcat
  have h2 := kk.2 X ad H locs ls cells slots hS hl hlv (hst.t.t.c (by split; exact hst.hd; exact hst.t.hd)) hf
  refine va_mmin_long X.hx X.hb (by rw [hl.1]) X.hown (X.hts _ hq) (X.hts _ hsta) (X.hts _ hini) (X.hts _ hco) (by rw [X.hR]; exact hdd) (by rw [X.hR]; show _ ≤ 64 * d; omega) (by rw [X.hR]; show _ ≤ xc (fh (yF Z)) - xc (yH Z); omega) (by rw [X.hR]; show _ ≤ xs (fh (yF Z)) - xs (yH Z); omega) hd ?_
  by_cases c0 : b < a
  · rw [if_pos c0] at h2
    rw [if_pos ((I64_lt hst.l hst.t.l).mpr c0)]
    exact h2
  · rw [if_neg c0] at h2
    rw [if_neg (fun q => c0 ((I64_lt hst.l hst.t.l).mp q))]
    exact h2⟩
end ROWS
