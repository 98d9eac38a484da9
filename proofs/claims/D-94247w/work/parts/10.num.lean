/-! numbers of the layers: ints and longs as Int, kept in range; the machine's words by them -/
set_option maxRecDepth 100000
def w32 (x : Int) : Int := (x + 2147483648) % 4294967296 - 2147483648
def w64 (x : Int) : Int := (x + 9223372036854775808) % 18446744073709551616 - 9223372036854775808
def w8 (x : Int) : Int := (x + 128) % 256 - 128
abbrev I32 (x : Int) : Int32 := Int32.ofInt x
abbrev I64 (x : Int) : Int64 := Int64.ofInt x
def in32 (x : Int) : Prop := -2147483648 ≤ x ∧ x ≤ 2147483647
def in64 (x : Int) : Prop := -9223372036854775808 ≤ x ∧ x ≤ 9223372036854775807
def in8 (x : Int) : Prop := -128 ≤ x ∧ x ≤ 127
theorem w32_in (x : Int) : in32 (w32 x) := by unfold in32 w32; omega
theorem w64_in (x : Int) : in64 (w64 x) := by unfold in64 w64; omega
theorem w8_in (x : Int) : in8 (w8 x) := by unfold in8 w8; omega
theorem in8_32 {x : Int} (h : in8 x) : in32 x := by unfold in8 in32 at *; omega
theorem in32_64 {x : Int} (h : in32 x) : in64 x := by unfold in32 in64 at *; omega
theorem w32_id {x : Int} (h1 : -2147483648 ≤ x) (h2 : x ≤ 2147483647) : w32 x = x := by unfold w32; omega
theorem w64_id {x : Int} (h1 : -9223372036854775808 ≤ x) (h2 : x ≤ 9223372036854775807) : w64 x = x := by unfold w64; omega
theorem w8_id {x : Int} (h1 : -128 ≤ x) (h2 : x ≤ 127) : w8 x = x := by unfold w8; omega
theorem w32_bm (x : Int) : Int.bmod x 4294967296 = w32 x := by
  unfold w32; rw [Int.bmod_def]; split <;> omega
theorem w64_bm (x : Int) : Int.bmod x 18446744073709551616 = w64 x := by
  unfold w64; rw [Int.bmod_def]; split <;> omega
theorem w8_bm (x : Int) : Int.bmod x 256 = w8 x := by
  unfold w8; rw [Int.bmod_def]; split <;> omega
theorem tI32 (x : Int) : (I32 x).toInt = w32 x := by rw [Int32.toInt_ofInt]; exact w32_bm x
theorem tI64 (x : Int) : (I64 x).toInt = w64 x := by rw [Int64.toInt_ofInt]; exact w64_bm x
theorem toI32 {x : Int} (h : in32 x) : (I32 x).toInt = x := by rw [tI32]; exact w32_id h.1 h.2
theorem toI64 {x : Int} (h : in64 x) : (I64 x).toInt = x := by rw [tI64]; exact w64_id h.1 h.2
theorem w32_w32 (x : Int) : w32 (w32 x) = w32 x := w32_id (w32_in x).1 (w32_in x).2
theorem w64_w64 (x : Int) : w64 (w64 x) = w64 x := w64_id (w64_in x).1 (w64_in x).2
theorem I32_w (x : Int) : I32 (w32 x) = I32 x := Int32.toInt_inj.mp (by rw [tI32, tI32, w32_w32])
theorem I64_w (x : Int) : I64 (w64 x) = I64 x := Int64.toInt_inj.mp (by rw [tI64, tI64, w64_w64])
theorem I32_inj {a b : Int} (ha : in32 a) (hb : in32 b) (h : I32 a = I32 b) : a = b := by rw [← toI32 ha, ← toI32 hb, h]
theorem I64_inj {a b : Int} (ha : in64 a) (hb : in64 b) (h : I64 a = I64 b) : a = b := by rw [← toI64 ha, ← toI64 hb, h]
theorem I32_of (x : Int32) : I32 x.toInt = x := Int32.ofInt_toInt x
theorem I64_of (x : Int64) : I64 x.toInt = x := Int64.ofInt_toInt x
theorem i32_in (x : Int32) : in32 x.toInt := by
  have h1 := x.toInt_lt; have h2 := x.le_toInt; unfold in32; omega
theorem i64_in (x : Int64) : in64 x.toInt := by
  have h1 := x.toInt_lt; have h2 := x.le_toInt; unfold in64; omega
theorem I32_add (a b : Int) : I32 a + I32 b = I32 (w32 (a + b)) := by rw [I32_w]; exact (Int32.ofInt_add a b).symm
theorem I32_sub (a b : Int) : I32 a - I32 b = I32 (w32 (a - b)) := by rw [I32_w]; exact (Int32.ofInt_sub a b).symm
theorem I32_mul (a b : Int) : I32 a * I32 b = I32 (w32 (a * b)) := by rw [I32_w]; exact (Int32.ofInt_mul a b).symm
theorem I32_neg (a : Int) : -I32 a = I32 (w32 (-a)) := by rw [I32_w]; exact (Int32.ofInt_neg a).symm
theorem I64_add (a b : Int) : I64 a + I64 b = I64 (w64 (a + b)) := by rw [I64_w]; exact (Int64.ofInt_add a b).symm
theorem I64_sub (a b : Int) : I64 a - I64 b = I64 (w64 (a - b)) := by rw [I64_w]; exact (Int64.ofInt_sub a b).symm
theorem I64_mul (a b : Int) : I64 a * I64 b = I64 (w64 (a * b)) := by rw [I64_w]; exact (Int64.ofInt_mul a b).symm
theorem I64_neg (a : Int) : -I64 a = I64 (w64 (-a)) := by rw [I64_w]; exact (Int64.ofInt_neg a).symm
theorem I32_div {a b : Int} (ha : in32 a) (hb : in32 b) : I32 a / I32 b = I32 (w32 (a.tdiv b)) := by
  apply Int32.toInt_inj.mp
  rw [Int32.toInt_div, toI32 ha, toI32 hb, tI32, w32_w32]; exact w32_bm _
theorem I64_div {a b : Int} (ha : in64 a) (hb : in64 b) : I64 a / I64 b = I64 (w64 (a.tdiv b)) := by
  apply Int64.toInt_inj.mp
  rw [Int64.toInt_div, toI64 ha, toI64 hb, tI64, w64_w64]; exact w64_bm _
theorem I32_rem {a b : Int} (ha : in32 a) (hb : in32 b) : I32 a - I32 a / I32 b * I32 b = I32 (a.tmod b) := by
  rw [I32_div ha hb, I32_w, ← Int32.ofInt_mul, ← Int32.ofInt_sub]
  congr 1
  have := Int.tdiv_mul_add_tmod a b
  omega
theorem I64_rem {a b : Int} (ha : in64 a) (hb : in64 b) : I64 a - I64 a / I64 b * I64 b = I64 (a.tmod b) := by
  rw [I64_div ha hb, I64_w, ← Int64.ofInt_mul, ← Int64.ofInt_sub]
  congr 1
  have := Int.tdiv_mul_add_tmod a b
  omega
theorem tmod_abs (a b : Int) : (a.tmod b).natAbs ≤ a.natAbs := by
  rw [Int.natAbs_tmod]; exact Nat.mod_le _ _
theorem tmod_in32 {a b : Int} (ha : in32 a) : in32 (a.tmod b) := by
  have h := tmod_abs a b
  have h1 : 0 ≤ a → 0 ≤ a.tmod b := Int.tmod_nonneg b
  have h2 : 0 ≤ -a → 0 ≤ (-a).tmod b := Int.tmod_nonneg b
  rw [Int.neg_tmod] at h2
  unfold in32 at *
  omega
theorem tmod_in64 {a b : Int} (ha : in64 a) : in64 (a.tmod b) := by
  have h := tmod_abs a b
  have h1 : 0 ≤ a → 0 ≤ a.tmod b := Int.tmod_nonneg b
  have h2 : 0 ≤ -a → 0 ≤ (-a).tmod b := Int.tmod_nonneg b
  rw [Int.neg_tmod] at h2
  unfold in64 at *
  omega
theorem I32_lt {a b : Int} (ha : in32 a) (hb : in32 b) : I32 a < I32 b ↔ a < b := by rw [Int32.lt_iff_toInt_lt, toI32 ha, toI32 hb]
theorem I32_le {a b : Int} (ha : in32 a) (hb : in32 b) : I32 a ≤ I32 b ↔ a ≤ b := by rw [Int32.le_iff_toInt_le, toI32 ha, toI32 hb]
theorem I64_lt {a b : Int} (ha : in64 a) (hb : in64 b) : I64 a < I64 b ↔ a < b := by rw [Int64.lt_iff_toInt_lt, toI64 ha, toI64 hb]
theorem I64_le {a b : Int} (ha : in64 a) (hb : in64 b) : I64 a ≤ I64 b ↔ a ≤ b := by rw [Int64.le_iff_toInt_le, toI64 ha, toI64 hb]
theorem I32_eq {a b : Int} (ha : in32 a) (hb : in32 b) : I32 a = I32 b ↔ a = b := ⟨I32_inj ha hb, fun h => by rw [h]⟩
theorem I64_eq {a b : Int} (ha : in64 a) (hb : in64 b) : I64 a = I64 b ↔ a = b := ⟨I64_inj ha hb, fun h => by rw [h]⟩
theorem in32_0 : in32 0 := by unfold in32; omega
/-- bits -/
def iand (a b : Int) : Int := (I32 a &&& I32 b).toInt
def ior (a b : Int) : Int := (I32 a ||| I32 b).toInt
def ixor (a b : Int) : Int := (I32 a ^^^ I32 b).toInt
def ishl (a b : Int) : Int := (I32 a <<< (I32 b &&& 31)).toInt
def ishr (a b : Int) : Int := (I32 a >>> (I32 b &&& 31)).toInt
def iushr (a b : Int) : Int := ((I32 a).toUInt32 >>> ((I32 b).toUInt32 &&& Int32.toUInt32 31)).toInt32.toInt
theorem I32_i2l {a : Int} (ha : in32 a) : (I32 a).toInt64 = I64 a := by
  apply Int64.toInt_inj.mp
  rw [Int32.toInt_toInt64, toI32 ha, toI64 (in32_64 ha)]
theorem I64_l2i {a : Int} (ha : in64 a) : (I64 a).toInt32 = I32 (w32 a) := by
  apply Int32.toInt_inj.mp
  rw [Int64.toInt_toInt32, toI64 ha, tI32, w32_w32]; exact w32_bm _
theorem I32_i2b {a : Int} (ha : in32 a) : (I32 a).toInt8.toInt32 = I32 (w8 a) := by
  apply Int32.toInt_inj.mp
  rw [Int8.toInt_toInt32, Int32.toInt_toInt8, toI32 ha, toI32 (in8_32 (w8_in a))]; exact w8_bm _
theorem I32_clamp {a : Int} (ha : in32 a) (h0 : 0 ≤ a) : (I32 a).toNatClampNeg = a.toNat := by
  have h := toI32 ha
  have : (I32 a).toNatClampNeg = (I32 a).toInt.toNat := rfl
  rw [this, h]
theorem I32_vp {a : Int} {n : Nat} (ha : in32 a) (h0 : 0 ≤ a) (hn : a < (n : Int)) : vp_in (I32 a) n := vp_in_iff.mpr ⟨by rw [toI32 ha]; exact h0, by rw [toI32 ha]; exact hn⟩
