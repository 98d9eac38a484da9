/-! plain law: bits of small numbers (b_s31 after the kit's row s_l) -/
set_option maxRecDepth 100000
set_option maxHeartbeats 400000
theorem nI_to {n : Nat} (h : n < 2147483648) : (nI n).toInt = (n : Int) := Int32.toInt_ofNat_of_lt h
theorem I32_nat {n : Nat} (h : n < 2147483648) : I32 (n : Int) = nI n := Int32.toInt_inj.mp (by rw [nI_to h]; exact toI32 ⟨by omega, by omega⟩)
theorem iand_n {a b : Nat} (ha : a < 2147483648) (hb : b < 2147483648) : iand a b = ((a &&& b : Nat) : Int) := by
  unfold iand
  rw [I32_nat ha, I32_nat hb]
  have e : nI a &&& nI b = nI (a &&& b) := by
    apply Int32.toBitVec_inj.1
    show BitVec.ofNat 32 a &&& BitVec.ofNat 32 b = BitVec.ofNat 32 (a &&& b)
    apply BitVec.eq_of_getLsbD_eq
    intro i hi
    simp [hi]
  rw [e, nI_to (Nat.lt_of_le_of_lt Nat.and_le_left ha)]
theorem ior_n {a b : Nat} (ha : a < 2147483648) (hb : b < 2147483648) : ior a b = ((a ||| b : Nat) : Int) := by
  unfold ior
  rw [I32_nat ha, I32_nat hb]
  have e : nI a ||| nI b = nI (a ||| b) := by
    apply Int32.toBitVec_inj.1
    show BitVec.ofNat 32 a ||| BitVec.ofNat 32 b = BitVec.ofNat 32 (a ||| b)
    apply BitVec.eq_of_getLsbD_eq
    intro i hi
    simp [hi]
  rw [e, nI_to (show a ||| b < 2 ^ 31 from Nat.or_lt_two_pow ha hb)]
theorem ishl_1 : ∀ k : Nat, k < 31 → ishl 1 (k : Int) = ((2 ^ k : Nat) : Int) := by decide +kernel
theorem b_s31 : ∀ n, n < 32 → ((nI n &&& 31).toBitVec.smod 32).toNat = n := by decide +kernel
theorem ishr_n {a k : Nat} (ha : a < 2147483648) (hk : k < 32) : ishr a k = ((a >>> k : Nat) : Int) := by
  unfold ishr
  rw [I32_nat ha, I32_nat (show k < 2147483648 by omega)]
  have e : nI a >>> (nI k &&& 31) = nI (a >>> k) := by
    apply Int32.toBitVec_inj.1
    rw [Int32.toBitVec_shiftRight]
    show (BitVec.ofNat 32 a).sshiftRight ((nI k &&& 31).toBitVec.smod 32).toNat = BitVec.ofNat 32 (a >>> k)
    have hm : (BitVec.ofNat 32 a).msb = false := by
      rw [BitVec.msb_eq_decide, BitVec.toNat_ofNat, Nat.mod_eq_of_lt (by omega)]
      exact decide_eq_false (by omega)
    rw [b_s31 k hk, BitVec.sshiftRight_eq_of_msb_false hm]
    apply BitVec.eq_of_toNat_eq
    rw [BitVec.toNat_ushiftRight, BitVec.toNat_ofNat, BitVec.toNat_ofNat, Nat.mod_eq_of_lt (by omega), Nat.mod_eq_of_lt (Nat.lt_of_le_of_lt (Nat.shiftRight_le a k) (by omega))]
  rw [e, nI_to (Nat.lt_of_le_of_lt (Nat.shiftRight_le a k) ha)]
/-- a bit of a number -/
def tb (y q : Int) : Int := if y.toNat.testBit q.toNat then 1 else 0
theorem tb_01 (y q : Int) : tb y q = 0 ∨ tb y q = 1 := by unfold tb; split <;> simp
theorem bit_eq {y q : Int} (h0 : 0 ≤ y) (h1 : y < 2147483648) (q0 : 0 ≤ q) (q1 : q < 32) : iand (ishr y q) 1 = tb y q := by
  obtain ⟨a, rfl⟩ := Int.eq_ofNat_of_zero_le h0
  obtain ⟨k, rfl⟩ := Int.eq_ofNat_of_zero_le q0
  rw [ishr_n (by omega) (by omega)]
  have := iand_n (a := a >>> k) (b := 1) (Nat.lt_of_le_of_lt (Nat.shiftRight_le a k) (by omega)) (by decide)
  rw [show ((1 : Nat) : Int) = 1 from rfl] at this
  rw [this]
  unfold tb
  rw [Int.toNat_natCast, Int.toNat_natCast, Nat.testBit, Nat.and_comm 1]
  have h2 : a >>> k &&& 1 = 0 ∨ a >>> k &&& 1 = 1 := by
    have : a >>> k &&& 1 < 2 ^ 1 := Nat.and_lt_two_pow _ (by decide)
    omega
  rcases h2 with h2 | h2
  · rw [h2]; rfl
  · rw [h2]; rfl
