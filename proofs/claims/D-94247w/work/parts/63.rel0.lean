/-! plain law: at the start both sides stand for one another -/
set_option maxRecDepth 100000
set_option maxHeartbeats 400000
def g0 : Int → Int := fun a => if 2 ≤ a ∧ a ≤ 8 then (if a = 2 then 1000 else if a = 3 then 1001 else if a = 4 then 1002 else if a = 5 then 1003 else if a = 6 then 1004 else if a = 7 then 1005 else 1006) else 0
theorem rel_0 (h hM : XH) (BX : XBase h) (BM : MBase hM) : Rel 0 h (VM hM) := by
  obtain ⟨⟨n1, k1, k9, k10, k11, k12, k13, k14, k15, k16, f1, f10, f12⟩, ⟨⟨v0, v5, v6, v7, v8, v9, v12⟩, ⟨i0, i1⟩, r14, r16, c1, c2, c3⟩, o2, ⟨o3, o4, o5⟩, ⟨o6, l6⟩, ⟨o7, l7⟩, ⟨o8, l8⟩, ⟨e0, e1, e2, e3, e4, e5, e6, e7⟩, ⟨a1, a2, a3, a4, a5, a6⟩, ⟨t0, t1, t2, t3, t4, t5, t6⟩, d0, d1, d2⟩ := BX
  obtain ⟨-, -, -, -, ⟨m390, m391, m392, m393, m394⟩, ⟨m100, m101, m102, m103, m104, m105, m106⟩, ⟨m347, m348, m349⟩, ⟨m50, m51⟩, ⟨s0, s1, s9, s10, s59, s64, s35, s58⟩, s2, s7, s6⟩ := BM
  have hz : ∀ j : Int, j < 0 ∨ 5201 ≤ j → VM hM 3 j = 0 := fun j hj => by
    unfold VM
    rw [if_pos (by decide), if_pos (by decide), if_neg (by show ¬ (0 ≤ j ∧ j < ((5201 : Nat) : Int)); omega)]
  have ob : ∀ (a : Int) (c : Nat), 1 ≤ a → a ≤ 16 → xk h a = c → OB h a c := fun a c x y z => ⟨x, by rw [n1]; exact y, z⟩
  have H : SH h := ⟨by omega, k1, k9, k10, k11, k12, k13, k14, k15, k16, f1, f10, f12⟩
  refine ⟨g0, fun _ => [], H, ⟨⟨rfl, rfl, rfl, rfl, rfl, rfl, rfl⟩, fun a x y z => ?_, fun a x => ?_⟩, ?_, ?_, ?_, ⟨?_, ?_⟩, ?_, ?_, ?_, ?_, ?_, ?_⟩
  · rw [n1] at y
    unfold g0
    have : a ≠ 2 ∧ a ≠ 3 ∧ a ≠ 4 ∧ a ≠ 5 ∧ a ≠ 6 ∧ a ≠ 7 ∧ a ≠ 8 := by
      refine ⟨?_, ?_, ?_, ?_, ?_, ?_, ?_⟩ <;> (intro e; rw [e] at z; omega)
    rw [if_neg (by omega)]
  · rw [n1] at x
    unfold g0
    rw [if_neg (by omega)]
  · rw [v0]
    refine ⟨ob 2 2 (by decide) (by decide) o2, rfl, ?_, ?_, ?_, ?_, ?_, ?_, ?_, ?_, ?_, ?_, ?_⟩
    · rw [e0, m390]; exact ⟨ob 3 26 (by decide) (by decide) o3, rfl, a2, by decide, Or.inl ⟨a1, rfl⟩⟩
    · rw [e1, m393]; exact ⟨ob 4 26 (by decide) (by decide) o4, rfl, a4, by decide, Or.inl ⟨a3, rfl⟩⟩
    · rw [e2, m391]; exact ⟨ob 5 26 (by decide) (by decide) o5, rfl, a6, by decide, Or.inl ⟨a5, rfl⟩⟩
    · rw [e3]
      refine ⟨ob 6 100 (by decide) (by decide) o6, rfl, l6, fun k k0 k1 => ?_⟩
      rcases (show k = 0 ∨ k = 1 ∨ k = 2 ∨ k = 3 ∨ k = 4 ∨ k = 5 ∨ k = 6 by omega) with rfl | rfl | rfl | rfl | rfl | rfl | rfl
      · exact t0.trans m100.symm
      · exact t1.trans m101.symm
      · exact t2.trans m102.symm
      · exact t3.trans m103.symm
      · exact t4.trans m104.symm
      · exact t5.trans m105.symm
      · exact t6.trans m106.symm
    · rw [e4]
      refine ⟨ob 7 100 (by decide) (by decide) o7, rfl, l7, fun k k0 k1 => ?_⟩
      rcases (show k = 0 ∨ k = 1 ∨ k = 2 by omega) with rfl | rfl | rfl
      · exact d0.trans m347.symm
      · exact d1.trans m348.symm
      · exact d2.trans m349.symm
    · rw [e5]
      exact ⟨ob 8 100 (by decide) (by decide) o8, rfl, l8, fun k k0 k1 => by rw [m392] at k1; omega⟩
    · rw [e6, m392]
    · rw [e7, m394]
    · intro k x y; rw [m390] at y; omega
    · intro k x y; rw [m391] at y; omega
    · intro t x; rw [m393] at x; omega
  · refine ⟨⟨by omega, by omega, by omega, by omega, by omega⟩, fun q x y => by rw [m390] at y; omega, ⟨by omega, by omega, by omega, by omega, by omega, by omega, by omega⟩, fun k x y => ?_, fun k x y => by rw [m391] at y; omega, fun k x y => by rw [m392] at y; omega, fun t x y => by rw [m393] at y; omega, hz⟩
    rcases (show k = 0 ∨ k = 1 ∨ k = 2 by omega) with rfl | rfl | rfl
    · show 0 ≤ VM hM 3 347 ∧ VM hM 3 347 ≤ 99; omega
    · show 0 ≤ VM hM 3 348 ∧ VM hM 3 348 ≤ 99; omega
    · show 0 ≤ VM hM 3 349 ∧ VM hM 3 349 ≤ 99; omega
  · intro t x; rw [m393] at x; omega
  · exact Or.inl ⟨m50, i0⟩
  · exact Or.inl ⟨m51, i1⟩
  · refine ⟨v5.trans s0.symm, fun k k0 k1 => ?_, v6.trans s10.symm, v7.trans s59.symm, v12.trans s9.symm, by omega, fun k k0 k1 => ?_⟩
    · obtain ⟨j, rfl⟩ := Int.eq_ofNat_of_zero_le k0
      exact (r14 j (by omega)).trans (s2 j (by omega)).symm
    · obtain ⟨j, rfl⟩ := Int.eq_ofNat_of_zero_le k0
      exact (r16 j (by omega)).trans (s7 j (by omega)).symm
  · exact Or.inl ⟨v8, s64⟩
  · exact s6
  · refine ⟨by omega, fun e => by omega, by omega, fun e => by omega, Or.inl v9⟩
  · omega
  · omega
