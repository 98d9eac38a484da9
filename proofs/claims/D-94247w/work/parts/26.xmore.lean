/-! the system's layer: Object.<init>, arraycopy, stores of any object, abstract calls -/
set_option maxRecDepth 100000
set_option maxHeartbeats 2000000
def xCls (ci : Nat) : String := match gcl[ci]? with | some r => r.1 | none => ""
theorem castO : ∀ ci, ci < 27 → Cond.castable (xCls ci) "java/lang/Object" ∈ lw_tbl := by
  intro ci h
  match ci, h with
  | 0, _ => exact q2382
  | 1, _ => exact q2378
  | 2, _ => exact q2372
  | 3, _ => exact q2380
  | 4, _ => exact q2381
  | 5, _ => exact q2376
  | 6, _ => exact q2383
  | 7, _ => exact q2384
  | 8, _ => exact q2385
  | 9, _ => exact q2386
  | 10, _ => exact q2387
  | 11, _ => exact q2388
  | 12, _ => exact q2389
  | 13, _ => exact q2390
  | 14, _ => exact q2373
  | 15, _ => exact q2391
  | 16, _ => exact q2392
  | 17, _ => exact q2393
  | 18, _ => exact q2394
  | 19, _ => exact q2395
  | 20, _ => exact q2396
  | 21, _ => exact q2397
  | 22, _ => exact q2398
  | 23, _ => exact q2377
  | 24, _ => exact q2400
  | 25, _ => exact q2401
  | 26, _ => exact q2379
  | k + 27, h => exact absurd h (by omega)
theorem xfit_X4 : ∀ k, k < 70 → fitk (xft 0 k) (tyX4 k) := by
  intro k h
  match k, h with
  | 0, _ => exact Or.inl ⟨rfl, rfl⟩
  | 1, _ => exact Or.inl ⟨rfl, rfl⟩
  | 2, _ => exact Or.inr (Or.inr (Or.inr ⟨rfl, Or.inr ⟨_, rfl⟩⟩))
  | 3, _ => exact Or.inr (Or.inr (Or.inr ⟨rfl, Or.inr ⟨_, rfl⟩⟩))
  | 4, _ => exact Or.inr (Or.inr (Or.inr ⟨rfl, Or.inr ⟨_, rfl⟩⟩))
  | 5, _ => exact Or.inr (Or.inr (Or.inr ⟨rfl, Or.inr ⟨_, rfl⟩⟩))
  | 6, _ => exact Or.inr (Or.inr (Or.inr ⟨rfl, Or.inr ⟨_, rfl⟩⟩))
  | 7, _ => exact Or.inr (Or.inr (Or.inr ⟨rfl, Or.inr ⟨_, rfl⟩⟩))
  | 8, _ => exact Or.inr (Or.inr (Or.inr ⟨rfl, Or.inr ⟨_, rfl⟩⟩))
  | 9, _ => exact Or.inl ⟨rfl, rfl⟩
  | 10, _ => exact Or.inl ⟨rfl, rfl⟩
  | 11, _ => exact Or.inr (Or.inr (Or.inr ⟨rfl, Or.inr ⟨_, rfl⟩⟩))
  | 12, _ => exact Or.inr (Or.inr (Or.inr ⟨rfl, Or.inr ⟨_, rfl⟩⟩))
  | 13, _ => exact Or.inr (Or.inr (Or.inr ⟨rfl, Or.inr ⟨_, rfl⟩⟩))
  | 14, _ => exact Or.inl ⟨rfl, rfl⟩
  | 15, _ => exact Or.inl ⟨rfl, rfl⟩
  | 16, _ => exact Or.inl ⟨rfl, rfl⟩
  | 17, _ => exact Or.inl ⟨rfl, rfl⟩
  | 18, _ => exact Or.inl ⟨rfl, rfl⟩
  | 19, _ => exact Or.inl ⟨rfl, rfl⟩
  | 20, _ => exact Or.inr (Or.inr (Or.inl ⟨rfl, rfl⟩))
  | 21, _ => exact Or.inr (Or.inr (Or.inr ⟨rfl, Or.inr ⟨_, rfl⟩⟩))
  | 22, _ => exact Or.inr (Or.inr (Or.inr ⟨rfl, Or.inr ⟨_, rfl⟩⟩))
  | 23, _ => exact Or.inr (Or.inr (Or.inr ⟨rfl, Or.inr ⟨_, rfl⟩⟩))
  | 24, _ => exact Or.inr (Or.inr (Or.inr ⟨rfl, Or.inr ⟨_, rfl⟩⟩))
  | 25, _ => exact Or.inr (Or.inr (Or.inr ⟨rfl, Or.inr ⟨_, rfl⟩⟩))
  | 26, _ => exact Or.inr (Or.inr (Or.inr ⟨rfl, Or.inr ⟨_, rfl⟩⟩))
  | 27, _ => exact Or.inr (Or.inr (Or.inr ⟨rfl, Or.inr ⟨_, rfl⟩⟩))
  | 28, _ => exact Or.inl ⟨rfl, rfl⟩
  | 29, _ => exact Or.inl ⟨rfl, rfl⟩
  | 30, _ => exact Or.inr (Or.inl ⟨rfl, rfl⟩)
  | 31, _ => exact Or.inr (Or.inr (Or.inr ⟨rfl, Or.inr ⟨_, rfl⟩⟩))
  | 32, _ => exact Or.inr (Or.inr (Or.inr ⟨rfl, Or.inr ⟨_, rfl⟩⟩))
  | 33, _ => exact Or.inr (Or.inr (Or.inr ⟨rfl, Or.inr ⟨_, rfl⟩⟩))
  | 34, _ => exact Or.inr (Or.inl ⟨rfl, rfl⟩)
  | 35, _ => exact Or.inl ⟨rfl, rfl⟩
  | 36, _ => exact Or.inr (Or.inl ⟨rfl, rfl⟩)
  | 37, _ => exact Or.inl ⟨rfl, rfl⟩
  | 38, _ => exact Or.inr (Or.inr (Or.inr ⟨rfl, Or.inr ⟨_, rfl⟩⟩))
  | 39, _ => exact Or.inr (Or.inr (Or.inr ⟨rfl, Or.inr ⟨_, rfl⟩⟩))
  | 40, _ => exact Or.inr (Or.inr (Or.inr ⟨rfl, Or.inr ⟨_, rfl⟩⟩))
  | 41, _ => exact Or.inr (Or.inr (Or.inr ⟨rfl, Or.inr ⟨_, rfl⟩⟩))
  | 42, _ => exact Or.inr (Or.inr (Or.inr ⟨rfl, Or.inr ⟨_, rfl⟩⟩))
  | 43, _ => exact Or.inl ⟨rfl, rfl⟩
  | 44, _ => exact Or.inl ⟨rfl, rfl⟩
  | 45, _ => exact Or.inl ⟨rfl, rfl⟩
  | 46, _ => exact Or.inr (Or.inr (Or.inr ⟨rfl, Or.inr ⟨_, rfl⟩⟩))
  | 47, _ => exact Or.inr (Or.inr (Or.inr ⟨rfl, Or.inr ⟨_, rfl⟩⟩))
  | 48, _ => exact Or.inl ⟨rfl, rfl⟩
  | 49, _ => exact Or.inl ⟨rfl, rfl⟩
  | 50, _ => exact Or.inl ⟨rfl, rfl⟩
  | 51, _ => exact Or.inr (Or.inr (Or.inl ⟨rfl, rfl⟩))
  | 52, _ => exact Or.inr (Or.inr (Or.inr ⟨rfl, Or.inr ⟨_, rfl⟩⟩))
  | 53, _ => exact Or.inr (Or.inr (Or.inr ⟨rfl, Or.inr ⟨_, rfl⟩⟩))
  | 54, _ => exact Or.inr (Or.inr (Or.inr ⟨rfl, Or.inr ⟨_, rfl⟩⟩))
  | 55, _ => exact Or.inr (Or.inr (Or.inr ⟨rfl, Or.inr ⟨_, rfl⟩⟩))
  | 56, _ => exact Or.inl ⟨rfl, rfl⟩
  | 57, _ => exact Or.inl ⟨rfl, rfl⟩
  | 58, _ => exact Or.inl ⟨rfl, rfl⟩
  | 59, _ => exact Or.inl ⟨rfl, rfl⟩
  | 60, _ => exact Or.inr (Or.inr (Or.inr ⟨rfl, Or.inr ⟨_, rfl⟩⟩))
  | 61, _ => exact Or.inr (Or.inr (Or.inr ⟨rfl, Or.inr ⟨_, rfl⟩⟩))
  | 62, _ => exact Or.inr (Or.inr (Or.inr ⟨rfl, Or.inr ⟨_, rfl⟩⟩))
  | 63, _ => exact Or.inl ⟨rfl, rfl⟩
  | 64, _ => exact Or.inl ⟨rfl, rfl⟩
  | 65, _ => exact Or.inl ⟨rfl, rfl⟩
  | 66, _ => exact Or.inl ⟨rfl, rfl⟩
  | 67, _ => exact Or.inl ⟨rfl, rfl⟩
  | 68, _ => exact Or.inl ⟨rfl, rfl⟩
  | 69, _ => exact Or.inl ⟨rfl, rfl⟩
  | k + 70, h => exact absurd h (by omega)
theorem xfit_X0 : ∀ k, k < 13 → fitk (xft 1 k) (tyX0 k) := by
  intro k h
  match k, h with
  | 0, _ => exact Or.inr (Or.inr (Or.inr ⟨rfl, Or.inl ⟨_, rfl⟩⟩))
  | 1, _ => exact Or.inr (Or.inr (Or.inr ⟨rfl, Or.inr ⟨_, rfl⟩⟩))
  | 2, _ => exact Or.inr (Or.inr (Or.inr ⟨rfl, Or.inl ⟨_, rfl⟩⟩))
  | 3, _ => exact Or.inr (Or.inr (Or.inr ⟨rfl, Or.inl ⟨_, rfl⟩⟩))
  | 4, _ => exact Or.inr (Or.inr (Or.inr ⟨rfl, Or.inr ⟨_, rfl⟩⟩))
  | 5, _ => exact Or.inl ⟨rfl, rfl⟩
  | 6, _ => exact Or.inl ⟨rfl, rfl⟩
  | 7, _ => exact Or.inl ⟨rfl, rfl⟩
  | 8, _ => exact Or.inr (Or.inr (Or.inr ⟨rfl, Or.inl ⟨_, rfl⟩⟩))
  | 9, _ => exact Or.inr (Or.inr (Or.inr ⟨rfl, Or.inl ⟨_, rfl⟩⟩))
  | 10, _ => exact Or.inr (Or.inr (Or.inr ⟨rfl, Or.inr ⟨_, rfl⟩⟩))
  | 11, _ => exact Or.inr (Or.inr (Or.inr ⟨rfl, Or.inr ⟨_, rfl⟩⟩))
  | 12, _ => exact Or.inl ⟨rfl, rfl⟩
  | k + 13, h => exact absurd h (by omega)
theorem xfit_X1 : ∀ k, k < 8 → fitk (xft 2 k) (tyX1 k) := by
  intro k h
  match k, h with
  | 0, _ => exact Or.inr (Or.inr (Or.inr ⟨rfl, Or.inl ⟨_, rfl⟩⟩))
  | 1, _ => exact Or.inr (Or.inr (Or.inr ⟨rfl, Or.inl ⟨_, rfl⟩⟩))
  | 2, _ => exact Or.inr (Or.inr (Or.inr ⟨rfl, Or.inl ⟨_, rfl⟩⟩))
  | 3, _ => exact Or.inr (Or.inr (Or.inr ⟨rfl, Or.inr ⟨_, rfl⟩⟩))
  | 4, _ => exact Or.inr (Or.inr (Or.inr ⟨rfl, Or.inr ⟨_, rfl⟩⟩))
  | 5, _ => exact Or.inr (Or.inr (Or.inr ⟨rfl, Or.inr ⟨_, rfl⟩⟩))
  | 6, _ => exact Or.inl ⟨rfl, rfl⟩
  | 7, _ => exact Or.inl ⟨rfl, rfl⟩
  | k + 8, h => exact absurd h (by omega)
theorem xfit_X2 : ∀ k, k < 2 → fitk (xft 3 k) (tyX2 k) := by
  intro k h
  match k, h with
  | 0, _ => exact Or.inr (Or.inr (Or.inr ⟨rfl, Or.inr ⟨_, rfl⟩⟩))
  | 1, _ => exact Or.inr (Or.inr (Or.inl ⟨rfl, rfl⟩))
  | k + 2, h => exact absurd h (by omega)
theorem xfit_X3 : ∀ k, k < 1 → fitk (xft 4 k) (tyX3 k) := by
  intro k h
  match k, h with
  | 0, _ => exact Or.inr (Or.inr (Or.inr ⟨rfl, Or.inr ⟨_, rfl⟩⟩))
  | k + 1, h => exact absurd h (by omega)
theorem xfit_X5 : ∀ k, k < 6 → fitk (xft 5 k) (tyX5 k) := by
  intro k h
  match k, h with
  | 0, _ => exact Or.inl ⟨rfl, rfl⟩
  | 1, _ => exact Or.inl ⟨rfl, rfl⟩
  | 2, _ => exact Or.inl ⟨rfl, rfl⟩
  | 3, _ => exact Or.inl ⟨rfl, rfl⟩
  | 4, _ => exact Or.inr (Or.inr (Or.inl ⟨rfl, rfl⟩))
  | 5, _ => exact Or.inr (Or.inr (Or.inl ⟨rfl, rfl⟩))
  | k + 6, h => exact absurd h (by omega)
theorem xfit_X6 : ∀ k, k < 9 → fitk (xft 6 k) (tyX6 k) := by
  intro k h
  match k, h with
  | 0, _ => exact Or.inl ⟨rfl, rfl⟩
  | 1, _ => exact Or.inl ⟨rfl, rfl⟩
  | 2, _ => exact Or.inl ⟨rfl, rfl⟩
  | 3, _ => exact Or.inl ⟨rfl, rfl⟩
  | 4, _ => exact Or.inl ⟨rfl, rfl⟩
  | 5, _ => exact Or.inr (Or.inr (Or.inr ⟨rfl, Or.inr ⟨_, rfl⟩⟩))
  | 6, _ => exact Or.inr (Or.inr (Or.inr ⟨rfl, Or.inr ⟨_, rfl⟩⟩))
  | 7, _ => exact Or.inr (Or.inr (Or.inr ⟨rfl, Or.inr ⟨_, rfl⟩⟩))
  | 8, _ => exact Or.inr (Or.inr (Or.inr ⟨rfl, Or.inl ⟨_, rfl⟩⟩))
  | k + 9, h => exact absurd h (by omega)
theorem xfit_X7 : ∀ k, k < 7 → fitk (xft 7 k) (tyX7 k) := by
  intro k h
  match k, h with
  | 0, _ => exact Or.inr (Or.inr (Or.inr ⟨rfl, Or.inl ⟨_, rfl⟩⟩))
  | 1, _ => exact Or.inr (Or.inr (Or.inr ⟨rfl, Or.inr ⟨_, rfl⟩⟩))
  | 2, _ => exact Or.inr (Or.inr (Or.inr ⟨rfl, Or.inl ⟨_, rfl⟩⟩))
  | 3, _ => exact Or.inr (Or.inr (Or.inr ⟨rfl, Or.inl ⟨_, rfl⟩⟩))
  | 4, _ => exact Or.inr (Or.inr (Or.inr ⟨rfl, Or.inl ⟨_, rfl⟩⟩))
  | 5, _ => exact Or.inl ⟨rfl, rfl⟩
  | 6, _ => exact Or.inl ⟨rfl, rfl⟩
  | k + 7, h => exact absurd h (by omega)
theorem xfit_X9 : ∀ k, k < 1 → fitk (xft 8 k) (tyX9 k) := by
  intro k h
  match k, h with
  | 0, _ => exact Or.inl ⟨rfl, rfl⟩
  | k + 1, h => exact absurd h (by omega)
theorem xfit_X10 : ∀ k, k < 1 → fitk (xft 9 k) (tyX10 k) := by
  intro k h
  match k, h with
  | 0, _ => exact Or.inl ⟨rfl, rfl⟩
  | k + 1, h => exact absurd h (by omega)
theorem xfit_X11 : ∀ k, k < 3 → fitk (xft 10 k) (tyX11 k) := by
  intro k h
  match k, h with
  | 0, _ => exact Or.inr (Or.inr (Or.inr ⟨rfl, Or.inl ⟨_, rfl⟩⟩))
  | 1, _ => exact Or.inr (Or.inr (Or.inr ⟨rfl, Or.inl ⟨_, rfl⟩⟩))
  | 2, _ => exact Or.inl ⟨rfl, rfl⟩
  | k + 3, h => exact absurd h (by omega)
theorem xfit_X13 : ∀ k, k < 3 → fitk (xft 11 k) (tyX13 k) := by
  intro k h
  match k, h with
  | 0, _ => exact Or.inr (Or.inr (Or.inr ⟨rfl, Or.inl ⟨_, rfl⟩⟩))
  | 1, _ => exact Or.inr (Or.inr (Or.inr ⟨rfl, Or.inl ⟨_, rfl⟩⟩))
  | 2, _ => exact Or.inl ⟨rfl, rfl⟩
  | k + 3, h => exact absurd h (by omega)
theorem xfit_X14 : ∀ k, k < 1 → fitk (xft 12 k) (tyX14 k) := by
  intro k h
  match k, h with
  | 0, _ => exact Or.inr (Or.inr (Or.inr ⟨rfl, Or.inl ⟨_, rfl⟩⟩))
  | k + 1, h => exact absurd h (by omega)
theorem xfit_X15 : ∀ k, k < 2 → fitk (xft 13 k) (tyX15 k) := by
  intro k h
  match k, h with
  | 0, _ => exact Or.inr (Or.inr (Or.inl ⟨rfl, rfl⟩))
  | 1, _ => exact Or.inr (Or.inr (Or.inr ⟨rfl, Or.inr ⟨_, rfl⟩⟩))
  | k + 2, h => exact absurd h (by omega)
theorem xfit_X16 : ∀ k, k < 4 → fitk (xft 14 k) (tyX16 k) := by
  intro k h
  match k, h with
  | 0, _ => exact Or.inl ⟨rfl, rfl⟩
  | 1, _ => exact Or.inr (Or.inr (Or.inr ⟨rfl, Or.inl ⟨_, rfl⟩⟩))
  | 2, _ => exact Or.inr (Or.inr (Or.inr ⟨rfl, Or.inl ⟨_, rfl⟩⟩))
  | 3, _ => exact Or.inr (Or.inl ⟨rfl, rfl⟩)
  | k + 4, h => exact absurd h (by omega)
theorem xfit_X17 : ∀ k, k < 4 → fitk (xft 15 k) (tyX17 k) := by
  intro k h
  match k, h with
  | 0, _ => exact Or.inr (Or.inr (Or.inr ⟨rfl, Or.inr ⟨_, rfl⟩⟩))
  | 1, _ => exact Or.inr (Or.inr (Or.inr ⟨rfl, Or.inr ⟨_, rfl⟩⟩))
  | 2, _ => exact Or.inr (Or.inr (Or.inr ⟨rfl, Or.inl ⟨_, rfl⟩⟩))
  | 3, _ => exact Or.inr (Or.inr (Or.inr ⟨rfl, Or.inl ⟨_, rfl⟩⟩))
  | k + 4, h => exact absurd h (by omega)
theorem xfit_X18 : ∀ k, k < 2 → fitk (xft 16 k) (tyX18 k) := by
  intro k h
  match k, h with
  | 0, _ => exact Or.inr (Or.inr (Or.inr ⟨rfl, Or.inr ⟨_, rfl⟩⟩))
  | 1, _ => exact Or.inl ⟨rfl, rfl⟩
  | k + 2, h => exact absurd h (by omega)
theorem xfit_X19 : ∀ k, k < 2 → fitk (xft 17 k) (tyX19 k) := by
  intro k h
  match k, h with
  | 0, _ => exact Or.inr (Or.inl ⟨rfl, rfl⟩)
  | 1, _ => exact Or.inr (Or.inl ⟨rfl, rfl⟩)
  | k + 2, h => exact absurd h (by omega)
theorem xfit_X20 : ∀ k, k < 5 → fitk (xft 18 k) (tyX20 k) := by
  intro k h
  match k, h with
  | 0, _ => exact Or.inr (Or.inr (Or.inr ⟨rfl, Or.inr ⟨_, rfl⟩⟩))
  | 1, _ => exact Or.inr (Or.inr (Or.inr ⟨rfl, Or.inr ⟨_, rfl⟩⟩))
  | 2, _ => exact Or.inr (Or.inr (Or.inr ⟨rfl, Or.inr ⟨_, rfl⟩⟩))
  | 3, _ => exact Or.inr (Or.inl ⟨rfl, rfl⟩)
  | 4, _ => exact Or.inr (Or.inr (Or.inr ⟨rfl, Or.inl ⟨_, rfl⟩⟩))
  | k + 5, h => exact absurd h (by omega)
theorem xfit_X21 : ∀ k, k < 2 → fitk (xft 19 k) (tyX21 k) := by
  intro k h
  match k, h with
  | 0, _ => exact Or.inl ⟨rfl, rfl⟩
  | 1, _ => exact Or.inl ⟨rfl, rfl⟩
  | k + 2, h => exact absurd h (by omega)
theorem xfit_X22 : ∀ k, k < 7 → fitk (xft 20 k) (tyX22 k) := by
  intro k h
  match k, h with
  | 0, _ => exact Or.inr (Or.inr (Or.inr ⟨rfl, Or.inr ⟨_, rfl⟩⟩))
  | 1, _ => exact Or.inr (Or.inr (Or.inr ⟨rfl, Or.inr ⟨_, rfl⟩⟩))
  | 2, _ => exact Or.inl ⟨rfl, rfl⟩
  | 3, _ => exact Or.inl ⟨rfl, rfl⟩
  | 4, _ => exact Or.inl ⟨rfl, rfl⟩
  | 5, _ => exact Or.inl ⟨rfl, rfl⟩
  | 6, _ => exact Or.inr (Or.inr (Or.inr ⟨rfl, Or.inl ⟨_, rfl⟩⟩))
  | k + 7, h => exact absurd h (by omega)
theorem xfit_X23 : ∀ k, k < 4 → fitk (xft 21 k) (tyX23 k) := by
  intro k h
  match k, h with
  | 0, _ => exact Or.inr (Or.inr (Or.inr ⟨rfl, Or.inr ⟨_, rfl⟩⟩))
  | 1, _ => exact Or.inl ⟨rfl, rfl⟩
  | 2, _ => exact Or.inl ⟨rfl, rfl⟩
  | 3, _ => exact Or.inr (Or.inr (Or.inr ⟨rfl, Or.inl ⟨_, rfl⟩⟩))
  | k + 4, h => exact absurd h (by omega)
theorem xfit_X24 : ∀ k, k < 5 → fitk (xft 22 k) (tyX24 k) := by
  intro k h
  match k, h with
  | 0, _ => exact Or.inl ⟨rfl, rfl⟩
  | 1, _ => exact Or.inr (Or.inr (Or.inr ⟨rfl, Or.inr ⟨_, rfl⟩⟩))
  | 2, _ => exact Or.inr (Or.inr (Or.inr ⟨rfl, Or.inr ⟨_, rfl⟩⟩))
  | 3, _ => exact Or.inl ⟨rfl, rfl⟩
  | 4, _ => exact Or.inr (Or.inr (Or.inr ⟨rfl, Or.inl ⟨_, rfl⟩⟩))
  | k + 5, h => exact absurd h (by omega)
theorem xfit_X25 : ∀ k, k < 1 → fitk (xft 23 k) (tyX25 k) := by
  intro k h
  match k, h with
  | 0, _ => exact Or.inr (Or.inr (Or.inr ⟨rfl, Or.inr ⟨_, rfl⟩⟩))
  | k + 1, h => exact absurd h (by omega)
theorem xfit_X26 : ∀ k, k < 1 → fitk (xft 24 k) (tyX26 k) := by
  intro k h
  match k, h with
  | 0, _ => exact Or.inr (Or.inl ⟨rfl, rfl⟩)
  | k + 1, h => exact absurd h (by omega)
theorem xfit_X27 : ∀ k, k < 3 → fitk (xft 25 k) (tyX27 k) := by
  intro k h
  match k, h with
  | 0, _ => exact Or.inl ⟨rfl, rfl⟩
  | 1, _ => exact Or.inl ⟨rfl, rfl⟩
  | 2, _ => exact Or.inl ⟨rfl, rfl⟩
  | k + 3, h => exact absurd h (by omega)
theorem xfit_J2 : ∀ k, k < 3 → fitk (xft 26 k) (tyJ2 k) := by
  intro k h
  match k, h with
  | 0, _ => exact Or.inl ⟨rfl, rfl⟩
  | 1, _ => exact Or.inr (Or.inr (Or.inr ⟨rfl, Or.inr ⟨_, rfl⟩⟩))
  | 2, _ => exact Or.inl ⟨rfl, rfl⟩
  | k + 3, h => exact absurd h (by omega)
/-- arraycopy between arrays of a kind -/
def hcpy (h : XH) (a0 sp a1 dp n : Int) : XH := (h.1, h.2.1, (fun b i => if b = a1 ∧ dp ≤ i ∧ i < dp + n then h.2.2.1 a0 (sp + (i - dp)) else h.2.2.1 b i), h.2.2.2)
def cpg {β : Type} (h : XH) (t : Nat) (a0 sp a1 dp n : Int) (r : Option β) : Option β := if (1 ≤ a0 ∧ a0 ≤ (xn h : Int) ∧ xk h a0 = 100 + t) ∧ (1 ≤ a1 ∧ a1 ≤ (xn h : Int) ∧ xk h a1 = 100 + t) ∧ 0 ≤ sp ∧ 0 ≤ dp ∧ 0 ≤ n ∧ sp + n ≤ (xl h a0 : Int) ∧ dp + n ≤ (xl h a1 : Int) then r else none
theorem cpg_some {β : Type} {h : XH} {t : Nat} {a0 sp a1 dp n : Int} {r : Option β} {b : β} (q : cpg h t a0 sp a1 dp n r = some b) : ((1 ≤ a0 ∧ a0 ≤ (xn h : Int) ∧ xk h a0 = 100 + t) ∧ (1 ≤ a1 ∧ a1 ≤ (xn h : Int) ∧ xk h a1 = 100 + t) ∧ 0 ≤ sp ∧ 0 ≤ dp ∧ 0 ≤ n ∧ sp + n ≤ (xl h a0 : Int) ∧ dp + n ≤ (xl h a1 : Int)) ∧ r = some b := by
  unfold cpg at q; split at q
  · rename_i g; exact ⟨g, q⟩
  · cases q
theorem cpg_ok {β : Type} {h : XH} {t : Nat} {a0 sp a1 dp n : Int} {r : Option β} (g : (1 ≤ a0 ∧ a0 ≤ (xn h : Int) ∧ xk h a0 = 100 + t) ∧ (1 ≤ a1 ∧ a1 ≤ (xn h : Int) ∧ xk h a1 = 100 + t) ∧ 0 ≤ sp ∧ 0 ≤ dp ∧ 0 ≤ n ∧ sp + n ≤ (xl h a0 : Int) ∧ dp + n ≤ (xl h a1 : Int)) : cpg h t a0 sp a1 dp n r = r := if_pos g
theorem hcpy_cell {cT : Nat → ClassId} {ad : Int → Nat} {h : XH} {a0 sp a1 dp n b : Int} (e : b ≠ a1) : xcell cT ad (hcpy h a0 sp a1 dp n) b = xcell cT ad h b := by
  have hv : ∀ i, xv (hcpy h a0 sp a1 dp n) b i = xv h b i := fun i => if_neg fun q => e q.1
  unfold xcell xfs xarr
  simp only [hv]
  rfl
theorem xW_cpy {cT : Nat → ClassId} {ad : Int → Nat} {h : XH} {a0 sp a dp n : Int} (h1 : 1 ≤ a) (h2 : a ≤ (xn h : Int)) : (xW cT ad h).set (a.toNat - 1) (xcell cT ad (hcpy h a0 sp a dp n) a) = xW cT ad (hcpy h a0 sp a dp n) := by
  have e : (((a.toNat - 1 : Nat) : Int)) + 1 = a := by omega
  have hi : (List.range (xn h))[a.toNat - 1]? = some (a.toNat - 1) := List.getElem?_range (by omega)
  have h3 := map_set (f := fun (i : Nat) => xcell cT ad h ((i : Int) + 1)) (f' := fun (i : Nat) => xcell cT ad (hcpy h a0 sp a dp n) ((i : Int) + 1)) List.nodup_range hi (fun b _ hb => hcpy_cell (by omega))
  rw [e] at h3
  exact h3
theorem okH.cpy {h : XH} (hk : okH h) {t : Nat} {a0 sp a1 dp n : Int} (e0 : 1 ≤ a0 ∧ a0 ≤ (xn h : Int) ∧ xk h a0 = 100 + t) (e1 : 1 ≤ a1 ∧ a1 ≤ (xn h : Int) ∧ xk h a1 = 100 + t) : okH (hcpy h a0 sp a1 dp n) := by
  intro b b1 b2
  obtain ⟨g1, g2, g3⟩ := hk b b1 b2
  refine ⟨g1, g2, fun i => ?_⟩
  show okt (xn h) (xty h b i) (if b = a1 ∧ dp ≤ i ∧ i < dp + n then xv h a0 (sp + (i - dp)) else xv h b i)
  split
  · rename_i e
    rw [e.1, xtyA e1.2.2]
    exact hk.arr e0.1 e0.2.1 e0.2.2 _
  · exact g3 i
theorem XM.cpg {ρ : Type} {fh : ρ → XH} {h h0 : XH} {t : Nat} {a0 sp a1 dp n : Int} {r : Option ρ} (k : XM fh h r) : XM fh h (cpg h0 t a0 sp a1 dp n r) := fun fin hf => k fin (cpg_some hf).2
theorem XM.cpy {ρ : Type} {fh : ρ → XH} {h : XH} {a0 sp a1 dp n : Int} {r : Option ρ} (k : XM fh (hcpy h a0 sp a1 dp n) r) : XM fh h r := k
theorem cpyI {h : XH} {a0 sp a1 dp n : Int} (h1 : 0 ≤ sp) (h2 : 0 ≤ dp) (h3 : 0 ≤ n) : va_cpy (fun i : Nat => I32 (xv h a0 (i : Int))) (fun i : Nat => I32 (xv h a1 (i : Int))) sp.toNat dp.toNat n.toNat = fun i : Nat => I32 (xv (hcpy h a0 sp a1 dp n) a1 (i : Int)) := by
  funext i
  show (if dp.toNat ≤ i ∧ i < dp.toNat + n.toNat then I32 (xv h a0 ((sp.toNat + (i - dp.toNat) : Nat) : Int)) else I32 (xv h a1 (i : Int))) = I32 (if a1 = a1 ∧ dp ≤ (i : Int) ∧ (i : Int) < dp + n then xv h a0 (sp + ((i : Int) - dp)) else xv h a1 (i : Int))
  by_cases e : dp.toNat ≤ i ∧ i < dp.toNat + n.toNat
  · have e2 : ((sp.toNat + (i - dp.toNat) : Nat) : Int) = sp + ((i : Int) - dp) := by omega
    rw [if_pos e, if_pos ⟨rfl, by omega, by omega⟩, e2]
  · rw [if_neg e, if_neg (fun q => e ⟨by omega, by omega⟩)]
theorem cpyR {ad : Int → Nat} {h : XH} {a0 sp a1 dp n : Int} (h1 : 0 ≤ sp) (h2 : 0 ≤ dp) (h3 : 0 ≤ n) : va_cpy (fun i : Nat => ro ad (xv h a0 (i : Int))) (fun i : Nat => ro ad (xv h a1 (i : Int))) sp.toNat dp.toNat n.toNat = fun i : Nat => ro ad (xv (hcpy h a0 sp a1 dp n) a1 (i : Int)) := by
  funext i
  show (if dp.toNat ≤ i ∧ i < dp.toNat + n.toNat then ro ad (xv h a0 ((sp.toNat + (i - dp.toNat) : Nat) : Int)) else ro ad (xv h a1 (i : Int))) = ro ad (if a1 = a1 ∧ dp ≤ (i : Int) ∧ (i : Int) < dp + n then xv h a0 (sp + ((i : Int) - dp)) else xv h a1 (i : Int))
  by_cases e : dp.toNat ≤ i ∧ i < dp.toNat + n.toNat
  · have e2 : ((sp.toNat + (i - dp.toNat) : Nat) : Int) = sp + ((i : Int) - dp) := by omega
    rw [if_pos e, if_pos ⟨rfl, by omega, by omega⟩, e2]
  · rw [if_neg e, if_neg (fun q => e ⟨by omega, by omega⟩)]
/-- the elements that are copied are objects that the target's component admits -/
def okE (h : XH) (E : String) (a0 sp n : Int) : Prop := ∀ i : Int, sp ≤ i → i < sp + n → xv h a0 i = 0 ∨ (1 ≤ xv h a0 i ∧ xv h a0 i ≤ (xn h : Int) ∧ xk h (xv h a0 i) < 27 ∧ (xCls (xk h (xv h a0 i)) = E ∨ Cond.castable (xCls (xk h (xv h a0 i))) E ∈ lw_tbl))
noncomputable def eg {β : Type} (h : XH) (E : String) (a0 sp n : Int) (r : Option β) : Option β := @ite _ (okE h E a0 sp n) (Classical.propDecidable _) r none
theorem eg_some {β : Type} {h : XH} {E : String} {a0 sp n : Int} {r : Option β} {b : β} (q : eg h E a0 sp n r = some b) : okE h E a0 sp n ∧ r = some b := by
  unfold eg at q; split at q
  · rename_i g; exact ⟨g, q⟩
  · cases q
theorem eg_ok {β : Type} {h : XH} {E : String} {a0 sp n : Int} {r : Option β} (g : okE h E a0 sp n) : eg h E a0 sp n r = r := if_pos g
theorem XM.eg {ρ : Type} {fh : ρ → XH} {h h0 : XH} {E : String} {a0 sp n : Int} {r : Option ρ} (k : XM fh h r) : XM fh h (eg h0 E a0 sp n r) := fun fin hf => k fin (eg_some hf).2
section ROWS
variable {ρ : Type} {fh : ρ → XH} {QQ : XZ ρ → State → Prop} {own mn : String} {cc : ByteArray} {nL : Nat} {ret : Option FieldType} {d : Nat} {Z : XZ ρ} {pc : Nat} {lv : List (Nat × AV)} {st : List AV} {h : XH} {res : Option ρ}
theorem x_objinit {ix : Nat} {b : Int} (hli : Cond.methodLink own ix Lib.objectInit ∈ lw_all) (hin : Cond.instanceMethod Lib.objectInit ∈ lw_all) (hco : Cond.code Lib.objectInit ⟨#[0xb1]⟩ 1 none ∈ lw_all) (hdd : 1 ≤ d) (hcat : (st.map fun v => if v.1 = 1 then 2 else 1).sum ≤ 8) (hd : decode cc pc = .ok (.invokespecial ix, 3)) (kk : XG fh QQ own mn cc nL ret d Z (pc + 3) lv st h res) : XG fh QQ own mn cc nL ret d Z pc lv ((2, b) :: st) h (pz b res) := ⟨kk.1.pz, fun X ad H locs ls cells slots hS hl hlv hst hf0 => by
  obtain ⟨b0, hf⟩ := pz_some hf0
  have hk2 := kk.2 X ad H locs ls cells slots hS hl hlv hst.t hf
  have hrb : rv ad b = .ref (ad b) := by unfold rv; rw [if_neg b0]
  show W _ _ _ _ _ _ _ _ _ _ _ _ _ _ _ (F0 _ _ _ (rv ad b :: _))
  rw [hrb]
  have hc8 := cat_sumX (ad := ad) hcat
  exact W.objInit X.hx X.hb X.hown (X.hts _ hli) (X.hts _ hin) (X.hts _ hco) rfl (hl.1) rfl hd (by rw [X.hR]; exact hdd) (by rw [X.hR]; show 2 * 0 + _ + 12 ≤ 64 * d; omega) hk2⟩
theorem x_copyi {ix : Nat} {a0 sp a1 dp n : Int} {f : XH → Option ρ} (t : Nat) (ht : t = 0 ∨ t = 2) (hli : Cond.methodLink own ix arraycopyName ∈ lw_all) (hna : Cond.native arraycopyName ∈ lw_all) (hsta : Cond.static arraycopyName ∈ lw_all) (hini : Cond.initialized "java/lang/System" ∈ lw_all) (hdd : 1 ≤ d) (hcat : (st.map fun v => if v.1 = 1 then 2 else 1).sum ≤ 8) (hd : decode cc pc = .ok (.invokestatic ix, 3)) (kk : ∀ h1, XG fh QQ own mn cc nL ret d Z (pc + 3) lv st h1 (f h1)) : XG fh QQ own mn cc nL ret d Z pc lv ((0, n) :: (0, dp) :: (2, a1) :: (0, sp) :: (2, a0) :: st) h (cpg h t a0 sp a1 dp n (nm (hcpy h a0 sp a1 dp n) f)) := ⟨((kk (hcpy h a0 sp a1 dp n)).1.cpy).cpg, fun X ad H locs ls cells slots hS hl hlv hst hf0 => by
  obtain ⟨⟨⟨u1, u2, u3⟩, ⟨v1, v2, v3⟩, g1, g2, g3, g4, g5⟩, hf⟩ := cpg_some hf0
  have ht12 : t < 12 := by rcases ht with rfl | rfl <;> decide
  have hq0 := xW_at (cT := yCT Z) (ad := ad) u1 u2
  have hq1 := xW_at (cT := yCT Z) (ad := ad) v1 v2
  rw [xcell_a u3] at hq0
  rw [xcell_a v3] at hq1
  have i5 := hst.i
  have i4 := hst.t.i
  have i2 := hst.t.t.t.i
  have ea0 : xarr ad h a0 t = (xl h a0, .inl fun i : Nat => I32 (xv h a0 (i : Int))) := by unfold xarr; rw [if_neg (by omega), if_neg (by omega)]
  have ea1 : xarr ad h a1 t = (xl h a1, .inl fun i : Nat => I32 (xv h a1 (i : Int))) := by unfold xarr; rw [if_neg (by omega), if_neg (by omega)]
  rw [ea0] at hq0
  rw [ea1] at hq1
  have hc8 := cat_sumX (ad := ad) hcat
  show W _ _ _ _ _ _ _ _ _ _ _ _ _ _ _ (F0 _ _ _ (_ :: _ :: rv ad a1 :: _ :: rv ad a0 :: _))
  have hr0 : rv ad a0 = .ref (ad a0) := by unfold rv; rw [if_neg (by omega)]
  have hr1 : rv ad a1 = .ref (ad a1) := by unfold rv; rw [if_neg (by omega)]
  rw [hr0, hr1]
  have c2 := I32_clamp i2 g1
  have c4 := I32_clamp i4 g2
  have c5 := I32_clamp i5 g3
  refine va_copyi (sp := I32 sp) (dp := I32 dp) (n := I32 n) (ty := xAT t) X.hx X.hb (by rw [hl.1]) X.hown (X.hts _ hli) (X.hts _ hna) (X.hts _ hsta) (X.hts _ hini) X.hK hS.hP hS.hD hS.hS (a0.toNat - 1) (a1.toNat - 1) t t hq0 hq1 (xTys_at _ ht12) (xTys_at _ ht12) (by rcases ht with rfl | rfl <;> rfl) (fun e => absurd ((I32_lt i2 in32_0).mp e) (by omega)) (fun e => absurd ((I32_lt i4 in32_0).mp e) (by omega)) (fun e => absurd ((I32_lt i5 in32_0).mp e) (by omega)) (by rw [c2, c5]; omega) (by rw [c4, c5]; omega) (fun i hi => ?_) (by rw [X.hR]; exact hdd) (by rw [X.hR]; show _ + (7 + 11) ≤ 64 * d; omega) hd (fun H1 locs1 hP1 hD1 hS1 => ?_)
  · have hx := hS.okh.arr u1 u2 u3 (((I32 sp).toNatClampNeg + i : Nat) : Int)
    rcases ht with rfl | rfl
    · rfl
    · have hx : in8 _ := hx
      show fits .byte _ = true
      unfold fits
      have w := in8_32 hx
      unfold in8 at hx
      have l1 : (-128 : Int32) ≤ I32 (xv h a0 (((I32 sp).toNatClampNeg + i : Nat) : Int)) := (I32_le (a := -128) ⟨by decide, by decide⟩ w).mpr hx.1
      have l2 : I32 (xv h a0 (((I32 sp).toNatClampNeg + i : Nat) : Int)) ≤ (127 : Int32) := (I32_le (b := 127) w ⟨by decide, by decide⟩).mpr hx.2
      show (decide ((-128 : Int32) ≤ _) && decide (_ ≤ (127 : Int32))) = true
      rw [decide_eq_true l1, decide_eq_true l2]; rfl
  · rw [c2, c4, c5, cpyI g1 g2 g3] at hP1 hD1
    have e1 : xcell (yCT Z) ad (hcpy h a0 sp a1 dp n) a1 = (ad a1, .inl (yCT Z t, xl h a1, .inl fun i : Nat => I32 (xv (hcpy h a0 sp a1 dp n) a1 (i : Int)))) := by
      rw [xcell_a (h := hcpy h a0 sp a1 dp n) v3]
      unfold xarr
      rw [if_neg (by omega), if_neg (by omega)]
      rfl
    rw [← e1, xW_cpy v1 v2] at hP1 hD1
    exact (kk _).2 X ad H1 locs1 ls cells slots ⟨hP1, hD1, hS1, hS.okh.cpy ⟨u1, u2, u3⟩ ⟨v1, v2, v3⟩, ⟨hS.2.2.2.2.1.1, fun b i hb => by rw [← hS.2.2.2.2.1.2 b i hb]; exact if_neg fun q => by omega⟩, hS.2.2.2.2.2⟩ hl hlv hst.t.t.t.t.t hf⟩
theorem xAny {ad : Int → Nat} {H : Heap} {locs : List Loc} {cells slots : Nat} (X : XX fh own mn cc nL ret d Z) (hS : XS Z h ad H locs cells slots) {E : String} {x : Int} (x1 : 1 ≤ x) (x2 : x ≤ (xn h : Int)) (x3 : xk h x < 27) (hca : xCls (xk h x) = E ∨ Cond.castable (xCls (xk h x)) E ∈ lw_tbl) : va_Any E (yS Z) H (ad x) := by
  have hq := xW_at (cT := yCT Z) (ad := ad) x1 x2
  rw [xcell_o rfl (by omega)] at hq
  have hlt : xk h x < gcl.length := x3
  have hg : gcl[xk h x]? = some (gcl[xk h x]'hlt) := List.getElem?_eq_getElem hlt
  have hn : (gcl[xk h x]'hlt).1 = xCls (xk h x) := by unfold xCls; rw [hg]
  refine va_rAny X.hK hS.hP hq hg ?_
  rw [hn]
  rcases hca with e | hw
  · subst e; exact vb_asgS
  · exact vb_asgC (X.hN.use hw rfl)
theorem x_copyq {ix : Nat} {a0 sp a1 dp n : Int} {E : String} {f : XH → Option ρ} (t : Nat) (ht4 : 4 ≤ t) (ht : t < 12) (hxt : xAT t = .object E) (hli : Cond.methodLink own ix arraycopyName ∈ lw_all) (hna : Cond.native arraycopyName ∈ lw_all) (hsta : Cond.static arraycopyName ∈ lw_all) (hini : Cond.initialized "java/lang/System" ∈ lw_all) (hdd : 1 ≤ d) (hcat : (st.map fun v => if v.1 = 1 then 2 else 1).sum ≤ 8) (hd : decode cc pc = .ok (.invokestatic ix, 3)) (kk : ∀ h1, XG fh QQ own mn cc nL ret d Z (pc + 3) lv st h1 (f h1)) : XG fh QQ own mn cc nL ret d Z pc lv ((0, n) :: (0, dp) :: (2, a1) :: (0, sp) :: (2, a0) :: st) h (cpg h t a0 sp a1 dp n (eg h E a0 sp n (nm (hcpy h a0 sp a1 dp n) f))) := ⟨(((kk (hcpy h a0 sp a1 dp n)).1.cpy).eg).cpg, fun X ad H locs ls cells slots hS hl hlv hst hf0 => by
  obtain ⟨⟨⟨u1, u2, u3⟩, ⟨v1, v2, v3⟩, g1, g2, g3, g4, g5⟩, hf1⟩ := cpg_some hf0
  obtain ⟨hE, hf⟩ := eg_some hf1
  have hq0 := xW_at (cT := yCT Z) (ad := ad) u1 u2
  have hq1 := xW_at (cT := yCT Z) (ad := ad) v1 v2
  rw [xcell_a u3] at hq0
  rw [xcell_a v3] at hq1
  have i5 := hst.i
  have i4 := hst.t.i
  have i2 := hst.t.t.t.i
  have ea0 : xarr ad h a0 t = (xl h a0, .inr (.inr (.inr (.inr fun i : Nat => ro ad (xv h a0 (i : Int)))))) := by unfold xarr; rw [if_neg (by omega), if_pos ht4]
  have ea1 : xarr ad h a1 t = (xl h a1, .inr (.inr (.inr (.inr fun i : Nat => ro ad (xv h a1 (i : Int)))))) := by unfold xarr; rw [if_neg (by omega), if_pos ht4]
  rw [ea0] at hq0
  rw [ea1] at hq1
  have hc8 := cat_sumX (ad := ad) hcat
  show W _ _ _ _ _ _ _ _ _ _ _ _ _ _ _ (F0 _ _ _ (_ :: _ :: rv ad a1 :: _ :: rv ad a0 :: _))
  have hr0 : rv ad a0 = .ref (ad a0) := by unfold rv; rw [if_neg (by omega)]
  have hr1 : rv ad a1 = .ref (ad a1) := by unfold rv; rw [if_neg (by omega)]
  rw [hr0, hr1]
  have c2 := I32_clamp i2 g1
  have c4 := I32_clamp i4 g2
  have c5 := I32_clamp i5 g3
  refine va_copyM (sp := I32 sp) (dp := I32 dp) (n := I32 n) (E0 := E) (E1 := E) X.hx X.hb (by rw [hl.1]) X.hown (X.hts _ hli) (X.hts _ hna) (X.hts _ hsta) (X.hts _ hini) X.hK hS.hP hS.hD hS.hS (a0.toNat - 1) (a1.toNat - 1) t t hq0 hq1 (by rw [xTys_at _ ht, hxt]) (by rw [xTys_at _ ht, hxt]) (fun e => absurd ((I32_lt i2 in32_0).mp e) (by omega)) (fun e => absurd ((I32_lt i4 in32_0).mp e) (by omega)) (fun e => absurd ((I32_lt i5 in32_0).mp e) (by omega)) (by rw [c2, c5]; omega) (by rw [c4, c5]; omega) (fun i hi y hy => ?_) (by rw [X.hR]; exact hdd) (by rw [X.hR]; show _ + (7 + 11) ≤ 64 * d; omega) hd (fun H1 locs1 hP1 hD1 hS1 => ?_)
  · rw [c2] at hy
    rw [c5] at hi
    have ei : (((sp.toNat + i : Nat)) : Int) = sp + (i : Int) := by omega
    have hy2 : ro ad (xv h a0 (sp + (i : Int))) = some y := by rw [← ei]; exact hy
    rcases hE (sp + (i : Int)) (by omega) (by omega) with e0 | ⟨x1, x2, x3, x4⟩
    · unfold ro at hy2; rw [if_pos e0] at hy2; cases hy2
    · unfold ro at hy2; rw [if_neg (by omega)] at hy2
      have := Option.some.inj hy2
      subst this
      exact xAny X hS x1 x2 x3 x4
  · rw [c2, c4, c5, cpyR g1 g2 g3] at hP1 hD1
    have e1 : xcell (yCT Z) ad (hcpy h a0 sp a1 dp n) a1 = (ad a1, .inl (yCT Z t, xl h a1, .inr (.inr (.inr (.inr fun i : Nat => ro ad (xv (hcpy h a0 sp a1 dp n) a1 (i : Int))))))) := by
      rw [xcell_a (h := hcpy h a0 sp a1 dp n) v3]
      unfold xarr
      rw [if_neg (by omega), if_pos ht4]
      rfl
    rw [← e1, xW_cpy v1 v2] at hP1 hD1
    exact (kk _).2 X ad H1 locs1 ls cells slots ⟨hP1, hD1, hS1, hS.okh.cpy ⟨u1, u2, u3⟩ ⟨v1, v2, v3⟩, ⟨hS.2.2.2.2.1.1, fun b i hb => by rw [← hS.2.2.2.2.1.2 b i hb]; exact if_neg fun q => by omega⟩, hS.2.2.2.2.2⟩ hl hlv hst.t.t.t.t.t hf⟩
/-- a store of any object that the component admits -/
def okEx (h : XH) (E : String) (x : Int) : Prop := x = 0 ∨ (1 ≤ x ∧ x ≤ (xn h : Int) ∧ xk h x < 27 ∧ (xCls (xk h x) = E ∨ Cond.castable (xCls (xk h x)) E ∈ lw_tbl))
noncomputable def ex {β : Type} (h : XH) (E : String) (x : Int) (r : Option β) : Option β := @ite _ (okEx h E x) (Classical.propDecidable _) r none
theorem ex_some {β : Type} {h : XH} {E : String} {x : Int} {r : Option β} {b : β} (q : ex h E x r = some b) : okEx h E x ∧ r = some b := by
  unfold ex at q; split at q
  · rename_i g; exact ⟨g, q⟩
  · cases q
theorem ex_ok {β : Type} {h : XH} {E : String} {x : Int} {r : Option β} (g : okEx h E x) : ex h E x r = r := if_pos g
theorem XM.ex {h0 : XH} {E : String} {x : Int} {r : Option ρ} (k : XM fh h r) : XM fh h (ex h0 E x r) := fun fin hf => k fin (ex_some hf).2
theorem x_aastM {E : String} {a j x : Int} {f : XH → Option ρ} (t : Nat) (ht4 : 4 ≤ t) (ht : t < 12) (hxt : xAT t = .object E) (hd : decode cc pc = .ok (.aastore, 1)) (kk : ∀ h1, XG fh QQ own mn cc nL ret d Z (pc + 1) lv st h1 (f h1)) : XG fh QQ own mn cc nL ret d Z pc lv ((2, x) :: (0, j) :: (2, a) :: st) h (ai h a t j (ex h E x (nm (hset h a j x) f))) := ⟨(((kk (hset h a j x)).1.set).ex).ai, fun X ad H locs ls cells slots hS hl hlv hst hf9 => by
  obtain ⟨h1, h2, h3, h4, h5, hf0⟩ := ai_some hf9
  obtain ⟨hx, hf⟩ := ex_some hf0
  have hq := xW_at (cT := yCT Z) (ad := ad) h1 h2
  rw [xcell_a h3] at hq
  have e := I32_clamp hst.t.i h4
  have er : xarr ad h a t = (xl h a, .inr (.inr (.inr (.inr fun i : Nat => ro ad (xv h a (i : Int)))))) := by unfold xarr; rw [if_neg (by omega), if_pos ht4]
  rw [er] at hq
  have e8 : xaty t = 8 := by
    match t, ht4 with
    | m + 4, _ => rfl
  have hra : rv ad a = .ref (ad a) := by unfold rv; rw [if_neg (by omega)]
  have fin : ∀ (H1 : Heap) (locs1 : List Loc), va_P (yD Z) gcl ((xW (yCT Z) ad h).set (a.toNat - 1) (ad a, .inl (yCT Z t, xl h a, .inr (.inr (.inr (.inr (va_up (fun i : Nat => ro ad (xv h a (i : Int))) j.toNat (ro ad x)))))))) H1 → va_D (yAA Z) ((xW (yCT Z) ad h).set (a.toNat - 1) (ad a, .inl (yCT Z t, xl h a, .inr (.inr (.inr (.inr (va_up (fun i : Nat => ro ad (xv h a (i : Int))) j.toNat (ro ad x)))))))) → va_S (yAA Z) (yS Z).heap H1 locs1 → W (yP Z) (yL Z) (yE Z) (yR Z) (yS Z) (yM Z) (yA Z) (yB Z) (yT Z) (yC Z) H1 locs1 cells slots (QQ Z) (F0 (yM Z) (pc + 1) ls (st.map (cX ad))) := by
    intro H1 locs1 hP1 hD1 hS1
    rw [updXr h4] at hP1 hD1
    have e1 : xcell (yCT Z) ad (hset h a j x) a = (ad a, .inl (yCT Z t, xl h a, .inr (.inr (.inr (.inr (fun i : Nat => ro ad (xv (hset h a j x) a (i : Int)))))))) := by
      rw [xcell_a (h := hset h a j x) h3]
      unfold xarr
      rw [if_neg (by omega), if_pos ht4]
      rfl
    rw [← e1, xW_set h1 h2] at hP1 hD1
    exact (kk _).2 X ad H1 locs1 ls cells slots (hS.up h1 (by rw [xtyA h3, e8]; exact hst.r) hP1 hD1 hS1) hl hlv hst.t.t.t hf
  show W _ _ _ _ _ _ _ _ _ _ _ _ _ _ _ (F0 _ _ _ (rv ad x :: _ :: rv ad a :: _))
  rw [hra]
  rcases hx with x0 | ⟨x1, x2, x3, x4⟩
  · have hrx : rv ad x = .null := by unfold rv; rw [if_pos x0]
    rw [hrx]
    refine va_astqN (i := I32 j) (C := E) (f := fun i : Nat => ro ad (xv h a (i : Int))) (n := xl h a) X.hx X.hb X.hK hS.hP hS.hD hS.hS (a.toNat - 1) t hq (by rw [xTys_at _ ht, hxt]) (I32_vp hst.t.i h4 h5) hd (fun H1 locs1 hP1 hD1 hS1 => ?_)
    have : ro ad x = none := by unfold ro; rw [if_pos x0]
    rw [e] at hP1 hD1
    exact fin H1 locs1 (by rw [this]; exact hP1) (by rw [this]; exact hD1) hS1
  · have hrx : rv ad x = .ref (ad x) := by unfold rv; rw [if_neg (by omega)]
    rw [hrx]
    refine va_astqM (i := I32 j) (E := E) (f := fun i : Nat => ro ad (xv h a (i : Int))) (n := xl h a) X.hx X.hb X.hK hS.hP hS.hD hS.hS (a.toNat - 1) t hq (by rw [xTys_at _ ht, hxt]) (xAny X hS x1 x2 x3 x4) (I32_vp hst.t.i h4 h5) hd (fun H1 locs1 hP1 hD1 hS1 => ?_)
    have : ro ad x = some (ad x) := by unfold ro; rw [if_neg (by omega)]
    rw [e] at hP1 hD1
    exact fin H1 locs1 (by rw [this]; exact hP1) (by rw [this]; exact hD1) hS1⟩
end ROWS
