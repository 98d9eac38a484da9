/-! plain law: what schemes rest on: the row's first 107 places and how many questions there are -/
set_option maxRecDepth 100000
set_option maxHeartbeats 400000
def KC (K K' : Int → Int) : Prop := (∀ j : Int, 0 ≤ j → j < 107 → K' j = K j) ∧ K' 390 = K 390 ∧ 0 ≤ K 390 ∧ K 390 ≤ 20
section
variable {K K' : Int → Int} {cl : CLS}
theorem KC.at (C : KC K K') {j : Int} (h0 : 0 ≤ j) (h1 : j < 107) : K' j = K j := C.1 j h0 h1
theorem KC.takes (C : KC K K') {q l hp day : Int} (h0 : 0 ≤ q) (h1 : q < K 390) : takesS K' cl q l hp day = takesS K cl q l hp day := by
  have h2 := C.2.2.2
  have e : askS K' q l hp day = askS K q l hp day := by
    funext i
    unfold askS
    rw [C.at (j := 5 * q) (by omega) (by omega), C.at (j := 5 * q + 1) (by omega) (by omega), C.at (j := 5 * q + 3) (by omega) (by omega)]
  unfold takesS
  rw [e]
theorem KC.cost (C : KC K K') {q l hp : Int} (h0 : 0 ≤ q) (h1 : q < K 390) : costS K' cl q l hp = costS K cl q l hp := by
  unfold costS
  rw [C.takes h0 h1, C.takes h0 h1]
theorem KC.help (C : KC K K') {q k : Int} (h0 : 0 ≤ q) (h1 : q < K 390) : helpS K' q k = helpS K q k := by
  have h2 := C.2.2.2
  unfold helpS
  rw [C.at (j := 5 * q) (by omega) (by omega)]
theorem KC.king (C : KC K K') {q k : Int} (h0 : 0 ≤ q) (h1 : q < K 390) : kingS K' q k = kingS K q k := by
  have h2 := C.2.2.2
  unfold kingS
  rw [C.at (j := 5 * q) (by omega) (by omega)]
theorem KC.least (C : KC K K') : ∀ (m : Nat) (k a b : Int), (m : Int) ≤ K 390 → leastS K' cl m k a b = leastS K cl m k a b
  | 0, _, _, _, _ => rfl
  | m + 1, k, a, b, hm => by
    have h2 := C.2.2.2
    have ih := C.least (m := m)
    have q0 : 0 ≤ K 390 - ((m : Int) + 1) := by omega
    have q1 : K 390 - ((m : Int) + 1) < K 390 := by omega
    unfold leastS
    simp only []
    rw [C.2.1, C.at (j := 5 * (K 390 - ((m : Int) + 1)) + 4) (by omega) (by omega), C.cost q0 q1, C.cost q0 q1, C.help q0 q1, C.king q0 q1, ih _ _ _ (by omega), ih _ _ _ (by omega), ih _ _ _ (by omega)]
theorem KC.bw1 (C : KC K K') {q : Int} (h0 : 0 ≤ q) (h1 : q < K 390) : bw K' q = bw K q := by
  have h2 := C.2.2.2
  unfold bw
  rw [C.at (j := 5 * q + 4) (by omega) (by omega)]
theorem KC.bowl (C : KC K K') : bowlN K' = bowlN K := by
  have h2 := C.2.2.1
  unfold bowlN
  rw [C.2.1]
  exact Sg_congr fun i a b => C.bw1 a (by omega)
theorem KC.from (C : KC K K') {q : Int} (h0 : 0 ≤ q) : bwFrom K' q = bwFrom K q := by
  unfold bwFrom
  rw [C.2.1]
  exact Sg_congr fun i a b => C.bw1 (by omega) (by omega)
theorem KC.bq (C : KC K K') : ∀ (m : Nat) (q i : Int), 0 ≤ q → q + m ≤ K 390 → bqS K' m q i = bqS K m q i
  | 0, _, _, _, _ => rfl
  | m + 1, q, i, h0, h1 => by
    have h2 := C.2.2.2
    unfold bqS
    rw [C.at (j := 5 * q + 4) (by omega) (by omega), C.bq m _ _ (by omega) (by omega), C.bq m _ _ (by omega) (by omega)]
theorem KC.bqI (C : KC K K') (i : Int) : bqI K' i = bqI K i := by
  have h2 := C.2.2.1
  unfold _root_.Jvm.Pilot.CExamSlipsLaw_law_r1529_4f64e4.bqI
  rw [C.2.1]
  exact C.bq _ _ _ (by decide) (by omega)
theorem KC.ly (C : KC K K') (th : Int → Int) : lyS K' th = lyS K th := by
  unfold lyS; rw [C.at (j := 100) (by decide) (by decide)]
theorem KC.ans (C : KC K K') (th : Int → Int) : ansS K' th = ansS K th := by
  unfold ansS; rw [C.at (j := 101) (by decide) (by decide), C.ly]
theorem KC.lean (C : KC K K') (th lk : Int → Int) (l : Int) : leanS K' th lk l = leanS K th lk l := by
  unfold leanS; rw [C.at (j := 100) (by decide) (by decide)]
theorem KC.sums (C : KC K K') (c th lk : Int → Int) (l : Int) : sumsS K' c th lk l = sumsS K c th lk l := by
  funext r
  unfold sumsS
  rw [C.lean, C.ly, C.ans]
theorem KC.whole (C : KC K K') (th lk : Int → Int) (l : Int) : wholeS K' th lk l = wholeS K th lk l := by
  unfold wholeS
  rw [C.lean, C.ly, C.ans]
theorem KC.pass (C : KC K K') (c th lk : Int → Int) (l : Int) : passS K' c th lk l = passS K c th lk l := by
  unfold passS
  rw [C.sums, C.at (j := 102) (by decide) (by decide)]
theorem KC.with (C : KC K K') (a b : Int) : withS K' cl a b = withS K cl a b := by
  unfold withS
  rw [C.bowl, C.pass]
theorem KC.ww (C : KC K K') : wwS K' = wwS K := by
  unfold wwS
  rw [C.bowl, C.whole]
theorem KC.ansX (C : KC K K') : ansX K' = ansX K := by
  unfold _root_.Jvm.Pilot.CExamSlipsLaw_law_r1529_4f64e4.ansX
  rw [C.bowl, C.ans, C.at (j := 101) (by decide) (by decide)]
theorem FS.kc {h : XH} {z : Int} (C : KC K K') (F : FS h z K cl) : FS h z K' cl := by
  obtain ⟨o, o1, l1, r1, o2, l2, g2, t4, t3, p, q⟩ := F
  refine ⟨o, o1, by rw [C.bowl]; exact l1, fun i a b => by rw [C.bqI]; exact r1 i a (by rw [← C.bowl]; exact b), o2, l2, g2, t4, by rw [C.ww, C.ansX]; exact t3, fun a b h1 h2 h3 => by rw [C.with, C.ansX]; exact p a b h1 h2 (by rw [← C.bowl]; exact h3), fun q' a b mask h1 h2 h3 h4 h5 h6 h7 => ?_⟩
  rw [C.2.1] at h2
  rw [C.from h1] at h5
  rw [C.2.1, C.bowl, C.from h1, C.least _ _ _ _ (by omega)]
  exact q q' a b mask h1 h2 h3 h4 h5 h6 h7
end
