/-! the law: what holds at the start of what is passed along -/
set_option maxRecDepth 100000
set_option maxHeartbeats 4000000
theorem law_FN {args : Array Value} {s : State} (hts : ∀ w ∈ lw_tbl, w.before args s = true) : xFN s := fun w hw hn =>
  match w, hn, hts w hw with
  | .fieldLinkNest _ _ _ _ _ _, _, h => va_Nw.of rfl h
  | .methodLinkNest _ _ _ _, _, h => va_Nw.of rfl h
  | .castable _ _, _, h => va_Nw.of rfl h
  | .declares _, _, h => va_Nw.of rfl h
  | .arrayOver (.object _), _, h => h
  | .arrayOver (.array .int), _, h => h
def sC (i : Nat) : Term := .string "ExamSlips$Reader" ((xStrs.map fun q => q.1).getD i 0)
def nW : List Cond := flatC (Jvm.Cond.and given_1 narrow_1)
theorem law_sr : ∀ q ∈ xStrs, Cond.stringRef "ExamSlips$Reader" q.1 q.2.1 ∈ lw_tbl := List.forall_mem_cons.mpr ⟨q542, List.forall_mem_cons.mpr ⟨q543, List.forall_mem_cons.mpr ⟨q544, List.forall_mem_cons.mpr ⟨q545, List.forall_mem_cons.mpr ⟨q546, List.forall_mem_cons.mpr ⟨q547, List.forall_mem_cons.mpr ⟨q548, List.forall_mem_cons.mpr ⟨q549, List.forall_mem_cons.mpr ⟨q550, List.forall_mem_cons.mpr ⟨q551, List.forall_mem_cons.mpr ⟨q733, List.forall_mem_cons.mpr ⟨q738, List.forall_mem_cons.mpr ⟨q778, List.forall_mem_cons.mpr ⟨q779, List.forall_mem_cons.mpr ⟨q796, List.forall_mem_cons.mpr ⟨q797, List.forall_mem_cons.mpr ⟨q798, List.forall_mem_cons.mpr ⟨q811, List.forall_mem_cons.mpr ⟨q812, List.forall_mem_cons.mpr ⟨q813, List.forall_mem_cons.mpr ⟨q814, List.forall_mem_cons.mpr ⟨q815, List.forall_mem_cons.mpr ⟨q816, List.forall_mem_cons.mpr ⟨q850, List.forall_mem_cons.mpr ⟨q869, List.forall_mem_cons.mpr ⟨q890, (fun _ h => nomatch h)⟩⟩⟩⟩⟩⟩⟩⟩⟩⟩⟩⟩⟩⟩⟩⟩⟩⟩⟩⟩⟩⟩⟩⟩⟩⟩
theorem nW1 : ∀ i : Nat, i < 26 → Cond.exactly (sC i) "java/lang/String" ∈ nW := by decide +kernel
theorem nW2 : ∀ i : Nat, i < 26 → Cond.eq (.field (sC i) "java/lang/String" "coder" "B") (.int 0) ∈ nW := by decide +kernel
theorem nW3 : ∀ i : Nat, i < 26 → Cond.arrayOf (.field (sC i) "java/lang/String" "value" "[B") .byte ∈ nW := by decide +kernel
theorem nW4 : ∀ i : Nat, i < 26 → Cond.eq (.length (.field (sC i) "java/lang/String" "value" "[B")) (.int (Int32.ofNat (strL.getD i 0))) ∈ nW := by decide +kernel
theorem nW5 : ∀ i : Nat, i < 26 → ∀ j : Nat, j < strL.getD i 0 → Cond.eq (.elem (.field (sC i) "java/lang/String" "value" "[B") (.int (Int32.ofNat j))) (.int ((strB.getD i []).getD j 0)) ∈ nW := by decide +kernel
theorem nW6 : Cond.arrayOf (.static "java/util/ArrayList" "DEFAULTCAPACITY_EMPTY_ELEMENTDATA" "[Ljava/lang/Object;") (.object "java/lang/Object") ∈ nW ∧ Cond.eq (.length (.static "java/util/ArrayList" "DEFAULTCAPACITY_EMPTY_ELEMENTDATA" "[Ljava/lang/Object;")) (.int 0) ∈ nW ∧ Cond.isRef (.mirror "[Ljava/lang/Object;") ∈ nW ∧ Cond.eq (.static "java/lang/String" "COMPACT_STRINGS" "Z") (.int 1) ∈ nW := by decide +kernel
theorem nW7 : ∀ q ∈ xStat, Cond.isRef (.static q.2.1 q.2.2.1 q.2.2.2) ∈ nW := by decide +kernel
theorem str_small : ∀ i : Nat, i < 26 → strL.getD i 0 < 2 ^ 31 := by decide +kernel
theorem str_apart : ∀ i : Nat, i < 26 → ∀ j : Nat, j < 26 → strL.getD i 0 = strL.getD j 0 → (∀ k : Nat, k < strL.getD i 0 → (strB.getD i []).getD k 0 = (strB.getD j []).getD k 0) → i = j := by decide +kernel
theorem va_OF.uni {o n d : String} {v w : Value} {t : Nat} {A : Nat → Prop} {U : State} {H : Heap} (h1 : va_OF o n d v t A U H) (h2 : va_OF o n d w t A U H) : v = w := by
  obtain ⟨cf, k, i, f, cell, a1, a2, a3, a4, a5, a6⟩ := h1
  obtain ⟨cf', k', i', f', cell', b1, b2, b3, b4, b5, b6⟩ := h2
  cases a1.symm.trans b1
  cases a3.symm.trans b3
  exact Option.some.inj (a5.symm.trans b5)
theorem va_T.uni {ty : FieldType} {t N M : Nat} {f g : Nat → Value} {A : Nat → Prop} {U : State} {H : Heap} (hN : N < 2 ^ 31) (hM : M < 2 ^ 31) (h1 : va_T ty t N f A U H) (h2 : va_T ty t M g A U H) : N = M ∧ ∀ j, j < N → f j = g j := by
  obtain ⟨cell, a1, a2, a3, a4, a5, a6, a7⟩ := h1
  obtain ⟨cell', b1, b2, b3, b4, b5, b6, b7⟩ := h2
  cases a1.symm.trans b1
  have e : N = M := by
    have h : Int32.ofNat N = Int32.ofNat M := a5.symm.trans b5
    have h2 := congrArg Int32.toInt h
    rw [Int32.toInt_ofNat_of_lt hN, Int32.toInt_ofNat_of_lt hM] at h2
    omega
  subst e
  exact ⟨rfl, fun j hj => Option.some.inj ((a6 j hj).symm.trans (b6 j hj))⟩
theorem law_str {args : Array Value} {s : State} {A : Nat → Prop} (hn : ∀ w ∈ nW, w.before args s = true) (hA : ∀ a : Nat, a < s.heap.size → ¬ A a) : ∃ adK adV : Nat → Nat, vk_S 26 strL strB adK adV A s s.heap ∧ ∀ i : Nat, i < 26 → (sC i).eval args s none [] s = some (.ref (adK i)) := by
  have one : ∀ i : Nat, ∃ q : Nat × Nat, i < 26 → (va_O "java/lang/String" q.1 A s s.heap ∧ va_OF "java/lang/String" "coder" "B" (.int 0) q.1 A s s.heap ∧ va_OF "java/lang/String" "value" "[B" (.ref q.2) q.1 A s s.heap ∧ va_T .byte q.2 (strL.getD i 0) (fun j => .int ((strB.getD i []).getD j 0)) A s s.heap) ∧ (sC i).eval args s none [] s = some (.ref q.1) := by
    intro i
    by_cases hi : i < 26
    · obtain ⟨K, W, h1, h2⟩ := vk_Sof (args := args) (s := s) (N := 1) (tm := fun _ => sC i) (len := [strL.getD i 0]) (byt := [strB.getD i []]) (A := A) (fun j hj => by rw [show j = 0 by omega]; exact str_small i hi) (fun j _ => hn _ (nW1 i hi)) (fun j _ => hn _ (nW2 i hi)) (fun j _ => hn _ (nW3 i hi)) (fun j hj => by rw [show j = 0 by omega]; exact hn _ (nW4 i hi)) (fun j hj k hk => by rw [show j = 0 by omega] at hk ⊢; exact hn _ (nW5 i hi k hk)) (fun j k hj hk hjk => absurd (show j = k by omega) hjk) hA
      exact ⟨(K 0, W 0), fun _ => ⟨h1.1 0 (by decide), h2 0 (by decide)⟩⟩
    · exact ⟨(0, 0), fun h => absurd h hi⟩
  obtain ⟨g, hg⟩ := Classical.axiomOfChoice one
  refine ⟨fun i => (g i).1, fun i => (g i).2, ⟨fun i hi => (hg i hi).1, fun i j hi hj e => ?_⟩, fun i hi => (hg i hi).2⟩
  obtain ⟨-, -, a3, a4⟩ := (hg i hi).1
  obtain ⟨-, -, b3, b4⟩ := (hg j hj).1
  have e1 : (g i).1 = (g j).1 := e
  rw [e1] at a3
  have e2 : (g i).2 = (g j).2 := Value.ref.inj (a3.uni b3)
  rw [e2] at a4
  obtain ⟨c1, c2⟩ := va_T.uni (str_small i hi) (str_small j hj) a4 b4
  exact str_apart i hi j hj c1 (fun k hk => Value.int.inj (c2 k hk))
/-- the passed-along: their addresses, and the start's heap -/
def law_ad (t0 mi : Nat) (K W : Nat → Nat) (t : Int → Nat) : Int → Nat := fun a => if a = -1 then t0 else if a = -2 then mi else if -8 ≤ a ∧ a ≤ -6 then t (a + 3) else if -35 ≤ a ∧ a ≤ -10 then K (-10 - a).toNat else W (-60 - a).toNat
def law_h0 (b3 b4 b5 : Bool) : XH := (fun _ => 0, fun _ => 0, fun a j => if j = 0 then (if a = -3 then (if b3 then -6 else 0) else if a = -4 then (if b4 then -7 else 0) else if a = -5 then (if b5 then -8 else 0) else 0) else 0, 0, 0, 0)
theorem law_FZ {args : Array Value} {s : State} {A : Nat → Prop} (hts : ∀ w ∈ lw_tbl, w.before args s = true) (hn : ∀ w ∈ nW, w.before args s = true) (hA : ∀ a : Nat, a < s.heap.size → ¬ A a) : ∃ (adF : Int → Nat) (b3 b4 b5 : Bool), xFZ adF (law_h0 b3 b4 b5) A s s.heap := by
  have hta : ∀ w ∈ lw_all, w.before args s = true := fun w h => hts w (lw_all_tbl h)
  obtain ⟨w1, w2, w3, w4⟩ := nW6
  obtain ⟨t0, ht0, hT⟩ := va_Tof (args := args) (s := s) (tm := .static "java/util/ArrayList" "DEFAULTCAPACITY_EMPTY_ELEMENTDATA" "[Ljava/lang/Object;") (ty := .object "java/lang/Object") (N := 0) (f := fun _ => .null) (A := A) (by decide) (hn _ w1) (va_eqt (hn _ w2)) (fun j hj => absurd hj (Nat.not_lt_zero j)) hA
  obtain ⟨mi, hmi⟩ := va_Mi.of (hn _ w3)
  obtain ⟨K, W, hS, hK⟩ := law_str hn hA
  have hst : ∀ q : Int × String × String × String, ∃ z : Int × Nat, q ∈ xStat → (z.1 = 0 ∨ z.1 = q.1 - 3) ∧ va_Z q.2.1 q.2.2.1 q.2.2.2 (if z.1 = 0 then .null else .ref z.2) A s s.heap ∧ xLay q.2.1 q.2.2.1 q.2.2.2 A s s.heap := by
    intro q
    by_cases hq : q ∈ xStat
    · have hl : Cond.laysStatic q.2.1 q.2.2.1 q.2.2.2 ∈ lw_tbl := (List.forall_mem_cons.mpr ⟨q700, List.forall_mem_cons.mpr ⟨q624, List.forall_mem_cons.mpr ⟨q626, fun _ h => nomatch h⟩⟩⟩ : ∀ q ∈ xStat, Cond.laysStatic q.2.1 q.2.2.1 q.2.2.2 ∈ lw_tbl) q hq
      have hi : Cond.initialized q.2.1 ∈ lw_all := (List.forall_mem_cons.mpr ⟨q138, List.forall_mem_cons.mpr ⟨q140, List.forall_mem_cons.mpr ⟨q140, fun _ h => nomatch h⟩⟩⟩ : ∀ q ∈ xStat, Cond.initialized q.2.1 ∈ lw_all) q hq
      obtain ⟨z1, z2⟩ := vx_Zqof (hts _ hl) (hta _ hi) (hn _ (nW7 q hq)) hA
      rcases z1 with z1 | ⟨t, z1⟩
      · exact ⟨(0, 0), fun _ => ⟨Or.inl rfl, by rw [if_pos rfl]; exact z1, z2⟩⟩
      · have hne : q.1 - 3 ≠ 0 := by have := (by decide : ∀ q ∈ xStat, q.1 < 0) q hq; omega
        exact ⟨(q.1 - 3, t), fun _ => ⟨Or.inr rfl, by rw [if_neg hne]; exact z1, z2⟩⟩
    · exact ⟨(0, 0), fun h => absurd h hq⟩
  obtain ⟨g, hg⟩ := Classical.axiomOfChoice hst
  let row : Int → Int × String × String × String := fun a => if a = -3 then (-3, "jdk/internal/util/Preconditions", "SIOOBE_FORMATTER", "Ljava/util/function/BiFunction;") else if a = -4 then (-4, "java/lang/Throwable", "UNASSIGNED_STACK", "[Ljava/lang/StackTraceElement;") else (-5, "java/lang/Throwable", "SUPPRESSED_SENTINEL", "Ljava/util/List;")
  have hrow : ∀ q ∈ xStat, row q.1 = q := List.forall_mem_cons.mpr ⟨rfl, List.forall_mem_cons.mpr ⟨rfl, List.forall_mem_cons.mpr ⟨rfl, fun _ h => nomatch h⟩⟩⟩
  have hin : ∀ a : Int, row a ∈ xStat := fun a => by
    show (if a = -3 then _ else if a = -4 then _ else _) ∈ xStat
    split
    · decide
    · split
      · decide
      · decide
  let bb : Int → Bool := fun a => decide ((g (row a)).1 ≠ 0)
  let tt : Int → Nat := fun a => (g (row a)).2
  have hv : ∀ q ∈ xStat, xv (law_h0 (bb (-3)) (bb (-4)) (bb (-5))) q.1 0 = (g q).1 := by
    have one : ∀ q ∈ xStat, (if bb q.1 then q.1 - 3 else 0) = (g q).1 := fun q hq => by
      have h1 := (hg q hq).1
      have h2 : bb q.1 = decide ((g q).1 ≠ 0) := by show decide ((g (row q.1)).1 ≠ 0) = _; rw [hrow q hq]
      rw [h2]
      by_cases h0 : (g q).1 = 0
      · rw [h0]; rfl
      · rw [decide_eq_true h0, if_pos rfl]; omega
    have k1 := one (-3, "jdk/internal/util/Preconditions", "SIOOBE_FORMATTER", "Ljava/util/function/BiFunction;") (by decide)
    have k2 := one (-4, "java/lang/Throwable", "UNASSIGNED_STACK", "[Ljava/lang/StackTraceElement;") (by decide)
    have k3 := one (-5, "java/lang/Throwable", "SUPPRESSED_SENTINEL", "Ljava/util/List;") (by decide)
    exact List.forall_mem_cons.mpr ⟨k1, List.forall_mem_cons.mpr ⟨k2, List.forall_mem_cons.mpr ⟨k3, fun _ h => nomatch h⟩⟩⟩
  have hSK : ∀ i : Nat, i < 26 → sK (law_ad t0 mi K W tt) i = K i := fun i hi => by
    unfold sK law_ad
    rw [if_neg (by omega), if_neg (by omega), if_neg (by omega), if_pos (by omega)]
    congr 1; omega
  have hSV : ∀ i : Nat, i < 26 → sV (law_ad t0 mi K W tt) i = W i := fun i hi => by
    unfold sV law_ad
    rw [if_neg (by omega), if_neg (by omega), if_neg (by omega), if_neg (by omega)]
    congr 1; omega
  refine ⟨law_ad t0 mi K W tt, bb (-3), bb (-4), bb (-5), ?_, ?_, ?_, ?_, ?_, ?_, ?_⟩
  · exact va_Zref (hts _ q197) (hta _ q128) ht0 hA
  · exact hT
  · exact hmi
  · exact va_Zof (hts _ q684) (hta _ q143) (va_eqi (hn _ w4)) hA
  · intro q hq
    obtain ⟨g1, g2, g3⟩ := hg q hq
    have hr : -5 ≤ q.1 ∧ q.1 ≤ -3 := (by decide : ∀ q ∈ xStat, -5 ≤ q.1 ∧ q.1 ≤ -3) q hq
    rw [hv q hq]
    refine ⟨by omega, ?_, g3⟩
    have e2 : rv (law_ad t0 mi K W tt) (g q).1 = (if (g q).1 = 0 then .null else .ref (g q).2) := by
      unfold rv
      by_cases h0 : (g q).1 = 0
      · rw [if_pos h0, if_pos h0]
      · rw [if_neg h0, if_neg h0]
        have h1 : (g q).1 = q.1 - 3 := by omega
        rw [h1]
        unfold law_ad
        rw [if_neg (by omega), if_neg (by omega), if_pos (by omega), show q.1 - 3 + 3 = q.1 by omega]
        show Value.ref (g (row q.1)).2 = _
        rw [hrow q hq]
    rw [e2]; exact g2
  · refine ⟨fun i hi => ?_, fun i j hi hj e => hS.2 i j hi hj (by rw [← hSK i hi, ← hSK j hj]; exact e)⟩
    rw [hSK i hi, hSV i hi]; exact hS.1 i hi
  · intro q hq
    obtain ⟨i, hi, hqi⟩ : ∃ i : Nat, i < 26 ∧ xStrs[i]? = some q := by
      obtain ⟨i, hi⟩ := List.mem_iff_getElem?.mp hq
      exact ⟨i, (List.getElem?_eq_some_iff.mp hi).1, hi⟩
    have e1 : q.2.2 = -(10 + (i : Int)) ∧ sC i = .string "ExamSlips$Reader" q.1 := by
      have h26 : ∀ i : Nat, i < 26 → ∀ q ∈ xStrs[i]?, q.2.2 = -(10 + (i : Int)) ∧ sC i = .string "ExamSlips$Reader" q.1 := by decide +kernel
      exact h26 i hi q hqi
    have e2 := hK i hi
    rw [e1.2] at e2
    have e3 : law_ad t0 mi K W tt q.2.2 = K i := by rw [e1.1]; exact hSK i hi
    rw [e3]
    exact vk_R.of (hts _ (law_sr q hq)) e2
