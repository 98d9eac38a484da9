/-! plain law: lesson, the call -/
set_option maxRecDepth 100000
set_option maxHeartbeats 400000
/-- an object made: what a list gets -/
theorem mk_add {g : Int → Int} {h hA : XH} {t l m a : Int} {cA sA k : Nat} (L : LR g t h l m) (hm : m ≤ 150) (fA : Fr (fun _ _ => False) cA sA h hA) (ha : OB hA a k) (hk : k < 27) (hcast : Cond.castable (xCls k) "java/lang/Object" ∈ lw_tbl) (hel : ∀ j, 0 ≤ j → j < m → isObj h (nth h l j)) : ∃ h1, F_J2_add l a hA = some (1, h1) ∧ Added hA h1 l m a ∧ Fr (AW h l m) (cA + 1) (sA + 300) h h1 ∧ (xv h1 l 1 = xv h l 1 ∨ (xn h : Int) < xv h1 l 1) ∧ (∀ j, 0 ≤ j → j < m → nth h1 l j = nth h l j) := by
  have LA := L.keep fA (fun _ _ _ q => q)
  have nA : ∀ j, 1 ≤ m → nth hA l j = nth h l j := fun j hm => LA.2 hm j
  have v1 : xv hA l 1 = xv h l 1 := fA.v L.1.2.1 (fun q => q)
  obtain ⟨h1, e, A⟩ := F_add_eq LA.1 hm (isObj.of ha hk hcast) (fun j j0 j1 => by
    rw [nA j (by omega)]
    have := hel j j0 j1
    exact this.ob fA.n (fA.k this.2.1))
  have A0 := A
  obtain ⟨f, a2, a3, a4, a5, a6, a7, a8⟩ := A
  refine ⟨h1, e, A0, (fA.up (fun _ _ _ q => q.elim) (Nat.le_refl _) (Nat.le_refl _)).tr f (fun b j hb q => ?_), ?_, fun j j0 j1 => (a7 j j0 j1).trans (nA j (by omega))⟩
  · unfold AW at *
    rw [v1] at q; exact q
  · rcases a6 with a6 | a6
    · exact Or.inl (a6.trans v1)
    · refine Or.inr ?_
      rw [a6]; unfold hnx; have := fA.n; omega
theorem xCls_19 : Cond.castable (xCls 19) "java/lang/Object" ∈ lw_tbl := q2395
theorem op_lesson : OP_lesson Rel := by
  intro n h V hn _ _ ⟨g, P, R⟩ x hx q hq
  have H := R.sh
  have E := R.er
  have K := R.ki
  have hK := K.1.1
  have hd := K.1.2.1
  have hn1 := H.1
  by_cases c0 : 0 ≤ x ∧ x ≤ 19
  · by_cases c : 0 ≤ q ∧ q < V 3 390
    · by_cases c2 : V 3 391 = 120
      · refine R.opNo hn (v := -5) (by decide) (by decide) ?_ ?_
        · unfold F_X0_lesson
          rw [F_in_t c0.1 c0.2, mb_some, if_neg (by decide), obk H.x1, F_qof_t H E hK c.1 c.2, mb_some, if_neg (qn_ne E c.1 c.2), obk H.x1, obk E.o, obk E.ld.1, F_size_eq E.ld, mb_some, if_pos c2, obk H.x1, mb_id]
        · unfold M_lesson
          rw [M_lies_t c0.1 c0.2, mb_some, if_neg (by decide), M_isQuestion_t hK.1 hK.2 c.1 c.2, mb_some, if_neg (by decide), nm_eq, if_pos c2, mb_id]
      · have L := E.ld
        have fA : Fr (fun _ _ => False) 1 2 h (hset (hset (hnew h 19 2) (hnx h) 0 x) (hnx h) 1 q) := ((Fr.new (W := fun _ _ => False) (k := 19) (n := 2)).setN (a := hnx h) (j := 0) (x := x) (by unfold hnx; omega)).setN (by unfold hnx; omega)
        have oA : OB (hset (hset (hnew h 19 2) (hnx h) 0 x) (hnx h) 1 q) (hnx h) 19 := OB.nx h 19 2
        obtain ⟨h1, eadd, A, f, hg9, hold⟩ := mk_add L (by omega) fA oA (by decide) xCls_19 (fun j j0 j1 => isObj.of (E.d j j0 j1).1 (by decide) xCls_19)
        obtain ⟨fa, a2, a3, a4, a5, -, -, a8⟩ := A
        have F : FAR g h (AW h (xv h (xv h 1 0) 2) (V 3 391)) 1003 := fun b j b1 b2 r => by
          rcases r with r | ⟨r, -, -⟩
          · rw [r]; exact Or.inl L.2.1
          · rcases L.2.2.2.2 with ⟨w, -⟩ | ⟨-, w, -⟩
            · omega
            · rw [r]; exact Or.inr w
        have ow : OWN g h (AW h (xv h (xv h 1 0) 2) (V 3 391)) := fun b j b1 b2 r => by
          have h9 := F b j b1 b2 r
          refine ⟨by omega, by omega, ?_⟩
          rcases r with r | ⟨r, -, -⟩
          · rw [r]; exact Or.inr (Or.inr (Or.inl L.1.2.2))
          · rcases L.2.2.2.2 with ⟨w, -⟩ | ⟨w, -⟩
            · omega
            · rw [r]; exact Or.inr (Or.inr (Or.inr (Or.inr w.2.2)))
        have hgx : ∀ b : Int, b ≤ (xn h : Int) → gx g (xv h1 (xv h (xv h 1 0) 2) 1) 1009 b = g b := fun b hb => by
          unfold gx
          by_cases e : b = xv h1 (xv h (xv h 1 0) 2) 1
          · rw [if_pos e]
            rcases hg9 with w | w
            · rcases L.2.2.2.2 with ⟨w2, -⟩ | ⟨-, w2, -⟩
              · have := a4.1; omega
              · rw [e, w, w2]; rfl
            · omega
          · rw [if_neg e]
        have M : MID (gx g (xv h1 (xv h (xv h 1 0) 2) 1) 1009) h V h1 := R.mid f ow hgx (fun b hb => by
          unfold gx
          rw [if_neg (by have := a4.2.1; omega)]
          exact R.gw.2.2 b (by have := f.n; omega)) (fun b hb1 hb2 hb3 => by
          unfold gx
          rw [if_neg (fun e => by rw [e, a4.2.2] at hb3; cases hb3)]
          exact R.gw.2.2 b hb1)
        have o9 : OB h1 (hnx h) 19 := fa.ob oA
        have nW : ∀ j, ¬ AW (hset (hset (hnew h 19 2) (hnx h) 0 x) (hnx h) 1 q) (xv h (xv h 1 0) 2) (V 3 391) (hnx h) j := fun j r => by
          have v1 : xv (hset (hset (hnew h 19 2) (hnx h) 0 x) (hnx h) 1 q) (xv h (xv h 1 0) 2) 1 = xv h (xv h (xv h 1 0) 2) 1 := fA.v L.1.2.1 (fun w => w)
          rcases r with r | ⟨r, -, -⟩
          · have := L.1.2.1; unfold hnx at r; omega
          · rw [v1] at r
            rcases L.2.2.2.2 with ⟨w, -⟩ | ⟨w, -⟩
            · unfold hnx at r; omega
            · have := w.2.1; unfold hnx at r; omega
        have w0 : xv h1 (hnx h) 0 = x := (fa.v oA.2.1 (nW 0)).trans ((hset_vj (by decide)).trans hset_vv)
        have w1 : xv h1 (hnx h) 1 = q := (fa.v oA.2.1 (nW 1)).trans hset_vv
        have E1 := E.addD (day := x) (q := q) K (by omega) f F (ow.tf f) hgx a2 a3 a4 (if_pos rfl) a5 hold a8 o9 w0 w1
        have K1 := K.addD (by omega) c0.1 c0.2 c.1 c.2
        have e3 : vup (vup (vup V 3 (107 + 2 * V 3 391) x) 3 (107 + 2 * V 3 391 + 1) q) 3 391 (V 3 391 + 1) 3 = upL (V 3) (V 3 391) x q := by rw [vup3, vup3, vup3]; rfl
        have un : ∀ j, j ≠ 391 → ¬ (107 ≤ j ∧ j < 347) → upL (V 3) (V 3 391) x q j = V 3 j := fun j h1 h2 => upL_n h1 (by omega) (by omega)
        have P1 : PR (upL (V 3) (V 3 391) x q) P := R.pr.congr (un _ (by decide) (by decide)) (fun t a b => un _ (by omega) (by omega)) (fun j a => un _ (by omega) (by omega))
        have C : KC (V 3) (upL (V 3) (V 3 391) x q) := KC.of K (fun j a b => un _ (by omega) (by omega)) (un _ (by decide) (by decide))
        have cu : curP (upL (V 3) (V 3 391) x q) P = curP (V 3) P := by unfold curP; rw [un 394 (by decide) (by decide)]
        have H1 := M.1
        have ee : ∀ j, xv h1 1 j = xv h 1 j := M.2.2.2.1
        have fs : xv h 1 9 = 0 ∨ FS h1 (xv h 1 9) (upL (V 3) (V 3 391) x q) (curP (upL (V 3) (V 3 391) x q) P) := by
          rw [cu]
          rcases R.ca.2.2.2.2 with w | w
          · exact Or.inl w
          · refine Or.inr ((w.gen H hK.1 f (fun b j b1 b2 r => ?_) (fun hq1 k => ?_)).kc C)
            · have h9 := ow b j b1 b2 r
              refine ⟨fun e => ?_, by omega, by omega, by omega⟩
              rw [e, R.gw.1.2.2.2.2.2.1] at h9; omega
            · have s1 := E.lq.far f F (by decide)
              have e0 : xv h1 (xv h 1 0) 0 = xv h (xv h 1 0) 0 := f.v E.o.2.1 fun r => by have := F _ 0 E.o.1 E.o.2.1 r; rw [E.2.1] at this; omega
              rw [ee, e0]
              exact s1.2.2 hq1 k
        have hfin := R.finTell hn M (V1 := vup (vup (vup V 3 (107 + 2 * V 3 391) x) 3 (107 + 2 * V 3 391 + 1) q) 3 391 (V 3 391 + 1)) (by rw [e3]; exact E1) (by rw [e3]; exact K1) (by rw [e3]; exact P1) (MF.ed (MF.ed (MF.ed MF.rf (by decide)) (by decide)) (by decide)) (by rw [e3]; exact fs) (by have := f.1.2.1; omega) (by have := f.1.2.2; omega)
        refine hfin.op hn (r := V 3 391 + 1) ?_ ?_
        · have ed : xv h1 (xv h 1 0) 2 = xv h (xv h 1 0) 2 := f.v E.o.2.1 fun r => by have := F _ 2 E.o.1 E.o.2.1 r; rw [E.2.1] at this; omega
          have e1 := F_size_eq E1.ld
          have ei : F_X21_init (hnx h) x q (hnew h 19 2) = some (0, hset (hset (hnew h 19 2) (hnx h) 0 x) (hnx h) 1 q) := by
            unfold F_X21_init
            rw [pz_ok (by unfold hnx; omega), obk (OB.nx h 19 2), nm_eq, obk (h := hset (hnew h 19 2) (hnx h) 0 x) (OB.nx h 19 2), nm_eq]
          unfold F_X0_lesson
          rw [F_in_t c0.1 c0.2, mb_some, if_neg (by decide), obk H.x1, F_qof_t H E hK c.1 c.2, mb_some, if_neg (qn_ne E c.1 c.2), obk H.x1, obk E.o, obk E.ld.1, F_size_eq E.ld, mb_some, if_neg c2, obk H.x1, obk E.o, nw_eq, pz_ok (by unfold hnx; omega), ei, mb_some, obk (fA.ob L.1), eadd, mb_some, obk H1.x1, ee, obk (f.ob E.o), ed, obk a3]
          rw [ed] at e1
          rw [e1, mb_some, obk H1.x1, show upL (V 3) (V 3 391) x q 391 = V 3 391 + 1 from up_at, F_tell_p H1 (by omega), mb_some]
        · unfold M_lesson
          rw [M_lies_t c0.1 c0.2, mb_some, if_neg (by decide), M_isQuestion_t hK.1 hK.2 c.1 c.2, mb_some, if_neg (by decide), nm_eq, if_neg c2, w32_id (x := 2 * V 3 391) (by omega) (by omega), w32_id (x := 107 + 2 * V 3 391) (by omega) (by omega), ck_ok (by omega) (by omega), nm_eq, w32_id (x := 107 + 2 * V 3 391 + 1) (by omega) (by omega), ck_ok (by omega) (by omega), nm_eq, vup_off (by omega), vup_off (by omega), w32_id (x := V 3 391 + 1) (by omega) (by omega), nm_eq, M_good_eq, mb_some]
    · refine R.opNo hn (v := -2) (by decide) (by decide) ?_ ?_
      · unfold F_X0_lesson
        rw [F_in_t c0.1 c0.2, mb_some, if_neg (by decide), obk H.x1, F_qof_f H E hK (by omega), mb_some, if_pos rfl, obk H.x1, mb_id]
      · unfold M_lesson
        rw [M_lies_t c0.1 c0.2, mb_some, if_neg (by decide), M_isQuestion_f hK.1 hK.2 (by omega), mb_some, if_pos rfl, mb_id]
  · refine R.opNo hn (v := -1) (by decide) (by decide) ?_ ?_
    · unfold F_X0_lesson
      rw [F_in_f (by omega), mb_some, if_pos rfl, obk H.x1, mb_id]
    · unfold M_lesson
      rw [M_lies_f (by omega), mb_some, if_pos rfl, mb_id]
