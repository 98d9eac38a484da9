/-! the system's layer: new int[n][k], and reading a row of it -/
set_option maxRecDepth 100000
set_option maxHeartbeats 2000000
/-- new int[n][k]: the outer array has the next name, its rows the names behind it -/
def hmul (h : XH) (n k : Nat) : XH :=
  ((fun b => if b = (xn h : Int) + 1 then 111 else if (xn h : Int) + 1 < b ∧ b ≤ (xn h : Int) + 1 + n then 100 else xk h b),
   (fun b => if b = (xn h : Int) + 1 then n else if (xn h : Int) + 1 < b ∧ b ≤ (xn h : Int) + 1 + n then k else xl h b),
   (fun b i => if b = (xn h : Int) + 1 then (if 0 ≤ i ∧ i < (n : Int) then (xn h : Int) + 2 + i else 0) else if (xn h : Int) + 1 < b ∧ b ≤ (xn h : Int) + 1 + n then 0 else xv h b i),
   xn h + 1 + n, xc h + (1 + n), xs h + (n + n * k))
def mu {β : Type} (h : XH) (n k : Int) (f : Int → XH → Option β) : Option β := if (0 ≤ n ∧ n ≤ 1000) ∧ 0 ≤ k ∧ k ≤ 1000 then f (hnx h) (hmul h n.toNat k.toNat) else none
theorem mu_some {β : Type} {h : XH} {n k : Int} {f : Int → XH → Option β} {b : β} (q : mu h n k f = some b) : ((0 ≤ n ∧ n ≤ 1000) ∧ 0 ≤ k ∧ k ≤ 1000) ∧ f (hnx h) (hmul h n.toNat k.toNat) = some b := by
  unfold mu at q; split at q
  · rename_i e; exact ⟨e, q⟩
  · cases q
def adm (ad : Int → Nat) (h : XH) (q : Nat) : Int → Nat := fun b => if b ≤ (xn h : Int) then ad b else q + (b - (xn h : Int) - 1).toNat
theorem xW_inv {cT : Nat → ClassId} {ad : Int → Nat} {h : XH} {i : Nat} {q : Nat × va_E} (e : (xW cT ad h)[i]? = some q) : i < xn h ∧ q = xcell cT ad h ((i : Int) + 1) := by
  unfold xW at e
  rw [List.getElem?_map] at e
  by_cases hi : i < xn h
  · rw [List.getElem?_range hi] at e
    exact ⟨hi, (Option.some.inj e).symm⟩
  · rw [List.getElem?_eq_none (by rw [List.length_range]; omega)] at e
    cases e
theorem okH.mul {h : XH} (hk : okH h) {n k : Nat} (hn : n < 2147483648) (hk2 : k < 2147483648) : okH (hmul h n k) := by
  intro b b1 b2
  have b2 : b ≤ ((xn h + 1 + n : Nat) : Int) := b2
  by_cases e1 : b = (xn h : Int) + 1
  · have ek : xk (hmul h n k) b = 111 := if_pos e1
    have el : xl (hmul h n k) b = n := if_pos e1
    refine ⟨by rw [ek]; omega, by rw [el]; exact hn, fun j => ?_⟩
    have ev : xv (hmul h n k) b j = if 0 ≤ j ∧ j < (n : Int) then (xn h : Int) + 2 + j else 0 := if_pos e1
    have et : xty (hmul h n k) b j = 8 := by unfold xty; rw [ek]; rfl
    have en : ((xn (hmul h n k) : Nat) : Int) = (xn h : Int) + 1 + n := by show ((xn h + 1 + n : Nat) : Int) = _; omega
    rw [et, ev]
    show _ ≤ ((xn (hmul h n k) : Nat) : Int)
    rw [en]
    split <;> omega
  · by_cases e2 : (xn h : Int) + 1 < b ∧ b ≤ (xn h : Int) + 1 + n
    · have ek : xk (hmul h n k) b = 100 := (if_neg e1).trans (if_pos e2)
      have el : xl (hmul h n k) b = k := (if_neg e1).trans (if_pos e2)
      have ev : ∀ j, xv (hmul h n k) b j = 0 := fun j => (if_neg e1).trans (if_pos e2)
      exact ⟨by rw [ek]; omega, by rw [el]; exact hk2, fun j => by rw [ev]; exact okt0 _ _⟩
    · have ek : xk (hmul h n k) b = xk h b := (if_neg e1).trans (if_neg e2)
      have el : xl (hmul h n k) b = xl h b := (if_neg e1).trans (if_neg e2)
      have ev : ∀ j, xv (hmul h n k) b j = xv h b j := fun j => (if_neg e1).trans (if_neg e2)
      obtain ⟨g1, g2, g3⟩ := hk b b1 (by omega)
      refine ⟨by rw [ek]; exact g1, by rw [el]; exact g2, fun j => ?_⟩
      have et : xty (hmul h n k) b j = xty h b j := by unfold xty; rw [ek]
      rw [ev, et]
      exact (g3 j).up (by show xn h ≤ xn h + 1 + n; omega)
theorem xcell_mul {cT : Nat → ClassId} {ad : Int → Nat} {h : XH} {q n k : Nat} (hk : okH h) {b : Int} (b1 : 1 ≤ b) (b2 : b ≤ (xn h : Int)) : xcell cT (adm ad h q) (hmul h n k) b = xcell cT ad h b := by
  have e1 : ¬ b = (xn h : Int) + 1 := by omega
  have e2 : ¬ ((xn h : Int) + 1 < b ∧ b ≤ (xn h : Int) + 1 + n) := by omega
  have ek : xk (hmul h n k) b = xk h b := (if_neg e1).trans (if_neg e2)
  have el : xl (hmul h n k) b = xl h b := (if_neg e1).trans (if_neg e2)
  have ev : ∀ j, xv (hmul h n k) b j = xv h b j := fun j => (if_neg e1).trans (if_neg e2)
  have hag : ∀ a : Int, a ≤ (xn h : Int) → adm ad h q a = ad a := fun a e => if_pos e
  obtain ⟨g1, g2, g3⟩ := hk b b1 b2
  unfold xcell
  rw [ek, hag _ b2]
  by_cases hc : xk h b < 100
  · rw [if_pos hc, if_pos hc]
    congr 3
    unfold xfs
    refine List.map_congr_left fun j _ => ?_
    rw [ev]
    have := g3 (j : Int)
    unfold xty at this
    rw [if_pos hc] at this
    exact xval_cong hag this
  · rw [if_neg hc, if_neg hc]
    congr 3
    unfold xarr
    rw [el]
    simp only [ev]
    split
    · rfl
    · split
      · rename_i e1 e2
        congr 5
        funext j
        have := g3 (j : Int)
        unfold xty at this
        rw [if_neg hc] at this
        have e8 : xaty (xk h b - 100) = 8 := by
          match hq : xk h b - 100 with
          | 0 => omega
          | 1 => omega
          | 2 => omega
          | 3 => omega
          | m + 4 => rfl
        rw [e8] at this
        exact ro_cong hag this
      · rfl
theorem arrV_cong {c : ClassId} {N : Nat} {f g : Nat → Value} (h : ∀ j, j < N → f j = g j) : arrV c N f = arrV c N g := by
  have e : (fun j : Fin N => f j.val) = fun j => g j.val := funext fun j => h j.val j.isLt
  unfold arrV
  rw [e]
theorem outer_arr (c : ClassId) (N h0 : Nat) : ∀ i, Jvm.Free.Multi.outerC c N h0 i = arrV c N (fun j => if j < i then .ref (h0 + 1 + j) else .null)
  | 0 => (arrV_new c N .null).trans (arrV_cong fun j _ => (if_neg (Nat.not_lt_zero j)).symm)
  | i + 1 => by
    show (Jvm.Free.Multi.outerC c N h0 i).setSlot i (.ref (h0 + 1 + i)) = _
    rw [outer_arr c N h0 i, arrV_store]
    refine arrV_cong fun j _ => ?_
    unfold updV
    by_cases e : j = i
    · subst e; rw [if_pos rfl, if_pos (by omega)]
    · rw [if_neg e]
      dsimp only
      by_cases e2 : j < i
      · rw [if_pos e2, if_pos (by omega)]
      · rw [if_neg e2, if_neg (by omega)]
section MUL
variable {ρ : Type} {fh : ρ → XH} {QQ : XZ ρ → State → Prop} {own mn : String} {cc : ByteArray} {nL : Nat} {ret : Option FieldType} {d : Nat} {Z : XZ ρ} {pc : Nat} {lv : List (Nat × AV)} {st : List AV} {h : XH}
theorem x_aaldA {a j : Int} {res : Option ρ} (hd : decode cc pc = .ok (.aaload, 1)) (kk : XG fh QQ own mn cc nL ret d Z (pc + 1) lv ((2, xv h a j) :: st) h res) : XG fh QQ own mn cc nL ret d Z pc lv ((0, j) :: (2, a) :: st) h (ai h a 11 j res) := ⟨kk.1.ai, fun X ad H locs ls cells slots hS hl hlv hst hf0 => by
  obtain ⟨h1, h2, h3, h4, h5, hf⟩ := ai_some hf0
  have hq := xW_at (cT := yCT Z) (ad := ad) h1 h2
  rw [xcell_a h3] at hq
  have hx := hS.okh.arr h1 h2 h3 j
  have hk2 := kk.2 X ad H locs ls cells slots hS hl hlv (hst.t.t.c (okt_X (t := 8) hx)) hf
  have e := I32_clamp hst.i h4
  have er : xarr ad h a 11 = (xl h a, .inr (.inr (.inr (.inr fun i : Nat => ro ad (xv h a (i : Int)))))) := by unfold xarr; rw [if_neg (by omega), if_pos (by omega)]
  rw [er] at hq
  show W _ _ _ _ _ _ _ _ _ _ _ _ _ _ _ (F0 _ _ _ (_ :: rv ad a :: _))
  have hra : rv ad a = .ref (ad a) := by unfold rv; rw [if_neg (by omega)]
  rw [hra]
  have hin := I32_vp hst.i h4 h5
  have hlt : (I32 j).toNatClampNeg < xl h a := Nat.not_le.mp fun q => hin (Or.inr q)
  refine W.aald (v := va_rf (ro ad (xv h a j))) (ty := .array .int) X.hx X.hb (hS.hP (a.toNat - 1) _ hq) ((X.hK.2 11 _ (xTys_at _ (by decide))).1 (xl h a) (fun i : Nat => va_rf (ro ad (xv h a (i : Int))))) rfl (fun q => by cases q) (by show ¬ (I32 j < 0 ∨ (arrV _ _ _).slots.size ≤ _); rw [arrV_size]; exact hin) (by show (arrV _ _ _).slots[_]? = _; rw [arrV_read _ _ hlt, e]; show some (va_rf (ro ad (xv h a ((j.toNat : Nat) : Int)))) = _; rw [Int.toNat_of_nonneg h4]) rfl rfl hd ?_
  rw [rv_ro]
  exact hk2⟩
theorem x_multi {ix : Nat} {n k : Int} {f : Int → XH → Option ρ} (hcl : Cond.classLink own ix "[[I" ∈ lw_all) (hd : decode cc pc = .ok (.multianewarray ix 2, 4)) (kk : ∀ r h1, XG fh QQ own mn cc nL ret d Z (pc + 4) lv ((2, r) :: st) h1 (f r h1)) : XG fh QQ own mn cc nL ret d Z pc lv ((0, k) :: (0, n) :: st) h (mu h n k f) := ⟨fun fin hf0 => by
  obtain ⟨_, hf⟩ := mu_some hf0
  obtain ⟨a1, a2, a3⟩ := (kk (hnx h) (hmul h n.toNat k.toNat)).1 fin hf
  have e1 : xc (hmul h n.toNat k.toNat) = xc h + (1 + n.toNat) := rfl
  have e2 : xs (hmul h n.toNat k.toNat) = xs h + (n.toNat + n.toNat * k.toNat) := rfl
  have e3 : xn (hmul h n.toNat k.toNat) = xn h + 1 + n.toNat := rfl
  exact ⟨by omega, by omega, by omega⟩, fun X ad H locs ls cells slots hS hl hlv hst hf0 => by
  obtain ⟨⟨⟨n0, n1⟩, k0, k1⟩, hf⟩ := mu_some hf0
  obtain ⟨a1, a2, a3⟩ := (kk (hnx h) (hmul h n.toNat k.toNat)).1 (yF Z) hf
  have e1 : xc (hmul h n.toNat k.toNat) = xc h + (1 + n.toNat) := rfl
  have e2 : xs (hmul h n.toNat k.toNat) = xs h + (n.toNat + n.toNat * k.toNat) := rfl
  have e3 : xn (hmul h n.toNat k.toNat) = xn h + 1 + n.toNat := rfl
  obtain ⟨p1, p2, p3, p4, p5, p6, p7, p8⟩ := hS
  have hkI : in32 k := hst.hd
  have hnI : in32 n := hst.t.hd
  have en := I32_clamp hnI n0
  have ek := I32_clamp hkI k0
  intro T hT X1
  obtain ⟨vm₁, cA, comp, hW1, hfA, hfC, -, -, X2, step⟩ := X1.multianewarray2F X.hx (own := own) (index := ix) (ty := .int) X.hown (X.hts _ hcl) (show (Cond.arrayOver (.array .int)).before (yA Z) (yS Z) = true from X.hN.use q1364 rfl) (X.hts _ q252) (g := F0 (yM Z) pc ls (((0, k) :: (0, n) :: st).map (cX ad))) rfl (by rw [X.hb]; exact hd) (n := I32 n) (k := I32 k) (rest := st.map (cX ad)) rfl (fun q => absurd ((I32_lt hnI in32_0).mp q) (by omega)) (fun q => absurd ((I32_lt hkI in32_0).mp q) (by omega)) (by rw [en]; omega) (by rw [ek]; show k.toNat * 4 ≤ _; omega) (by rw [ek]; omega) rfl rfl (by rw [en, X.hR]; show cells + (1 + n.toNat) ≤ xc (fh (yF Z)) - xc (yH Z); omega) (by rw [en, ek, X.hR]; show slots + (n.toNat + n.toNat * k.toNat) ≤ xs (fh (yF Z)) - xs (yH Z); omega)
  rw [en, ek] at X2 step
  obtain ⟨f1, f2, f3, f4⟩ := Jvm.Free.Multi.fill_facts (T.setVm vm₁) cA comp n.toNat k.toNat (defaultValue .int) n.toNat
  have g2 := Jvm.Free.Multi.fill_inner (T.setVm vm₁) cA comp n.toNat k.toNat (defaultValue .int) n.toNat
  have g3 := fun (x : Nat) hx => Jvm.Free.Multi.fill_old (T.setVm vm₁) cA comp n.toNat k.toNat (defaultValue .int) (a := x) hx n.toNat
  have hh : (T.setVm vm₁).heap = H := hT
  rw [hh] at f1 f2 g2 g3
  have hcA : cA = yCT Z 11 := va_RA_uniq (ty := .array .int) hfA (X.hK.2 11 _ (xTys_at (yCT Z) (by decide))).2
  have hcI : comp = yCT Z 0 := va_RA_uniq (ty := .int) hfC (X.hK.2 0 _ (xTys_at (yCT Z) (by decide))).2
  subst hcA
  subst hcI
  generalize hF : Jvm.Free.Multi.fill (T.setVm vm₁) (yCT Z 11) (yCT Z 0) n.toNat k.toNat (defaultValue .int) n.toNat = F at *
  have hlo : ∀ b : Int, b ≤ (xn h : Int) → adm ad h H.size b = ad b := fun b e => if_pos e
  have hhi : ∀ b : Int, (xn h : Int) < b → adm ad h H.size b = H.size + (b - (xn h : Int) - 1).toNat := fun b e => if_neg (by omega)
  have hP : va_P (yD Z) gcl (xW (yCT Z) (adm ad h H.size) (hmul h n.toNat k.toNat)) F.heap := by
    intro i q hq
    obtain ⟨i1, rfl⟩ := xW_inv hq
    rw [e3] at i1
    by_cases c1 : i < xn h
    · rw [xcell_mul p4 (by omega) (by omega)]
      exact (p1.kept (fun k x hx => g3 x.1 ((p1 k x hx).lt))) i _ (by
        have := xW_at (cT := yCT Z) (ad := ad) (h := h) (a := (i : Int) + 1) (by omega) (by omega)
        rw [show ((i : Int) + 1).toNat - 1 = i by omega] at this
        exact this)
    · by_cases c2 : i = xn h
      · subst c2
        have kk1 : xk (hmul h n.toNat k.toNat) ((xn h : Int) + 1) = 100 + 11 := if_pos rfl
        rw [xcell_a kk1]
        show F.heap[adm ad h H.size ((xn h : Int) + 1)]? = some (vp_cell (yCT Z 11) (xarr (adm ad h H.size) (hmul h n.toNat k.toNat) ((xn h : Int) + 1) 11))
        rw [hhi _ (by omega), show H.size + ((xn h : Int) + 1 - (xn h : Int) - 1).toNat = H.size by omega, f2]
        have er : xarr (adm ad h H.size) (hmul h n.toNat k.toNat) ((xn h : Int) + 1) 11 = (n.toNat, .inr (.inr (.inr (.inr fun i : Nat => ro (adm ad h H.size) (xv (hmul h n.toNat k.toNat) ((xn h : Int) + 1) (i : Int)))))) := by
          unfold xarr
          rw [if_neg (by omega), if_pos (by omega), show xl (hmul h n.toNat k.toNat) ((xn h : Int) + 1) = n.toNat from if_pos rfl]
        rw [er, vp_cell_q]
        rw [outer_arr]
        refine congrArg some (arrV_cong fun j hj => ?_)
        have ev : xv (hmul h n.toNat k.toNat) ((xn h : Int) + 1) (j : Int) = (xn h : Int) + 2 + j := (if_pos rfl).trans (if_pos ⟨by omega, by omega⟩)
        rw [if_pos hj, ev, rv_ro]
        unfold rv
        rw [if_neg (by omega), hhi _ (by omega), show H.size + ((xn h : Int) + 2 + (j : Int) - (xn h : Int) - 1).toNat = H.size + 1 + j by omega]
      · have c3 : (xn h : Int) + 1 < (i : Int) + 1 ∧ (i : Int) + 1 ≤ (xn h : Int) + 1 + n.toNat := ⟨by omega, by omega⟩
        have c4 : ¬ ((i : Int) + 1 = (xn h : Int) + 1) := by omega
        have kk1 : xk (hmul h n.toNat k.toNat) ((i : Int) + 1) = 100 + 0 := (if_neg c4).trans (if_pos c3)
        rw [xcell_a kk1]
        show F.heap[adm ad h H.size ((i : Int) + 1)]? = some (vp_cell (yCT Z 0) (xarr (adm ad h H.size) (hmul h n.toNat k.toNat) ((i : Int) + 1) 0))
        rw [hhi _ (by omega), show H.size + ((i : Int) + 1 - (xn h : Int) - 1).toNat = H.size + 1 + (i - xn h - 1) by omega, g2 _ (by omega)]
        have er : xarr (adm ad h H.size) (hmul h n.toNat k.toNat) ((i : Int) + 1) 0 = (k.toNat, .inl fun _ : Nat => I32 0) := by
          unfold xarr
          rw [if_neg (by omega), if_neg (by omega), show xl (hmul h n.toNat k.toNat) ((i : Int) + 1) = k.toNat from (if_neg c4).trans (if_pos c3)]
          congr 2
          funext j
          rw [show xv (hmul h n.toNat k.toNat) ((i : Int) + 1) (j : Int) = 0 from (if_neg c4).trans (if_pos c3)]
        rw [er, vp_cell_i]
        unfold Jvm.Free.Multi.innerC
        rw [arrV_new]
        rfl
  have hD : va_D (yAA Z) (xW (yCT Z) (adm ad h H.size) (hmul h n.toNat k.toNat)) := by
    have key : ∀ (i : Nat) (q : Nat × va_E), (xW (yCT Z) (adm ad h H.size) (hmul h n.toNat k.toNat))[i]? = some q → ((xW (yCT Z) ad h)[i]? = some q ∧ i < xn h ∧ q.1 < H.size) ∨ (¬ i < xn h ∧ q.1 = H.size + (i - xn h)) := by
      intro i q hq
      obtain ⟨i1, rfl⟩ := xW_inv hq
      by_cases c1 : i < xn h
      · have := xW_at (cT := yCT Z) (ad := ad) (h := h) (a := (i : Int) + 1) (by omega) (by omega)
        rw [show ((i : Int) + 1).toNat - 1 = i by omega] at this
        rw [xcell_mul p4 (by omega) (by omega)]
        exact Or.inl ⟨this, c1, (p1 i _ this).lt⟩
      · refine Or.inr ⟨c1, ?_⟩
        show adm ad h H.size ((i : Int) + 1) = _
        rw [hhi _ (by omega)]
        omega
    refine ⟨fun i j p q hp hq epq => ?_, fun i q hq => ?_⟩
    · rcases key i p hp with ⟨a1, a2, a3⟩ | ⟨a1, a2⟩ <;> rcases key j q hq with ⟨b1, b2, b3⟩ | ⟨b1, b2⟩
      · exact p2.1 i j p q a1 b1 epq
      · omega
      · omega
      · omega
    · rcases key i q hq with ⟨a1, a2, a3⟩ | ⟨a1, a2⟩
      · exact p2.2 i q a1
      · rw [a2]; exact X.hA _ (Nat.le_trans p3.1 (by omega))
  have hS1 : va_S (yAA Z) (yS Z).heap F.heap locs := ⟨Nat.le_trans p3.1 (by omega), fun x x1 x2 => (g3 x (Nat.lt_of_lt_of_le x1 p3.1)).trans (p3.2.1 x x1 x2), p3.2.2⟩
  have hlm : lv.map (cX1 (adm ad h H.size)) = lv.map (cX1 ad) := List.map_congr_left fun q0 hq0 => by unfold cX1; rw [cX_cong hlo (hlv q0 hq0)]
  have hsm : st.map (cX (adm ad h H.size)) = st.map (cX ad) := List.map_congr_left fun q0 hq0 => cX_cong hlo (hst.t.t q0 hq0)
  have h9 := (kk (hnx h) (hmul h n.toNat k.toNat)).2 X (adm ad h H.size) F.heap locs ls (cells + (1 + n.toNat)) (slots + (n.toNat + n.toNat * k.toNat)) ⟨hP, hD, hS1, p4.mul (by omega) (by omega), ⟨fun a e => by rw [hlo a (by omega)]; exact p5.1 a e, fun a j ha => (show xv (hmul h n.toNat k.toNat) a j = xv h a j from (if_neg (by omega)).trans (if_neg (by omega))).trans (p5.2 a j ha)⟩, by omega, by omega, by omega⟩ (by rw [hlm]; exact hl) (hlv.up (by omega)) ((hst.t.t.up (by omega)).c (okX.r (by rw [e3]; unfold hnx; omega))) hf
  rw [List.map_cons, hsm] at h9
  have hrb : cX (adm ad h H.size) (2, hnx h) = .ref T.heap.size := by
    show rv (adm ad h H.size) (hnx h) = _
    unfold rv
    have e0 : (hnx h - (xn h : Int) - 1).toNat = 0 := by unfold hnx; omega
    rw [if_neg (by unfold hnx; omega), hhi _ (by unfold hnx; omega), hT, e0]
    rfl
  rw [hrb] at h9
  rw [show cells + 1 + n.toNat = cells + (1 + n.toNat) by omega, show slots + n.toNat + n.toNat * k.toNat = slots + (n.toNat + n.toNat * k.toNat) by omega] at X2
  obtain ⟨t, b1, b2⟩ := h9 F rfl X2
  exact ⟨t, step t b1, b2⟩⟩
end MUL
