/-! the system's layer: an index out of bounds, thrown by the machine -/
set_option maxRecDepth 100000
set_option maxHeartbeats 2000000
abbrev AIO : String := "java/lang/ArrayIndexOutOfBoundsException"
abbrev aioN : List String := ["java/lang/IndexOutOfBoundsException", "java/lang/RuntimeException", "java/lang/Exception"]
theorem aio_at {A : Array Value} {s : State} (hts : ∀ w ∈ lw_all, w.before A s = true) (hN : xFN s) : ∀ w ∈ vx_atM AIO aioN, w.before A s = true := by
  have H : ∀ w ∈ Bundle.messageArmAtoms AIO aioN, vx_no w = true → w.before A s = true := by
    refine List.forall_mem_cons.mpr ⟨fun _ => hts _ q140, ?_⟩
    refine List.forall_mem_cons.mpr ⟨fun _ => hts _ q619, ?_⟩
    refine List.forall_mem_cons.mpr ⟨fun _ => hts _ q628, ?_⟩
    refine List.forall_mem_cons.mpr ⟨fun _ => hts _ q631, ?_⟩
    refine List.forall_mem_cons.mpr ⟨fun _ => hts _ q634, ?_⟩
    refine List.forall_mem_cons.mpr ⟨fun _ => hts _ q636, ?_⟩
    refine List.forall_mem_cons.mpr ⟨fun _ => hts _ q620, ?_⟩
    refine List.forall_mem_cons.mpr ⟨fun _ => hts _ q621, ?_⟩
    refine List.forall_mem_cons.mpr ⟨fun _ => hts _ q176, ?_⟩
    refine List.forall_mem_cons.mpr ⟨fun _ => hts _ q177, ?_⟩
    refine List.forall_mem_cons.mpr ⟨fun _ => hts _ q622, ?_⟩
    refine List.forall_mem_cons.mpr ⟨fun _ => hts _ q627, ?_⟩
    refine List.forall_mem_cons.mpr ⟨fun _ => hts _ q632, ?_⟩
    refine List.forall_mem_cons.mpr ⟨fun _ => hts _ q650, ?_⟩
    refine List.forall_mem_cons.mpr ⟨fun _ => hts _ q609, ?_⟩
    refine List.forall_mem_cons.mpr ⟨fun _ => hts _ q651, ?_⟩
    refine List.forall_mem_cons.mpr ⟨fun _ => hts _ q611, ?_⟩
    refine List.forall_mem_cons.mpr ⟨fun _ => hts _ q652, ?_⟩
    refine List.forall_mem_cons.mpr ⟨fun _ => hts _ q613, ?_⟩
    refine List.forall_mem_cons.mpr ⟨fun _ => hts _ q623, ?_⟩
    refine List.forall_mem_cons.mpr ⟨fun h => absurd h (by decide), ?_⟩
    refine List.forall_mem_cons.mpr ⟨fun _ => hts _ q625, ?_⟩
    refine List.forall_mem_cons.mpr ⟨fun h => absurd h (by decide), ?_⟩
    refine List.forall_mem_cons.mpr ⟨fun _ => hts _ q615, ?_⟩
    refine List.forall_mem_cons.mpr ⟨fun _ => hts _ q1473, ?_⟩
    refine List.forall_mem_cons.mpr ⟨fun _ => hts _ q1474, ?_⟩
    refine List.forall_mem_cons.mpr ⟨fun _ => hts _ q649, ?_⟩
    refine List.forall_mem_cons.mpr ⟨fun _ => hts _ q615, ?_⟩
    refine List.forall_mem_cons.mpr ⟨fun _ => hts _ q1461, ?_⟩
    refine List.forall_mem_cons.mpr ⟨fun _ => hts _ q1462, ?_⟩
    refine List.forall_mem_cons.mpr ⟨fun _ => hts _ q1463, ?_⟩
    refine List.forall_mem_cons.mpr ⟨fun _ => hts _ q1464, ?_⟩
    refine List.forall_mem_cons.mpr ⟨fun _ => (hN.use q1484 rfl).use rfl, ?_⟩
    refine List.forall_mem_cons.mpr ⟨fun _ => hts _ q1464, ?_⟩
    refine List.forall_mem_cons.mpr ⟨fun _ => hts _ q1465, ?_⟩
    refine List.forall_mem_cons.mpr ⟨fun _ => hts _ q1466, ?_⟩
    refine List.forall_mem_cons.mpr ⟨fun _ => hts _ q1467, ?_⟩
    refine List.forall_mem_cons.mpr ⟨fun _ => (hN.use q1486 rfl).use rfl, ?_⟩
    refine List.forall_mem_cons.mpr ⟨fun _ => hts _ q1467, ?_⟩
    refine List.forall_mem_cons.mpr ⟨fun _ => hts _ q1468, ?_⟩
    refine List.forall_mem_cons.mpr ⟨fun _ => hts _ q1469, ?_⟩
    refine List.forall_mem_cons.mpr ⟨fun _ => hts _ q1470, ?_⟩
    refine List.forall_mem_cons.mpr ⟨fun _ => (hN.use q603 rfl).use rfl, ?_⟩
    refine List.forall_mem_cons.mpr ⟨fun _ => hts _ q1470, ?_⟩
    refine List.forall_mem_cons.mpr ⟨fun _ => hts _ q1471, ?_⟩
    refine List.forall_mem_cons.mpr ⟨fun _ => hts _ q1472, ?_⟩
    refine List.forall_mem_cons.mpr ⟨fun _ => hts _ q1473, ?_⟩
    refine List.forall_mem_cons.mpr ⟨fun _ => (hN.use q605 rfl).use rfl, ?_⟩
    refine List.forall_mem_cons.mpr ⟨fun _ => hts _ q143, ?_⟩
    refine List.forall_mem_cons.mpr ⟨fun _ => hts _ q1488, ?_⟩
    refine List.forall_mem_cons.mpr ⟨fun _ => hts _ q337, ?_⟩
    refine List.forall_mem_cons.mpr ⟨fun _ => hts _ q1489, ?_⟩
    refine List.forall_mem_cons.mpr ⟨fun _ => hts _ q1491, ?_⟩
    refine List.forall_mem_cons.mpr ⟨fun _ => hts _ q1490, ?_⟩
    refine List.forall_mem_cons.mpr ⟨fun _ => hts _ q1492, ?_⟩
    refine List.forall_mem_cons.mpr ⟨fun _ => hts _ q166, ?_⟩
    refine List.forall_mem_cons.mpr ⟨fun _ => hts _ q1460, ?_⟩
    refine List.forall_mem_cons.mpr ⟨fun _ => (hN.use q1482 rfl).use rfl, ?_⟩
    refine List.forall_mem_cons.mpr ⟨fun _ => hts _ q1487, ?_⟩
    refine List.forall_mem_cons.mpr ⟨fun _ => hts _ q630, ?_⟩
    refine List.forall_mem_cons.mpr ⟨fun _ => hts _ q1477, ?_⟩
    refine List.forall_mem_cons.mpr ⟨fun _ => hts _ q1478, ?_⟩
    refine List.forall_mem_cons.mpr ⟨fun _ => hts _ q1480, ?_⟩
    refine List.forall_mem_cons.mpr ⟨fun _ => hts _ q1476, ?_⟩
    refine List.forall_mem_cons.mpr ⟨fun h => absurd h (by decide), ?_⟩
    refine List.forall_mem_cons.mpr ⟨fun h => absurd h (by decide), ?_⟩
    refine List.forall_mem_cons.mpr ⟨fun _ => hts _ q648, ?_⟩
    refine List.forall_mem_cons.mpr ⟨fun _ => hts _ q617, ?_⟩
    refine List.forall_mem_cons.mpr ⟨fun _ => hts _ q1475, ?_⟩
    exact fun w h => nomatch h
  intro w hw
  obtain ⟨h1, h2⟩ := List.mem_filter.mp hw
  exact H w h1 h2
theorem aio_ot : ∀ w ∈ vx_atM AIO aioN, vx_ot w = true := List.all_eq_true.mp (by decide +kernel)
/-- as much made, no name given -/
def hbump (h : XH) : XH := (h.1, h.2.1, h.2.2.1, xn h, xc h + 3, xs h + 222)
def aiT {β : Type} (h : XH) (a j : Int) (r t : Option β) : Option β := if 0 ≤ j ∧ j < (xl h a : Int) then ai h a 2 j r else al h a 2 t
/-- with an index error of the machine thrown over the frame -/
def XTA {ρ : Type} (fh : ρ → XH) (QQ : XZ ρ → State → Prop) (own mn : String) (cc : ByteArray) (nL : Nat) (ret : Option FieldType) (d : Nat) (Z : XZ ρ) (pc : Nat) (lv : List (Nat × AV)) (h : XH) (res : Option ρ) : Prop :=
  XM fh h res ∧ (XX fh own mn cc nL ret d Z → ∀ (ad : Int → Nat) (H : Heap) (locs : List Loc) (ls : Array Slot) (cells slots : Nat), XS Z h ad H locs cells slots → lv_has ls (yC Z).maxLocals (lv.map (cX1 ad)) → okXl (xn h) lv → res = some (yF Z) → ∀ (q9 : Addr) (ce : Cell), H[q9]? = some ce → ce.vm = .none → (yS Z).vm.findClass AIO = some ce.cls → ∀ rest : List Value, vx_W (yP Z) (yL Z) (yE Z) (yR Z) (yS Z) (yM Z) (yA Z) (yB Z) (yT Z) (yC Z) H locs cells slots (QQ Z) (F0 (yM Z) pc ls rest) q9)
theorem xZq {adF : Int → Nat} {h : XH} {A : Nat → Prop} {U : State} {H : Heap} (z : xFZ adF h A U H) {k : Int} {C n ds : String} (hk : (k, C, n, ds) ∈ xStat) : vx_Zq C n ds A U H := by
  have z5 := z.2.2.2.2.1 _ hk
  obtain ⟨_, z6, z7⟩ := z5
  refine ⟨?_, z7⟩
  dsimp only at z6
  unfold rv at z6
  split at z6
  · exact Or.inl z6
  · exact Or.inr ⟨_, z6⟩
section AIOT
variable {ρ : Type} {fh : ρ → XH} {QQ : XZ ρ → State → Prop} {own mn : String} {cc : ByteArray} {nL : Nat} {ret : Option FieldType} {d : Nat} {Z : XZ ρ} {pc : Nat} {lv : List (Nat × AV)} {st : List AV} {h : XH}
theorem XM.bump {r : Option ρ} (k : XM fh (hbump h) r) : XM fh h r := fun fin hf => by
  obtain ⟨a1, a2, a3⟩ := k fin hf
  have e1 : xc (hbump h) = xc h + 3 := rfl
  have e2 : xs (hbump h) = xs h + 222 := rfl
  exact ⟨by omega, by omega, a3⟩
theorem x_baldT {a j : Int} {r t : Option ρ} (hQ : ∀ (Z : XZ ρ) (t : State), ¬ (yL Z).stackTraces = false → QQ Z t) (hdd : 170 ≤ d) (hcat : (st.map fun v => if v.1 = 1 then 2 else 1).sum ≤ 8) (hd : decode cc pc = .ok (.baload, 1)) (kk : XG fh QQ own mn cc nL ret d Z (pc + 1) lv ((0, xv h a j) :: st) h r) (kx : XTA fh QQ own mn cc nL ret d Z pc lv (hbump h) t) : XG fh QQ own mn cc nL ret d Z pc lv ((0, j) :: (2, a) :: st) h (aiT h a j r t) := by
  unfold aiT
  split
  · exact x_bald hd kk
  · rename_i hout
    refine ⟨kx.1.bump.al, fun X ad H locs ls cells slots hS hl hlv hst hf0 => ?_⟩
    obtain ⟨o1, o2, o3, hf⟩ := al_some hf0
    by_cases hT : (yL Z).stackTraces = false
    case neg => exact fun T hT0 X0 => ⟨_, Steps.refl _, hQ Z _ hT⟩
    have hq := xW_at (cT := yCT Z) (ad := ad) o1 o2
    rw [xcell_a o3] at hq
    have hmo := kx.1 (yF Z) hf
    have e1 : xc (hbump h) = xc h + 3 := rfl
    have e2 : xs (hbump h) = xs h + 222 := rfl
    have hi := hst.i
    have hln : xl h a < 2147483648 := (hS.okh a o1 o2).2.1
    have hcs := cat_sumX (ad := ad) hcat
    obtain ⟨p1, p2, p3, p4, p5, p6, p7, p8⟩ := hS
    show W _ _ _ _ _ _ _ _ _ _ _ _ _ _ _ (F0 _ _ _ (_ :: rv ad a :: _))
    unfold rv
    rw [if_neg (by omega)]
    refine vx_baldZ (i := I32 j) (f := fun i : Nat => I32 (xv h a (i : Int))) (n := xl h a) X.hx X.hb X.hK p1 (a.toNat - 1) 2 hq (xTys_at _ (by decide)) (fun q => hout ?_) hd (fun tx htx => ?_)
    · obtain ⟨q1, q2⟩ := vp_in_iff.mp q
      rw [toI32 hi] at q1 q2
      exact ⟨q1, by omega⟩
    · subst htx
      refine vx_vm X.hx hT (cls := AIO) (names := aioN) (nb := 212) (A := yAA Z) (by decide) (by decide) (by decide) (by decide) (aio_at X.hts X.hN) aio_ot (xZq X.hZ (k := -4) (by decide)) (xZq X.hZ (k := -5) (by decide)) p3 hl.1 (index_text_modelled _ _) (index_text_bytes _ hln) (by decide) (by rw [X.hR]; show 3 + 4 < d; omega) (by rw [X.hR]; show _ + 10240 ≤ 64 * d; omega) (by decide) (by rw [X.hR]; show cells + 3 ≤ xc (fh (yF Z)) - xc (yH Z); omega) (by rw [X.hR]; show slots + (212 + 10) ≤ xs (fh (yF Z)) - xs (yH Z); omega) X.hlk (fun H1 q9 ce hsz hkeep hS1 hce hcv hcl => ?_)
      exact kx.2 X ad H1 locs ls _ _ ⟨p1.kept (fun k x hx => hkeep x.1 ((p1 k x hx).lt)), p2, hS1, p4, p5, p6, by rw [e1]; omega, by rw [e2]; omega⟩ hl hlv hf q9 ce hce hcv hcl _
end AIOT
