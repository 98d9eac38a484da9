/-! plain law: tools for the pure functions -/
set_option maxRecDepth 100000
theorem nm_eq {α β : Type} (e : α) (f : α → β) : nm e f = f e := rfl
theorem vupN {V : VV} {k k' : Nat} {j x : Int} (h : k' ≠ k) : vup V k j x k' = V k' := by
  funext i; exact if_neg fun q => h q.1
theorem vup_at {V : VV} {k : Nat} {j x : Int} : vup V k j x k j = x := if_pos ⟨rfl, rfl⟩
theorem vup_off {V : VV} {k : Nat} {j i x : Int} (h : i ≠ j) : vup V k j x k i = V k i := if_neg fun q => h q.2
theorem vup_get {V : VV} {k : Nat} {j i x : Int} : vup V k j x k i = if i = j then x else V k i := by
  unfold vup
  by_cases h : i = j
  · rw [if_pos ⟨rfl, h⟩, if_pos h]
  · rw [if_neg fun q => h q.2, if_neg h]
/-- an object of a class, an array -/
def OB (h : XH) (a : Int) (c : Nat) : Prop := 1 ≤ a ∧ a ≤ (xn h : Int) ∧ xk h a = c
theorem obk {β : Type} {h : XH} {a : Int} {c : Nat} {r : Option β} (H : OB h a c) : ob h a c r = r := if_pos H
theorem aik {β : Type} {h : XH} {a : Int} {t : Nat} {j : Int} {r : Option β} (H : OB h a (100 + t)) (h0 : 0 ≤ j) (h1 : j < (xl h a : Int)) : ai h a t j r = r := if_pos ⟨H.1, H.2.1, H.2.2, h0, h1⟩
theorem alk {β : Type} {h : XH} {a : Int} {t : Nat} {r : Option β} (H : OB h a (100 + t)) : al h a t r = r := if_pos H
theorem nak {β : Type} {h : XH} {t : Nat} {n : Int} {f : Int → XH → Option β} (h0 : 0 ≤ n) (h1 : n ≤ 1000000) : na h t n f = f (hnx h) (hnew h (100 + t) n.toNat) := if_pos ⟨h0, h1⟩
theorem nw_eq {β : Type} {h : XH} {k n : Nat} {f : Int → XH → Option β} : nw h k n f = f (hnx h) (hnew h k n) := rfl
theorem OB_hset {h : XH} {a j x b : Int} {c : Nat} : OB (hset h a j x) b c = OB h b c := rfl
theorem OB.new {h : XH} {k n : Nat} {b : Int} {c : Nat} (H : OB h b c) : OB (hnew h k n) b c := ⟨H.1, by show b ≤ ((xn h + 1 : Nat) : Int); have := H.2.1; omega, (if_neg (by have := H.2.1; omega)).trans H.2.2⟩
theorem OB.nx (h : XH) (k n : Nat) : OB (hnew h k n) (hnx h) k := ⟨by unfold hnx; omega, by show hnx h ≤ ((xn h + 1 : Nat) : Int); unfold hnx; omega, if_pos rfl⟩
theorem hnew_v {h : XH} {k n : Nat} {b i : Int} (e : b ≤ (xn h : Int)) : xv (hnew h k n) b i = xv h b i := if_neg (by omega)
theorem hnew_v0 {h : XH} {k n : Nat} {i : Int} : xv (hnew h k n) (hnx h) i = 0 := if_pos rfl
theorem hnew_l {h : XH} {k n : Nat} {b : Int} (e : b ≤ (xn h : Int)) : xl (hnew h k n) b = xl h b := if_neg (by omega)
theorem hnew_l0 {h : XH} {k n : Nat} : xl (hnew h k n) (hnx h) = n := if_pos rfl
theorem hnew_k {h : XH} {k n : Nat} {b : Int} (e : b ≤ (xn h : Int)) : xk (hnew h k n) b = xk h b := if_neg (by omega)
theorem hnew_n {h : XH} {k n : Nat} : xn (hnew h k n) = xn h + 1 := rfl
theorem hnew_c {h : XH} {k n : Nat} : xc (hnew h k n) = xc h + 1 := rfl
theorem hnew_s {h : XH} {k n : Nat} : xs (hnew h k n) = xs h + n := rfl
theorem OB.ne {h : XH} {a b : Int} {c d : Nat} (ha : OB h a c) (hb : OB h b d) (e : c ≠ d) : a ≠ b := fun q => e (by rw [← ha.2.2, ← hb.2.2, q])
/-- sums over a stretch -/
def Sg (f : Int → Int) : Nat → Int → Int
  | 0, _ => 0
  | n + 1, a => f a + Sg f n (a + 1)
theorem Sg_last (f : Int → Int) : ∀ (n : Nat) (a : Int), Sg f (n + 1) a = Sg f n a + f (a + n)
  | 0, a => by show f a + 0 = 0 + f (a + 0); simp
  | n + 1, a => by
    show f a + Sg f (n + 1) (a + 1) = f a + Sg f n (a + 1) + f (a + ((n + 1 : Nat) : Int))
    rw [Sg_last f n (a + 1), show a + 1 + (n : Int) = a + ((n + 1 : Nat) : Int) by omega]; omega
theorem Sg_congr {f g : Int → Int} : ∀ {n : Nat} {a : Int}, (∀ i : Int, a ≤ i → i < a + n → f i = g i) → Sg f n a = Sg g n a
  | 0, _, _ => rfl
  | n + 1, a, h => by
    show f a + Sg f n (a + 1) = g a + Sg g n (a + 1)
    rw [h a (Int.le_refl a) (by omega), Sg_congr (n := n) (a := a + 1) (fun i h1 h2 => h i (by omega) (by omega))]
theorem Sg_le {f : Int → Int} {B : Int} : ∀ {n : Nat} {a : Int}, (∀ i : Int, a ≤ i → i < a + n → 0 ≤ f i ∧ f i ≤ B) → 0 ≤ Sg f n a ∧ Sg f n a ≤ n * B
  | 0, _, _ => by constructor <;> simp [Sg]
  | n + 1, a, h => by
    have h1 := h a (Int.le_refl a) (by omega)
    have h2 := Sg_le (f := f) (B := B) (n := n) (a := a + 1) (fun i q1 q2 => h i (by omega) (by omega))
    have e : ((n + 1 : Nat) : Int) * B = n * B + B := by rw [Int.natCast_add, Int.add_mul]; simp
    show 0 ≤ f a + Sg f n (a + 1) ∧ f a + Sg f n (a + 1) ≤ ((n + 1 : Nat) : Int) * B
    rw [e]
    generalize (n : Int) * B = z at *
    omega
/-- frames of the model's fields -/
def MF (S : List Nat) (V V' : VV) : Prop := ∀ k, k ∉ S → V' k = V k
theorem MF.rf {S : List Nat} {V : VV} : MF S V V := fun _ _ => rfl
theorem MF.tr {S T : List Nat} {V V1 V2 : VV} (h1 : MF S V V1) (h2 : MF T V1 V2) (hS : ∀ k ∈ S, k ∈ T) : MF T V V2 := fun k hk => (h2 k hk).trans (h1 k fun q => hk (hS k q))
theorem MF.up {S T : List Nat} {V V1 : VV} (h1 : MF S V V1) (hS : ∀ k ∈ S, k ∈ T) : MF T V V1 := fun k hk => h1 k fun q => hk (hS k q)
theorem MF.st {S : List Nat} {V V1 : VV} {k : Nat} {j x : Int} (h1 : MF S (vup V k j x) V1) (hk : k ∈ S) : MF S V V1 := fun i hi => (h1 i hi).trans (vupN fun e => hi (e ▸ hk))
theorem MF.ed {S : List Nat} {V V1 : VV} {k : Nat} {j x : Int} (h1 : MF S V V1) (hk : k ∈ S) : MF S V (vup V1 k j x) := fun i hi => (vupN fun e => hi (by rw [e]; exact hk)).trans (h1 i hi)
/-- the model's plain getters -/
theorem M_lies_t {a b c : Int} {V : VV} (h1 : b ≤ a) (h2 : a ≤ c) : M_lies a b c V = some (1, V) := by
  unfold M_lies nm; rw [if_neg (by omega), if_neg (by omega)]; rfl
theorem M_lies_f {a b c : Int} {V : VV} (h : a < b ∨ c < a) : M_lies a b c V = some (0, V) := by
  unfold M_lies nm
  by_cases h1 : a < b
  · rw [if_pos h1]; rfl
  · rw [if_neg h1, if_pos (by omega)]; rfl
theorem M_questions_eq {V : VV} : M_questions V = some (V 3 390, V) := rfl
theorem M_refuses_eq {k : Int} {V : VV} (h1 : -7 < k) (h2 : k ≤ 0) : M_refuses k V = some (k, vup (vup V 0 0 k) 2 (-k) (w32 (V 2 (-k) + 1))) := by
  unfold M_refuses
  have e : w32 (-k) = -k := w32_id (by omega) (by omega)
  rw [nm_eq, e, ck_ok (by omega) (by omega), ck_ok (by omega) (by omega), nm_eq, vupN (by decide)]
theorem M_good_eq {x : Int} {V : VV} : M_good x V = some (x, vup (vup V 0 0 0) 1 0 (w32 (V 1 0 + 1))) := by
  unfold M_good; rw [nm_eq, nm_eq, vupN (by decide)]
theorem M_isQuestion_t {q : Int} {V : VV} (h0 : 0 ≤ V 3 390) (hn : V 3 390 ≤ 20) (h1 : 0 ≤ q) (h2 : q < V 3 390) : M_isQuestion q V = some (1, V) := by
  unfold M_isQuestion
  rw [M_questions_eq, mb_some, w32_id (by omega) (by omega), M_lies_t h1 (by omega), mb_some]; rfl
theorem M_isQuestion_f {q : Int} {V : VV} (h0 : 0 ≤ V 3 390) (hn : V 3 390 ≤ 20) (h : q < 0 ∨ V 3 390 ≤ q) : M_isQuestion q V = some (0, V) := by
  unfold M_isQuestion
  rw [M_questions_eq, mb_some, w32_id (by omega) (by omega), M_lies_f (by omega), mb_some]; rfl
theorem M_factOf_eq {q f : Int} {V : VV} (h0 : 0 ≤ q) (h1 : q ≤ 20) (h2 : 0 ≤ f) (h3 : f < 5) : M_factOf q f V = some (V 3 (5 * q + f), V) := by
  unfold M_factOf
  have e : w32 (w32 (0 + w32 (5 * q)) + f) = 5 * q + f := by
    rw [w32_id (x := 5 * q) (by omega) (by omega), w32_id (x := 0 + 5 * q) (by omega) (by omega), w32_id (by omega) (by omega)]; omega
  rw [e, ck_ok (by omega) (by omega)]
theorem M_term_eq {w : Int} {V : VV} (h0 : 0 ≤ w) (h1 : w < 7) : M_term w V = some (V 3 (100 + w), V) := by
  unfold M_term
  rw [w32_id (by omega) (by omega), ck_ok (by omega) (by omega)]
theorem M_isBowl_eq {q : Int} {V : VV} (h0 : 0 ≤ q) (h1 : q ≤ 20) : M_isBowl q V = some (if V 3 (5 * q + 4) = 0 then 1 else 0, V) := by
  unfold M_isBowl
  rw [M_factOf_eq h0 h1 (by decide) (by decide), mb_some, nm_eq, cb_ok (by split <;> simp)]
theorem M_lesser_eq {a b : Int} {V : VV} : M_lesser a b V = some (if b ≤ a then b else a, V) := rfl
theorem M_sign_eq {c : Int} {V : VV} (h0 : 0 ≤ c) (h1 : c ≤ 1000) : M_sign c V = some (100 + c, V) := by
  unfold M_sign; rw [w32_id (by omega) (by omega)]
theorem M_replaces_eq {at_ x : Int} {V : VV} (h0 : 0 ≤ at_) (h1 : at_ < 5201) : M_replaces at_ x V = some (V 3 at_, vup (vup (vup V 3 at_ x) 0 0 0) 1 0 (w32 (V 1 0 + 1))) := by
  unfold M_replaces
  rw [ck_ok h0 h1, nm_eq, ck_ok h0 h1, nm_eq, M_good_eq, mb_some, vupN (by decide)]
/-- how many are in the bowl, of the first n from q on -/
def bw (K : Int → Int) (q : Int) : Int := if K (5 * q + 4) = 0 then 1 else 0
theorem M_bowl_4_eq {V : VV} (hn : V 3 390 ≤ 20) : ∀ (n : Nat) (k : Nat) (acc q : Int), k < n → 0 ≤ q → q + k = V 3 390 → 0 ≤ acc → acc ≤ 20 → acc + k ≤ 20 → M_bowl_4 n acc q V = some (acc + Sg (bw (V 3)) k q, V) := by
  intro n
  induction n with
  | zero => intro k acc q h; omega
  | succ n ih =>
    intro k acc q hk h0 h1 h2 h3 h4
    rw [M_bowl_4, M_questions_eq, mb_some]
    cases k with
    | zero => rw [if_pos (by omega)]; show _ = some (acc + 0, V); rw [Int.add_zero]
    | succ k =>
      have hb : bw (V 3) q = 0 ∨ bw (V 3) q = 1 := by unfold bw; split <;> simp
      have e : (if (if V 3 (5 * q + 4) = 0 then (1 : Int) else 0) = 0 then (0 : Int) else 1) = bw (V 3) q := by unfold bw; split <;> rfl
      rw [if_neg (by omega), M_isBowl_eq h0 (by omega), mb_some, nm_eq, e, nm_eq, nm_eq, w32_id (by omega) (by omega), w32_id (by omega) (by omega), ih k _ _ (by omega) (by omega) (by omega) (by omega) (by omega) (by omega)]
      show _ = some (acc + (bw (V 3) q + Sg (bw (V 3)) k (q + 1)), V)
      rw [Int.add_assoc]
def bowlN (K : Int → Int) : Int := Sg (bw K) (K 390).toNat 0
theorem M_bowl_eq {V : VV} (h0 : 0 ≤ V 3 390) (hn : V 3 390 ≤ 20) : M_bowl V = some (bowlN (V 3), V) := by
  unfold M_bowl
  rw [M_bowl_4_eq hn FU (V 3 390).toNat 0 0 (by rw [FU_eq]; omega) (by decide) (by omega) (by decide) (by decide) (by omega)]
  unfold bowlN; rw [Int.zero_add]
theorem bowlN_le {K : Int → Int} (h0 : 0 ≤ K 390) : 0 ≤ bowlN K ∧ bowlN K ≤ K 390 := by
  have := Sg_le (f := bw K) (B := 1) (n := (K 390).toNat) (a := 0) (fun i _ _ => by unfold bw; split <;> simp)
  unfold bowlN; omega
