/-! printed by tools/gen44.py: the law's loop and its walk, out of what each call does -/
set_option maxRecDepth 100000
set_option maxHeartbeats 1000000
def OP_question (Rel : Nat → XH → VV → Prop) : Prop := ∀ (n : Nat) (h : XH) (V : VV), n < 64 → okH h → okV V → Rel n h V → ∀ a0 : Int, in32 a0 → ∀ a1 : Int, in32 a1 → opOK (F_X0_question 1 a0 a1 h) (M_question a0 a1 V) (Rel (n + 1))
def OP_know (Rel : Nat → XH → VV → Prop) : Prop := ∀ (n : Nat) (h : XH) (V : VV), n < 64 → okH h → okV V → Rel n h V → ∀ a0 : Int, in32 a0 → ∀ a1 : Int, in32 a1 → ∀ a2 : Int, in32 a2 → opOK (F_X0_knowB 1 a0 a1 a2 h) (M_know a0 a1 a2 V) (Rel (n + 1))
def OP_of (Rel : Nat → XH → VV → Prop) : Prop := ∀ (n : Nat) (h : XH) (V : VV), n < 64 → okH h → okV V → Rel n h V → ∀ a0 : Int, in32 a0 → ∀ a1 : Int, in32 a1 → opOK (F_X0_of 1 a0 a1 h) (M_of a0 a1 V) (Rel (n + 1))
def OP_terms (Rel : Nat → XH → VV → Prop) : Prop := ∀ (n : Nat) (h : XH) (V : VV), n < 64 → okH h → okV V → Rel n h V → ∀ a0 : Int, in32 a0 → ∀ a1 : Int, in32 a1 → opOK (F_X0_terms 1 a0 a1 h) (M_terms a0 a1 V) (Rel (n + 1))
def OP_feed (Rel : Nat → XH → VV → Prop) : Prop := ∀ (n : Nat) (h : XH) (V : VV), n < 64 → okH h → okV V → Rel n h V → ∀ a0 : Int, in32 a0 → ∀ a1 : Int, in32 a1 → ∀ a2 : Int, in32 a2 → ∀ a3 : Int, in32 a3 → ∀ a4 : Int, in32 a4 → opOK (F_X0_feed 1 a0 a1 a2 a3 a4 h) (M_feed a0 a1 a2 a3 a4 V) (Rel (n + 1))
def OP_end (Rel : Nat → XH → VV → Prop) : Prop := ∀ (n : Nat) (h : XH) (V : VV), n < 64 → okH h → okV V → Rel n h V → ∀ a0 : Int, in32 a0 → opOK (F_X0_end 1 a0 h) (M_end a0 V) (Rel (n + 1))
def OP_paper (Rel : Nat → XH → VV → Prop) : Prop := ∀ (n : Nat) (h : XH) (V : VV), n < 64 → okH h → okV V → Rel n h V → opOK (F_X0_paper 1 h) (M_paper V) (Rel (n + 1))
def OP_fault (Rel : Nat → XH → VV → Prop) : Prop := ∀ (n : Nat) (h : XH) (V : VV), n < 64 → okH h → okV V → Rel n h V → opOK (F_X0_fault 1 h) (M_fault V) (Rel (n + 1))
def OP_use (Rel : Nat → XH → VV → Prop) : Prop := ∀ (n : Nat) (h : XH) (V : VV), n < 64 → okH h → okV V → Rel n h V → ∀ a0 : Int, in32 a0 → opOK (F_X0_use 1 a0 h) (M_use a0 V) (Rel (n + 1))
def OP_takes (Rel : Nat → XH → VV → Prop) : Prop := ∀ (n : Nat) (h : XH) (V : VV), n < 64 → okH h → okV V → Rel n h V → ∀ a0 : Int, in32 a0 → ∀ a1 : Int, in32 a1 → ∀ a2 : Int, in32 a2 → opOK (F_X0_takes 1 a0 a1 a2 h) (M_takes a0 a1 a2 V) (Rel (n + 1))
def OP_keeps (Rel : Nat → XH → VV → Prop) : Prop := ∀ (n : Nat) (h : XH) (V : VV), n < 64 → okH h → okV V → Rel n h V → ∀ a0 : Int, in32 a0 → ∀ a1 : Int, in32 a1 → opOK (F_X0_keeps 1 a0 a1 h) (M_keeps a0 a1 V) (Rel (n + 1))
def OP_chance (Rel : Nat → XH → VV → Prop) : Prop := ∀ (n : Nat) (h : XH) (V : VV), n < 64 → okH h → okV V → Rel n h V → ∀ a0 : Int, in32 a0 → opOK (F_X0_chance 1 a0 h) (M_chance a0 V) (Rel (n + 1))
def OP_pass (Rel : Nat → XH → VV → Prop) : Prop := ∀ (n : Nat) (h : XH) (V : VV), n < 64 → okH h → okV V → Rel n h V → ∀ a0 : Int, in32 a0 → opOK (F_X0_pass 1 a0 h) (M_pass a0 V) (Rel (n + 1))
def OP_right (Rel : Nat → XH → VV → Prop) : Prop := ∀ (n : Nat) (h : XH) (V : VV), n < 64 → okH h → okV V → Rel n h V → ∀ a0 : Int, in32 a0 → ∀ a1 : Int, in32 a1 → opOK (F_X0_right 1 a0 a1 h) (M_right a0 a1 V) (Rel (n + 1))
def OP_mean (Rel : Nat → XH → VV → Prop) : Prop := ∀ (n : Nat) (h : XH) (V : VV), n < 64 → okH h → okV V → Rel n h V → ∀ a0 : Int, in32 a0 → opOK (F_X0_mean 1 a0 h) (M_mean a0 V) (Rel (n + 1))
def OP_sure (Rel : Nat → XH → VV → Prop) : Prop := ∀ (n : Nat) (h : XH) (V : VV), n < 64 → okH h → okV V → Rel n h V → ∀ a0 : Int, in32 a0 → ∀ a1 : Int, in32 a1 → opOK (F_X0_sure 1 a0 a1 h) (M_sure a0 a1 V) (Rel (n + 1))
def OP_safe (Rel : Nat → XH → VV → Prop) : Prop := ∀ (n : Nat) (h : XH) (V : VV), n < 64 → okH h → okV V → Rel n h V → opOK (F_X0_safe 1 h) (M_safe V) (Rel (n + 1))
def OP_worth (Rel : Nat → XH → VV → Prop) : Prop := ∀ (n : Nat) (h : XH) (V : VV), n < 64 → okH h → okV V → Rel n h V → ∀ a0 : Int, in32 a0 → opOK (F_X0_worth 1 a0 h) (M_worth a0 V) (Rel (n + 1))
def OP_best (Rel : Nat → XH → VV → Prop) : Prop := ∀ (n : Nat) (h : XH) (V : VV), n < 64 → okH h → okV V → Rel n h V → ∀ a0 : Int, in32 a0 → ∀ a1 : Int, in32 a1 → opOK (F_X0_best 1 a0 a1 h) (M_best a0 a1 V) (Rel (n + 1))
def OP_level (Rel : Nat → XH → VV → Prop) : Prop := ∀ (n : Nat) (h : XH) (V : VV), n < 64 → okH h → okV V → Rel n h V → ∀ a0 : Int, in32 a0 → ∀ a1 : Int, in32 a1 → opOK (F_X0_level 1 a0 a1 h) (M_level a0 a1 V) (Rel (n + 1))
def OP_enough (Rel : Nat → XH → VV → Prop) : Prop := ∀ (n : Nat) (h : XH) (V : VV), n < 64 → okH h → okV V → Rel n h V → ∀ a0 : Int, in32 a0 → opOK (F_X0_enough 1 a0 h) (M_enough a0 V) (Rel (n + 1))
def OP_lesson (Rel : Nat → XH → VV → Prop) : Prop := ∀ (n : Nat) (h : XH) (V : VV), n < 64 → okH h → okV V → Rel n h V → ∀ a0 : Int, in32 a0 → ∀ a1 : Int, in32 a1 → opOK (F_X0_lesson 1 a0 a1 h) (M_lesson a0 a1 V) (Rel (n + 1))
def OP_clear (Rel : Nat → XH → VV → Prop) : Prop := ∀ (n : Nat) (h : XH) (V : VV), n < 64 → okH h → okV V → Rel n h V → opOK (F_X0_clear 1 h) (M_clear V) (Rel (n + 1))
def OP_behind (Rel : Nat → XH → VV → Prop) : Prop := ∀ (n : Nat) (h : XH) (V : VV), n < 64 → okH h → okV V → Rel n h V → ∀ a0 : Int, in32 a0 → ∀ a1 : Int, in32 a1 → opOK (F_X0_behind 1 a0 a1 h) (M_behind a0 a1 V) (Rel (n + 1))
def OP_judge (Rel : Nat → XH → VV → Prop) : Prop := ∀ (n : Nat) (h : XH) (V : VV), n < 64 → okH h → okV V → Rel n h V → ∀ a0 : Int, in32 a0 → opOK (F_X0_judge 1 a0 h) (M_judge a0 V) (Rel (n + 1))
def OP_learn (Rel : Nat → XH → VV → Prop) : Prop := ∀ (n : Nat) (h : XH) (V : VV), n < 64 → okH h → okV V → Rel n h V → opOK (F_X0_learn 1 h) (M_learn V) (Rel (n + 1))
def OP_backward (Rel : Nat → XH → VV → Prop) : Prop := ∀ (n : Nat) (h : XH) (V : VV), n < 64 → okH h → okV V → Rel n h V → ∀ a0 : Int, in32 a0 → ∀ a1 : Int, in32 a1 → opOK (F_X0_backward 1 a0 a1 h) (M_backward a0 a1 V) (Rel (n + 1))
def OP_friend (Rel : Nat → XH → VV → Prop) : Prop := ∀ (n : Nat) (h : XH) (V : VV), n < 64 → okH h → okV V → Rel n h V → ∀ a0 : Int, in32 a0 → ∀ a1 : Int, in32 a1 → opOK (F_X0_friend 1 a0 a1 h) (M_friend a0 a1 V) (Rel (n + 1))
def OP_share (Rel : Nat → XH → VV → Prop) : Prop := ∀ (n : Nat) (h : XH) (V : VV), n < 64 → okH h → okV V → Rel n h V → ∀ a0 : Int, in32 a0 → opOK (F_X0_share 1 a0 h) (M_share a0 V) (Rel (n + 1))
def OP_ill (Rel : Nat → XH → VV → Prop) : Prop := ∀ (n : Nat) (h : XH) (V : VV), n < 64 → okH h → okV V → Rel n h V → ∀ a0 : Int, in32 a0 → ∀ a1 : Int, in32 a1 → opOK (F_X0_ill 1 a0 a1 h) (M_ill a0 a1 V) (Rel (n + 1))
def OP_year (Rel : Nat → XH → VV → Prop) : Prop := ∀ (n : Nat) (h : XH) (V : VV), n < 64 → okH h → okV V → Rel n h V → ∀ a0 : Int, in32 a0 → opOK (F_X0_year 1 a0 h) (M_year a0 V) (Rel (n + 1))
def OP_row (Rel : Nat → XH → VV → Prop) : Prop := ∀ (n : Nat) (h : XH) (V : VV), n < 64 → okH h → okV V → Rel n h V → opOK (F_X0_row 1 h) (M_row V) (Rel (n + 1))
def OP_lost (Rel : Nat → XH → VV → Prop) : Prop := ∀ (n : Nat) (h : XH) (V : VV), n < 64 → okH h → okV V → Rel n h V → opOK (F_X0_lost 1 h) (M_lost V) (Rel (n + 1))
def OP_drawn (Rel : Nat → XH → VV → Prop) : Prop := ∀ (n : Nat) (h : XH) (V : VV), n < 64 → okH h → okV V → Rel n h V → ∀ a0 : Int, in32 a0 → ∀ a1 : Int, in32 a1 → opOK (F_X0_drawn 1 a0 a1 h) (M_drawn a0 a1 V) (Rel (n + 1))
def OP_seldom (Rel : Nat → XH → VV → Prop) : Prop := ∀ (n : Nat) (h : XH) (V : VV), n < 64 → okH h → okV V → Rel n h V → ∀ a0 : Int, in32 a0 → opOK (F_X0_seldom 1 a0 h) (M_seldom a0 V) (Rel (n + 1))
def OP_exam (Rel : Nat → XH → VV → Prop) : Prop := ∀ (n : Nat) (h : XH) (V : VV), n < 64 → okH h → okV V → Rel n h V → ∀ a0 : Int, in32 a0 → opOK (F_X0_exam 1 a0 h) (M_exam a0 V) (Rel (n + 1))
def OP_table (Rel : Nat → XH → VV → Prop) : Prop := ∀ (n : Nat) (h : XH) (V : VV), n < 64 → okH h → okV V → Rel n h V → ∀ a0 : Int, in32 a0 → opOK (F_X0_table 1 a0 h) (M_table a0 V) (Rel (n + 1))
def OP_exams (Rel : Nat → XH → VV → Prop) : Prop := ∀ (n : Nat) (h : XH) (V : VV), n < 64 → okH h → okV V → Rel n h V → ∀ a0 : Int, in32 a0 → ∀ a1 : Int, in32 a1 → opOK (F_X0_exams 1 a0 a1 h) (M_exams a0 a1 V) (Rel (n + 1))
def OP_image (Rel : Nat → XH → VV → Prop) : Prop := ∀ (n : Nat) (h : XH) (V : VV), n < 64 → okH h → okV V → Rel n h V → ∀ a0 : Int, in32 a0 → opOK (F_X0_image 1 a0 h) (M_image a0 V) (Rel (n + 1))
def OP_back (Rel : Nat → XH → VV → Prop) : Prop := ∀ (n : Nat) (h : XH) (V : VV), n < 64 → okH h → okV V → Rel n h V → ∀ a0 : Int, in32 a0 → opOK (F_X0_back 1 a0 h) (M_back a0 V) (Rel (n + 1))
def OP_count (Rel : Nat → XH → VV → Prop) : Prop := ∀ (n : Nat) (h : XH) (V : VV), n < 64 → okH h → okV V → Rel n h V → ∀ a0 : Int, in32 a0 → opOK (F_X0_count 1 a0 h) (M_count a0 V) (Rel (n + 1))
def OP_status (Rel : Nat → XH → VV → Prop) : Prop := ∀ (n : Nat) (h : XH) (V : VV), n < 64 → okH h → okV V → Rel n h V → opOK (F_X0_status 1 h) (M_status V) (Rel (n + 1))
def OPS (Rel : Nat → XH → VV → Prop) : Prop := OP_question Rel ∧ OP_know Rel ∧ OP_of Rel ∧ OP_terms Rel ∧ OP_feed Rel ∧ OP_end Rel ∧ OP_paper Rel ∧ OP_fault Rel ∧ OP_use Rel ∧ OP_takes Rel ∧ OP_keeps Rel ∧ OP_chance Rel ∧ OP_pass Rel ∧ OP_right Rel ∧ OP_mean Rel ∧ OP_sure Rel ∧ OP_safe Rel ∧ OP_worth Rel ∧ OP_best Rel ∧ OP_level Rel ∧ OP_enough Rel ∧ OP_lesson Rel ∧ OP_clear Rel ∧ OP_behind Rel ∧ OP_judge Rel ∧ OP_learn Rel ∧ OP_backward Rel ∧ OP_friend Rel ∧ OP_share Rel ∧ OP_ill Rel ∧ OP_year Rel ∧ OP_row Rel ∧ OP_lost Rel ∧ OP_drawn Rel ∧ OP_seldom Rel ∧ OP_exam Rel ∧ OP_table Rel ∧ OP_exams Rel ∧ OP_image Rel ∧ OP_back Rel ∧ OP_count Rel ∧ OP_status Rel
theorem law_vp {x : Int32} {n L : Nat} (hL : L ≤ 384) (hx : x.toInt = 6 * (n : Int)) (hn : 6 * n + 6 ≤ L) : ∀ j : Int32, 1 ≤ j → j ≤ 5 → vp_in (x + j) L := fun j h1 h2 => by
  have e1 : (1 : Int) ≤ j.toInt := by have := Int32.le_iff_toInt_le.mp h1; exact this
  have e2 : j.toInt ≤ 5 := by have := Int32.le_iff_toInt_le.mp h2; exact this
  have e3 : (x + j).toInt = x.toInt + j.toInt := by
    rw [Int32.toInt_add]
    have : (x.toInt + j.toInt).bmod 4294967296 = w32 (x.toInt + j.toInt) := w32_bm _
    rw [show (2 ^ 32 : Nat) = 4294967296 from rfl, this]
    exact w32_id (by omega) (by omega)
  exact vp_in_iff.mpr ⟨by rw [e3]; omega, by rw [e3]; omega⟩
theorem law_vp0 {x : Int32} {n L : Nat} (hL : L ≤ 384) (hx : x.toInt = 6 * (n : Int)) (hn : 6 * n + 6 ≤ L) : vp_in x L := vp_in_iff.mpr ⟨by rw [hx]; omega, by rw [hx]; omega⟩
theorem opOK_room {f : Option XR} {g : Option (Int × VV)} {R' : XH → VV → Prop} (h : opOK f g R') : opOK f g (fun h1 V1 => R' h1 V1 ∧ xc h1 + 35 ≤ 1200384 ∧ xs h1 + SLM ≤ 5488810) := by
  obtain ⟨r, h1, V1, e1, e2, q1, q2, q3⟩ := h
  exact ⟨r, h1, V1, e1, e2, ⟨q1, q2, q3⟩, q2, q3⟩
/-- one call: from the switch to the loop's end -/
theorem law_call {p : Program} {l : Launch} {e : Env} {s : State} {m : MethodId} {b : Nat} {below : List Frame} {meth : Method} {c : Code} {D : va_G} {cT : Nat → ClassId} {adF : Int → Nat} {h0 : XH} {a0 : Nat} {aM : Nat → Nat} {L : Nat} {sv : Nat → Int32} (Rel : Nat → XH → VV → Prop) (hops : OPS Rel) (hst : l.stackTraces = false) (X : LWX p s m b c D cT adF h0) (hxs : va_X b L sv s s.heap) (hbl : b < s.heap.size) (hbA : ¬ lA s b) {h : XH} {V : VV} {ad : Int → Nat} {H : Heap} {locs : List Loc} {ls : Array Slot} {cells slots : Nat} {Q : State → Prop} {x3 w : Int32} {n : Nat} (hn : n < 64) (hR : Rel n h V) (hob : 1 ≤ xn h ∧ xk h 1 = 1) (hS : LWS D cT adF (lA s) s.heap h0 h V ad aM a0 H locs) (hin : ∀ j : Int32, 1 ≤ j → j ≤ 5 → vp_in (x3 + j) L) (hcz : cells = xc h + 35 ∧ slots = xs h + SLM) (hcr : xc h + 35 ≤ 1200384 ∧ xs h + SLM ≤ 5488810) (hl : lv_has ls 4 [(0, .ref b), (1, .ref (ad 1)), (2, .ref a0), (3, .int x3)])
    (kk : ∀ n1 h1 V1 u H2 locs2 cells2 slots2, n1 ≤ n + 1 → Rel n1 h1 V1 → LWS D cT adF (lA s) s.heap h0 h1 V1 u aM a0 H2 locs2 → u 1 = ad 1 → lv_has ls 4 [(0, .ref b), (1, .ref (u 1)), (2, .ref a0), (3, .int x3)] → cells2 = xc h1 + 35 → slots2 = xs h1 + SLM → xc h1 + 35 ≤ 1200384 → xs h1 + SLM ≤ 5488810 → W p l e room_1 s m #[Value.ref b] below meth c H2 locs2 cells2 slots2 Q (F0 m 1337 ls [])) : W p l e room_1 s m #[Value.ref b] below meth c H locs cells slots Q (F0 m 33 ls [.int w]) := by
  by_cases hw : w.toInt < 0 ∨ 41 < w.toInt
  · refine lv_tableOut (tgt := 1337) X.1 X.2.1 dL_law_33 hw (by decide) ?_
    exact kk n h V ad H locs cells slots (by omega) hR hS rfl hl hcz.1 hcz.2 hcr.1 hcr.2
  · obtain ⟨k, hk, ek⟩ : ∃ k : Nat, k < 42 ∧ w.toInt = (k : Int) := ⟨w.toInt.toNat, by omega, by omega⟩
    obtain ⟨o0, o1, o2, o3, o4, o5, o6, o7, o8, o9, o10, o11, o12, o13, o14, o15, o16, o17, o18, o19, o20, o21, o22, o23, o24, o25, o26, o27, o28, o29, o30, o31, o32, o33, o34, o35, o36, o37, o38, o39, o40, o41⟩ := hops
    have kk9 := fun h1 V1 u H2 locs2 cells2 slots2 (q : Rel (n + 1) h1 V1 ∧ xc h1 + 35 ≤ 1200384 ∧ xs h1 + SLM ≤ 5488810) q1 q2 q3 q4 q5 => kk (n + 1) h1 V1 u H2 locs2 cells2 slots2 (Nat.le_refl _) q.1 q1 q2 q3 q4 q5 q.2.1 q.2.2
    have h8 := hS.2.2.2.2.2.2.2.1
    have h9 := hS.2.2.2.2.2.2.2.2.1
    match k, hk with
    | 0, _ => exact lv_tableIn (tgt := 216) X.1 X.2.1 dL_law_33 (by omega) (by omega) (by rw [ek]; rfl) (by decide) (lc_0 hst X hS hob hxs hbl hbA hin (opOK_room (o0 n h V hn h8 h9 hR _ (i32_in _) _ (i32_in _))) hcz hl kk9)
    | 1, _ => exact lv_tableIn (tgt := 249) X.1 X.2.1 dL_law_33 (by omega) (by omega) (by rw [ek]; rfl) (by decide) (lc_1 hst X hS hob hxs hbl hbA hin (opOK_room (o1 n h V hn h8 h9 hR _ (i32_in _) _ (i32_in _) _ (i32_in _))) hcz hl kk9)
    | 2, _ => exact lv_tableIn (tgt := 292) X.1 X.2.1 dL_law_33 (by omega) (by omega) (by rw [ek]; rfl) (by decide) (lc_2 hst X hS hob hxs hbl hbA hin (opOK_room (o2 n h V hn h8 h9 hR _ (i32_in _) _ (i32_in _))) hcz hl kk9)
    | 3, _ => exact lv_tableIn (tgt := 325) X.1 X.2.1 dL_law_33 (by omega) (by omega) (by rw [ek]; rfl) (by decide) (lc_3 hst X hS hob hxs hbl hbA hin (opOK_room (o3 n h V hn h8 h9 hR _ (i32_in _) _ (i32_in _))) hcz hl kk9)
    | 4, _ => exact lv_tableIn (tgt := 358) X.1 X.2.1 dL_law_33 (by omega) (by omega) (by rw [ek]; rfl) (by decide) (lc_4 hst X hS hob hxs hbl hbA hin (opOK_room (o4 n h V hn h8 h9 hR _ (i32_in _) _ (i32_in _) _ (i32_in _) _ (i32_in _) _ (i32_in _))) hcz hl kk9)
    | 5, _ => exact lv_tableIn (tgt := 421) X.1 X.2.1 dL_law_33 (by omega) (by omega) (by rw [ek]; rfl) (by decide) (lc_5 hst X hS hob hxs hbl hbA hin (opOK_room (o5 n h V hn h8 h9 hR _ (i32_in _))) hcz hl kk9)
    | 6, _ => exact lv_tableIn (tgt := 444) X.1 X.2.1 dL_law_33 (by omega) (by omega) (by rw [ek]; rfl) (by decide) (lc_6 hst X hS hob hxs hbl hbA hin (opOK_room (o6 n h V hn h8 h9 hR)) hcz hl kk9)
    | 7, _ => exact lv_tableIn (tgt := 457) X.1 X.2.1 dL_law_33 (by omega) (by omega) (by rw [ek]; rfl) (by decide) (lc_7 hst X hS hob hxs hbl hbA hin (opOK_room (o7 n h V hn h8 h9 hR)) hcz hl kk9)
    | 8, _ => exact lv_tableIn (tgt := 470) X.1 X.2.1 dL_law_33 (by omega) (by omega) (by rw [ek]; rfl) (by decide) (lc_8 hst X hS hob hxs hbl hbA hin (opOK_room (o8 n h V hn h8 h9 hR _ (i32_in _))) hcz hl kk9)
    | 9, _ => exact lv_tableIn (tgt := 493) X.1 X.2.1 dL_law_33 (by omega) (by omega) (by rw [ek]; rfl) (by decide) (lc_9 hst X hS hob hxs hbl hbA hin (opOK_room (o9 n h V hn h8 h9 hR _ (i32_in _) _ (i32_in _) _ (i32_in _))) hcz hl kk9)
    | 10, _ => exact lv_tableIn (tgt := 536) X.1 X.2.1 dL_law_33 (by omega) (by omega) (by rw [ek]; rfl) (by decide) (lc_10 hst X hS hob hxs hbl hbA hin (opOK_room (o10 n h V hn h8 h9 hR _ (i32_in _) _ (i32_in _))) hcz hl kk9)
    | 11, _ => exact lv_tableIn (tgt := 569) X.1 X.2.1 dL_law_33 (by omega) (by omega) (by rw [ek]; rfl) (by decide) (lc_11 hst X hS hob hxs hbl hbA hin (opOK_room (o11 n h V hn h8 h9 hR _ (i32_in _))) hcz hl kk9)
    | 12, _ => exact lv_tableIn (tgt := 592) X.1 X.2.1 dL_law_33 (by omega) (by omega) (by rw [ek]; rfl) (by decide) (lc_12 hst X hS hob hxs hbl hbA hin (opOK_room (o12 n h V hn h8 h9 hR _ (i32_in _))) hcz hl kk9)
    | 13, _ => exact lv_tableIn (tgt := 616) X.1 X.2.1 dL_law_33 (by omega) (by omega) (by rw [ek]; rfl) (by decide) (lc_13 hst X hS hob hxs hbl hbA hin (opOK_room (o13 n h V hn h8 h9 hR _ (i32_in _) _ (i32_in _))) hcz hl kk9)
    | 14, _ => exact lv_tableIn (tgt := 650) X.1 X.2.1 dL_law_33 (by omega) (by omega) (by rw [ek]; rfl) (by decide) (lc_14 hst X hS hob hxs hbl hbA hin (opOK_room (o14 n h V hn h8 h9 hR _ (i32_in _))) hcz hl kk9)
    | 15, _ => exact lv_tableIn (tgt := 674) X.1 X.2.1 dL_law_33 (by omega) (by omega) (by rw [ek]; rfl) (by decide) (lc_15 hst X hS hob hxs hbl hbA hin (opOK_room (o15 n h V hn h8 h9 hR _ (i32_in _) _ (i32_in _))) hcz hl kk9)
    | 16, _ => exact lv_tableIn (tgt := 708) X.1 X.2.1 dL_law_33 (by omega) (by omega) (by rw [ek]; rfl) (by decide) (lc_16 hst X hS hob hxs hbl hbA hin (opOK_room (o16 n h V hn h8 h9 hR)) hcz hl kk9)
    | 17, _ => exact lv_tableIn (tgt := 721) X.1 X.2.1 dL_law_33 (by omega) (by omega) (by rw [ek]; rfl) (by decide) (lc_17 hst X hS hob hxs hbl hbA hin (opOK_room (o17 n h V hn h8 h9 hR _ (i32_in _))) hcz hl kk9)
    | 18, _ => exact lv_tableIn (tgt := 744) X.1 X.2.1 dL_law_33 (by omega) (by omega) (by rw [ek]; rfl) (by decide) (lc_18 hst X hS hob hxs hbl hbA hin (opOK_room (o18 n h V hn h8 h9 hR _ (i32_in _) _ (i32_in _))) hcz hl kk9)
    | 19, _ => exact lv_tableIn (tgt := 778) X.1 X.2.1 dL_law_33 (by omega) (by omega) (by rw [ek]; rfl) (by decide) (lc_19 hst X hS hob hxs hbl hbA hin (opOK_room (o19 n h V hn h8 h9 hR _ (i32_in _) _ (i32_in _))) hcz hl kk9)
    | 20, _ => exact lv_tableIn (tgt := 811) X.1 X.2.1 dL_law_33 (by omega) (by omega) (by rw [ek]; rfl) (by decide) (lc_20 hst X hS hob hxs hbl hbA hin (opOK_room (o20 n h V hn h8 h9 hR _ (i32_in _))) hcz hl kk9)
    | 21, _ => exact lv_tableIn (tgt := 834) X.1 X.2.1 dL_law_33 (by omega) (by omega) (by rw [ek]; rfl) (by decide) (lc_21 hst X hS hob hxs hbl hbA hin (opOK_room (o21 n h V hn h8 h9 hR _ (i32_in _) _ (i32_in _))) hcz hl kk9)
    | 22, _ => exact lv_tableIn (tgt := 867) X.1 X.2.1 dL_law_33 (by omega) (by omega) (by rw [ek]; rfl) (by decide) (lc_22 hst X hS hob hxs hbl hbA hin (opOK_room (o22 n h V hn h8 h9 hR)) hcz hl kk9)
    | 23, _ => exact lv_tableIn (tgt := 880) X.1 X.2.1 dL_law_33 (by omega) (by omega) (by rw [ek]; rfl) (by decide) (lc_23 hst X hS hob hxs hbl hbA hin (opOK_room (o23 n h V hn h8 h9 hR _ (i32_in _) _ (i32_in _))) hcz hl kk9)
    | 24, _ => exact lv_tableIn (tgt := 913) X.1 X.2.1 dL_law_33 (by omega) (by omega) (by rw [ek]; rfl) (by decide) (lc_24 hst X hS hob hxs hbl hbA hin (opOK_room (o24 n h V hn h8 h9 hR _ (i32_in _))) hcz hl kk9)
    | 25, _ => exact lv_tableIn (tgt := 936) X.1 X.2.1 dL_law_33 (by omega) (by omega) (by rw [ek]; rfl) (by decide) (lc_25 hst X hS hob hxs hbl hbA hin (opOK_room (o25 n h V hn h8 h9 hR)) hcz hl kk9)
    | 26, _ => exact lv_tableIn (tgt := 949) X.1 X.2.1 dL_law_33 (by omega) (by omega) (by rw [ek]; rfl) (by decide) (lc_26 hst X hS hob hxs hbl hbA hin (opOK_room (o26 n h V hn h8 h9 hR _ (i32_in _) _ (i32_in _))) hcz hl kk9)
    | 27, _ => exact lv_tableIn (tgt := 982) X.1 X.2.1 dL_law_33 (by omega) (by omega) (by rw [ek]; rfl) (by decide) (lc_27 hst X hS hob hxs hbl hbA hin (opOK_room (o27 n h V hn h8 h9 hR _ (i32_in _) _ (i32_in _))) hcz hl kk9)
    | 28, _ => exact lv_tableIn (tgt := 1015) X.1 X.2.1 dL_law_33 (by omega) (by omega) (by rw [ek]; rfl) (by decide) (lc_28 hst X hS hob hxs hbl hbA hin (opOK_room (o28 n h V hn h8 h9 hR _ (i32_in _))) hcz hl kk9)
    | 29, _ => exact lv_tableIn (tgt := 1038) X.1 X.2.1 dL_law_33 (by omega) (by omega) (by rw [ek]; rfl) (by decide) (lc_29 hst X hS hob hxs hbl hbA hin (opOK_room (o29 n h V hn h8 h9 hR _ (i32_in _) _ (i32_in _))) hcz hl kk9)
    | 30, _ => exact lv_tableIn (tgt := 1071) X.1 X.2.1 dL_law_33 (by omega) (by omega) (by rw [ek]; rfl) (by decide) (lc_30 hst X hS hob hxs hbl hbA hin (opOK_room (o30 n h V hn h8 h9 hR _ (i32_in _))) hcz hl kk9)
    | 31, _ => exact lv_tableIn (tgt := 1094) X.1 X.2.1 dL_law_33 (by omega) (by omega) (by rw [ek]; rfl) (by decide) (lc_31 hst X hS hob hxs hbl hbA hin (opOK_room (o31 n h V hn h8 h9 hR)) hcz hl kk9)
    | 32, _ => exact lv_tableIn (tgt := 1107) X.1 X.2.1 dL_law_33 (by omega) (by omega) (by rw [ek]; rfl) (by decide) (lc_32 hst X hS hob hxs hbl hbA hin (opOK_room (o32 n h V hn h8 h9 hR)) hcz hl kk9)
    | 33, _ => exact lv_tableIn (tgt := 1120) X.1 X.2.1 dL_law_33 (by omega) (by omega) (by rw [ek]; rfl) (by decide) (lc_33 hst X hS hob hxs hbl hbA hin (opOK_room (o33 n h V hn h8 h9 hR _ (i32_in _) _ (i32_in _))) hcz hl kk9)
    | 34, _ => exact lv_tableIn (tgt := 1153) X.1 X.2.1 dL_law_33 (by omega) (by omega) (by rw [ek]; rfl) (by decide) (lc_34 hst X hS hob hxs hbl hbA hin (opOK_room (o34 n h V hn h8 h9 hR _ (i32_in _))) hcz hl kk9)
    | 35, _ => exact lv_tableIn (tgt := 1176) X.1 X.2.1 dL_law_33 (by omega) (by omega) (by rw [ek]; rfl) (by decide) (lc_35 hst X hS hob hxs hbl hbA hin (opOK_room (o35 n h V hn h8 h9 hR _ (i32_in _))) hcz hl kk9)
    | 36, _ => exact lv_tableIn (tgt := 1199) X.1 X.2.1 dL_law_33 (by omega) (by omega) (by rw [ek]; rfl) (by decide) (lc_36 hst X hS hob hxs hbl hbA hin (opOK_room (o36 n h V hn h8 h9 hR _ (i32_in _))) hcz hl kk9)
    | 37, _ => exact lv_tableIn (tgt := 1222) X.1 X.2.1 dL_law_33 (by omega) (by omega) (by rw [ek]; rfl) (by decide) (lc_37 hst X hS hob hxs hbl hbA hin (opOK_room (o37 n h V hn h8 h9 hR _ (i32_in _) _ (i32_in _))) hcz hl kk9)
    | 38, _ => exact lv_tableIn (tgt := 1255) X.1 X.2.1 dL_law_33 (by omega) (by omega) (by rw [ek]; rfl) (by decide) (lc_38 hst X hS hob hxs hbl hbA hin (opOK_room (o38 n h V hn h8 h9 hR _ (i32_in _))) hcz hl kk9)
    | 39, _ => exact lv_tableIn (tgt := 1278) X.1 X.2.1 dL_law_33 (by omega) (by omega) (by rw [ek]; rfl) (by decide) (lc_39 hst X hS hob hxs hbl hbA hin (opOK_room (o39 n h V hn h8 h9 hR _ (i32_in _))) hcz hl kk9)
    | 40, _ => exact lv_tableIn (tgt := 1301) X.1 X.2.1 dL_law_33 (by omega) (by omega) (by rw [ek]; rfl) (by decide) (lc_40 hst X hS hob hxs hbl hbA hin (opOK_room (o40 n h V hn h8 h9 hR _ (i32_in _))) hcz hl kk9)
    | 41, _ => exact lv_tableIn (tgt := 1324) X.1 X.2.1 dL_law_33 (by omega) (by omega) (by rw [ek]; rfl) (by decide) (lc_41 hst X hS hob hxs hbl hbA hin (opOK_room (o41 n h V hn h8 h9 hR)) hcz hl kk9)
    | k + 42, hk => exact absurd hk (by omega)
theorem law_loop {p : Program} {l : Launch} {e : Env} {s : State} {m : MethodId} {b : Nat} {below : List Frame} {meth : Method} {c : Code} {D : va_G} {cT : Nat → ClassId} {adF : Int → Nat} {h0 : XH} {a0 : Nat} {aM : Nat → Nat} {L : Nat} {sv : Nat → Int32} (Rel : Nat → XH → VV → Prop) (hops : OPS Rel) (hobR : ∀ n h V, Rel n h V → 1 ≤ xn h ∧ xk h 1 = 1) (hst : l.stackTraces = false) (X : LWX p s m b c D cT adF h0) (hret : meth.sig.returnType = ret) (hlocks : meth.locks = false) (hL : L ≤ 384) (hxs : va_X b L sv s s.heap) (hbl : b < s.heap.size) (hbA : ¬ lA s b) : ∀ (i n n1 : Nat), n + i = 65 → n1 ≤ n → 6 * n ≤ L → ∀ (h : XH) (V : VV) (ad : Int → Nat) (H : Heap) (locs : List Loc) (ls : Array Slot) (cells slots : Nat) (x3 : Int32), x3.toInt = 6 * (n : Int) → Rel n1 h V → LWS D cT adF (lA s) s.heap h0 h V ad aM a0 H locs → cells = xc h + 35 → slots = xs h + SLM → xc h + 35 ≤ 1200384 → xs h + SLM ≤ 5488810 → lv_has ls 4 [(0, .ref b), (1, .ref (ad 1)), (2, .ref a0), (3, .int x3)] → W p l e room_1 s m #[Value.ref b] below meth c H locs cells slots (lw_Z below #[Value.ref b] s) (F0 m 18 ls []) := by
  intro i
  induction i with
  | zero => intro n n1 h1 _ h2; omega
  | succ i ih =>
    intro n n1 hni hn1 hn6 h V ad H locs ls cells slots x3 hx3 hR hS hc hs hcr hsr hl
    refine lv_iload_n X.1 X.2.1 dL_law_18 rfl (lv_at hl 3 rfl) ?_
    refine lv_aload_n X.1 X.2.1 dL_law_19 rfl (lv_at hl 0 rfl) ?_
    refine va_slen X.1 X.2.1 hxs hbl hbA hS.2.2.2.2.2.2.1 dL_law_20 ?_
    refine lv_bipush (v := 6) X.1 X.2.1 dL_law_21 (by decide) ?_
    refine lv_isub X.1 X.2.1 dL_law_23 ?_
    have eL : (Int32.ofNat L - 6).toInt = (L : Int) - 6 := by
      rw [Int32.toInt_sub, Int32.toInt_ofNat_of_lt (by omega)]
      have : ((L : Int) - (6 : Int32).toInt).bmod 4294967296 = w32 ((L : Int) - 6) := w32_bm _
      rw [show (2 ^ 32 : Nat) = 4294967296 from rfl, this]
      exact w32_id (by omega) (by omega)
    refine lv_icmp_gt (tgt := 1343) X.1 X.2.1 dL_law_24 (by decide) (fun _ => ?_) (fun hle => ?_)
    · refine W.widen (k := 1200384) (n := 5488810) (by omega) (by omega) ?_
      refine lv_iconst (v := 1) X.1 X.2.1 dL_law_1343 (by decide) ?_
      refine va_forget (fun q hq => hS.2.2.2.2.2.2.1.2.2 q hq) ?_
      exact lw_ret X.1 X.2.1 hret hlocks dL_law_1344
    · have hle2 : 6 * n + 6 ≤ L := by
        rcases Nat.lt_or_ge L (6 * n + 6) with q | q
        · refine absurd ?_ hle
          show Int32.ofNat L - 6 < x3
          rw [Int32.lt_iff_toInt_lt, eL, hx3]; omega
        · exact q
      refine lv_aload_n X.1 X.2.1 dL_law_27 rfl (lv_at hl 0 rfl) ?_
      refine lv_iload_n X.1 X.2.1 dL_law_28 rfl (lv_at hl 3 rfl) ?_
      refine va_sld X.1 X.2.1 hxs hbl hbA hS.2.2.2.2.2.2.1 (law_vp0 hL hx3 hle2) dL_law_29 ?_
      refine lv_bipush (v := 63) X.1 X.2.1 dL_law_30 (by decide) ?_
      refine lv_iand X.1 X.2.1 dL_law_32 ?_
      refine law_call Rel hops hst X hxs hbl hbA (by omega : n1 < 64) hR (hobR _ _ _ hR) hS (law_vp hL hx3 hle2) ⟨hc, hs⟩ ⟨hcr, hsr⟩ hl ?_
      intro n2 h1 V1 u H2 locs2 cells2 slots2 hn2 hR2 hS2 hu hl2 hc2 hs2 hcr2 hsr2
      obtain ⟨x4, ex4⟩ : ∃ y : Int32, y = x3 + 6 := ⟨_, rfl⟩
      have hx4 : x4.toInt = 6 * ((n + 1 : Nat) : Int) := by
        rw [ex4, Int32.toInt_add, hx3]
        have : (6 * (n : Int) + (6 : Int32).toInt).bmod 4294967296 = w32 (6 * (n : Int) + 6) := w32_bm _
        rw [show (2 ^ 32 : Nat) = 4294967296 from rfl, this, w32_id (by omega) (by omega)]
        omega
      refine lv_iinc (v := x4) (lv' := [(3, .int x4), (0, .ref b), (1, .ref (u 1)), (2, .ref a0)]) X.1 X.2.1 dL_law_1337 hl2 (k := 3) rfl (by rw [ex4]; rfl) (by decide) rfl (fun ls hl => ?_)
      refine lv_goto (tgt := 18) X.1 X.2.1 dL_law_1340 (by decide) ?_
      exact ih (n + 1) n2 (by omega) (by omega) (by omega) h1 V1 u H2 locs2 ls cells2 slots2 x4 hx4 hR2 hS2 hc2 hs2 hcr2 hsr2 (lv_sub hl [1, 2, 3, 0] rfl)
