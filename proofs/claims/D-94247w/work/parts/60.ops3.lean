/-! plain law: know, terms, use, friend -/
set_option maxRecDepth 100000
set_option maxHeartbeats 400000
theorem RelG.opNo {g : Int → Int} {P : Nat → CLS} {n : Nat} {h : XH} {V : VV} {f : Option XR} {gg : Option (Int × VV)} (hn : n < 64) (R : RelG g P n h V) {v : Int} (h0 : v < 0) (h1 : -7 < v) (e1 : f = F_X0_tell 1 v h) (e2 : gg = M_refuses v V) : opOK f gg (Rel (n + 1)) :=
  (R.no h0 h1).op hn (e1.trans (F_tell_m R.sh h0 h1)) (e2.trans (M_refuses_eq h1 (by omega)))
theorem mb_id {σ : Type} (x : Option (Int × σ)) : (mb x fun r s => some (r, s)) = x := by
  cases x with
  | none => rfl
  | some u => rfl
theorem IR.ne_tk {g : Int → Int} {h : XH} {t t' a b : Int} {l l' : Nat} {F F' : Int → Int} {n n' : Int} (I : IR g t h a l F n) (J : IR g t' h b l' F' n') (e : t ≠ t') : b ≠ a := fun q => e (by rw [← I.2.1, ← J.2.1, q])
theorem op_use : OP_use Rel := by
  intro n h V hn _ _ ⟨g, P, R⟩ w hw
  have H := R.sh
  have E := R.er
  have K := R.ki
  have hp := K.1.2.2.2.1
  by_cases c : w = -1 ∨ (0 ≤ w ∧ w < V 3 393)
  · have o := E.o
    have f : Fr (fun a j => a = xv h 1 0 ∧ j = 7) 0 0 h (hset h (xv h 1 0) 7 w) := Fr.set fun _ => ⟨rfl, rfl⟩
    have ow : OWN g h (fun a j => a = xv h 1 0 ∧ j = 7) := fun a j a1 a2 q => by
      rw [q.1]; exact ⟨by rw [E.2.1]; decide, by rw [E.2.1]; decide, Or.inl o.2.2⟩
    have e3 : vup V 3 394 w 3 = up (V 3) 394 w := vup3
    have K' : KI (up (V 3) 394 w) := by
      obtain ⟨⟨k0, k1, k2, k3, k4⟩, k5, k6, k7, k8, k9, k10, k11⟩ := K
      refine ⟨⟨k0, k1, k2, k3, ?_⟩, fun q a b => ?_, k6, fun k a b => ?_, fun k a b => ?_, fun k a b => ?_, fun t a b => ?_, fun j a => ?_⟩
      · rw [up_at, up_n (by decide)]; omega
      · rw [up_n (by decide)] at b
        rw [up_n (by omega), up_n (by omega), up_n (by omega), up_n (by omega), up_n (by omega)]; exact k5 q a b
      · rw [up_n (by omega)]; exact k7 k a b
      · rw [up_n (by decide)] at b
        rw [up_n (by omega), up_n (by omega), up_n (by decide)]; exact k8 k a b
      · rw [up_n (by decide)] at b
        rw [up_n (by omega)]; exact k9 k a b
      · rw [up_n (by decide)] at b
        rw [up_n (by omega)]; exact k10 t a b
      · rw [up_n (by omega)]; exact k11 j a
    have E1 : ER g 1 (hset h (xv h 1 0) 7 w) (xv h 1 0) (vup V 3 394 w 3) P := by
      rw [e3]
      refine E.mod f (ow.tf f) (fun a j q r => ?_) (fun j hj q => by omega) rfl rfl rfl ?_ ?_ ?_ ?_ ?_ (fun k a b => ?_) (fun k a b => ?_)
      · rw [r.1] at q; rcases q with q | q
        · exact absurd (q.2.2.symm.trans o.2.2) (by decide)
        · exact absurd (q.2.2.symm.trans o.2.2) (by decide)
      · exact E.te.keep f (fun k _ _ q => OB.ne E.te.1 o (by decide) q.1) (fun k a b => up_n (by omega)) (Int.le_refl _)
      · exact E.fd.keep f (fun k _ _ q => OB.ne E.fd.1 o (by decide) q.1) (fun k a b => up_n (by omega)) (Int.le_refl _)
      · exact E.ye.keep f (fun k _ _ q => OB.ne E.ye.1 o (by decide) q.1) (fun k a b => up_n (by rw [up_n (by decide)] at b; have := K.1.2.2.1; omega)) (by rw [up_n (by decide)]; exact Int.le_refl _)
      · rw [hset_vj (by decide)]; exact E.yd
      · rw [hset_vv]; rfl
      · exact (E.q k a b).keep f (fun j q => OB.ne (E.q k a b).1 o (by decide) q.1) (fun j c d => up_n (by have := K.nn; omega))
      · have := K.1.2.1; exact ⟨up_n (by omega), up_n (by omega)⟩
    have P1 : PR (vup V 3 394 w 3) P := by rw [e3]; exact R.pr.congr rfl (fun t a b => up_n (by omega)) (fun j a => up_n (by omega))
    refine (R.wasT hn f ow E1 (by rw [e3]; exact K') P1 (MF.ed MF.rf (by decide)) (by decide) (by decide)).op hn (r := V 3 394) ?_ ?_
    · have e20 : F_X0_use_20 1 w h = some (V 3 394, hset (hset (hset h (xv h 1 0) 7 w) 1 9 0) 1 5 0) := by
        unfold F_X0_use_20
        rw [obk H.x1, obk o, nm_eq, obk H.x1, obk o, nm_eq, obk (h := hset h (xv h 1 0) 7 w) H.x1, F_was_eq (H.fr f (fun j hj q => by omega) (fun q => by have := R.gw; have e := q.1; rw [← e] at o; exact absurd (o.2.2.symm.trans H.x10.2.2) (by decide)) (fun q => by omega)), mb_some, E.us]
      unfold F_X0_use
      by_cases c1 : w = -1
      · rw [if_pos c1, e20]
      · rw [if_neg c1, obk H.x1]
        unfold F_X0_isPaper
        rw [obk H.x1, obk o, obk E.lp.1, F_size_eq E.lp, mb_some, w32_id (by omega) (by omega), F_in_t (by omega) (by omega), mb_some, cb_ok (Or.inr rfl), mb_some, if_neg (by decide), e20]
    · have e30 : M_use_30 w V = some (V 3 394, vup (vup (vup V 3 394 w) 0 0 0) 1 0 (w32 (V 1 0 + 1))) := by
        unfold M_use_30
        rw [M_replaces_eq (by decide) (by decide), mb_some]
      have e11 : vup V 3 394 w 1 0 = V 1 0 := by rw [vupN (by decide)]
      rw [e11]
      unfold M_use
      by_cases c1 : w = -1
      · rw [if_pos c1, e30]
      · rw [if_neg c1, w32_id (by omega) (by omega), M_lies_t (by omega) (by omega), mb_some, if_neg (by decide), e30]
  · refine R.opNo hn (v := -2) (by decide) (by decide) ?_ ?_
    · unfold F_X0_use
      rw [if_neg (by omega), obk H.x1]
      unfold F_X0_isPaper
      rw [obk H.x1, obk E.o, obk E.lp.1, F_size_eq E.lp, mb_some, w32_id (by omega) (by omega), F_in_f (by omega), mb_some, cb_ok (Or.inl rfl), mb_some, if_pos rfl, obk H.x1, mb_id]
    · unfold M_use
      rw [if_neg (by omega), w32_id (by omega) (by omega), M_lies_f (by omega), mb_some, if_pos rfl, mb_id]
