/-! PURE: the law: undo, save, restore, what failed (printed by gen/law3.py) -/
set_option maxRecDepth 20000
section LW
variable {ad : Nat → Nat} {G G' : gS} {k c1 t1 t2 t3 t4 n c tx : Nat} {s : Nat → Int32} {P P' : pA} {X : Nat → gS → Prop} {K : Int32 → gS → Prop} {J28 : gS → Option Nat → Nat → Nat → Nat → Nat → Int32 → Prop}
variable {B : Nat → Nat} {I : Nat → Int32} {V : Nat → Nat → Int32} {x y : Int32}
/-- an answer, the object changed -/
theorem xr_st (s : gTo (tS G) 21000 210000 G G') {g0 : Nat → Int64} (h3 : G.1 t3 = some (gAl true 1 g0)) (hc : CI ad G' t1 c P') {v : Int32} {R : Int32 → gS → Prop} (k : ∀ G5, XR ad G t1 t3 c P' 0 v G5 → R 0 G5) : wNN (some t3) fun c6 => wAstL G' c6 (0 : Int32) v.toInt64 fun G7 => R 0 G7 := by
  have h3' := s.1 _ _ h3 (tS.n_l h3)
  refine wNN_of (wAstL_of h3' (vp_in_nI (n := 0) (by omega) (by omega)) (k _ ⟨⟨?_, fun b e hb hn hne => ?_, ?_, ?_⟩, _, gSet_self, fun _ => pk_uLs⟩))
  · refine hc.to fun b c hb hc => ?_
    rw [gSet_ne (fun z => ?_)]
    · exact hb
    · subst z
      rw [h3'] at hb
      cases hb
      rcases hc with ⟨_, _, _, e⟩ | ⟨_, _, e⟩ | ⟨_, _, _, e⟩ | ⟨w, ci, fs, e, q⟩ <;> cases e
  · rw [gSet_ne hne]
    exact s.1 b e hb hn
  · have := s.2.2.1
    show G.2.1 ≤ G'.2.1 + 22000
    omega
  · have := s.2.2.2
    show G.2.2 ≤ G'.2.2 + 220000
    omega
theorem gTo.ts {n m : Nat} (h : gTo (tK G) n m G G') (hn : n ≤ 21000) (hm : m ≤ 210000) : gTo (tS G) 21000 210000 G G' := h.mono (fun b z => Or.inr (Or.inl z)) hn hm
theorem sp_foundx {x : Int32} (hR : rm G 200) {K : Int32 → gS → Prop} (k0 : decide (x ≠ -1) = false → ∀ q G', gF2 G G' → gHas G' q 23 → X q G') (k1 : decide (x ≠ -1) = true → K x G) : wp_X1_found ad G x X K := by
  have hR1 := hR.1
  have hR2 := hR.2
  unfold wp_X1_found wp_X1_found_10
  refine ⟨fun e => ?_, fun e => ?_⟩
  · exact sp_checkElement (b := false) rfl (by omega) (by omega) (fun _ q G' fs s => k0 (decide_eq_false fun z => z e) q G' (s.f2 (by omega)) ⟨_, s.2.1⟩) fun z => absurd z (by decide)
  · exact sp_checkElement (b := true) rfl (by omega) (by omega) (fun z => absurd z (by decide)) fun _ => k1 (decide_eq_true e)
theorem sp_X0_errorPosition (hc : CI ad G t1 c P) (hR : rm G 200) {g0 : Nat → Int64} (h3 : G.1 t3 = some (gAl true 1 g0)) {K : Int32 → gS → Prop} (k : ∀ G5, XR ad G t1 t3 c P (qc (decide (aE P ≠ -1))) (aE P) G5 → K (qc (decide (aE P ≠ -1))) G5) : wp_X0_errorPosition ad G (some t1) (some t3) X K := by
  unfold wp_X0_errorPosition wp_X0_errorPosition_11
  refine wNN_of ⟨hc.is, ?_⟩
  have hc0 := hc
  obtain ⟨h, sn, l, sb, os, h1, -⟩ := hc
  unfold wp_X1_errorPosition
  exact wGetI_of h1 rfl (sp_foundx hR (fun e q G' s hh => ⟨hh, xq0 hc0 h3 s e k⟩) fun e => xq1 hc0 h3 gF2.refl rfl e k)
theorem sm3_errorPosition (hm : MI G t2 P) {K : Int32 → gS → Prop} (k : ∀ G', MR G t2 P (qc (decide (aE P ≠ -1))) G' → K (if qc (decide (aE P ≠ -1)) = 0 then aE P else 0) G') : gIs G t2 0 ∧ wp_X3_errorPosition ad G t2 X K := by
  obtain ⟨B, I, V, h, hp⟩ := hm
  refine ⟨h.is, ?_⟩
  unfold wp_X3_errorPosition wp_X3_errorPosition_14
  have e0 : I 7 = aE P := hp.2.2.1.1
  refine mI h (by decide) ⟨fun e => ?_, fun e => ?_⟩
  · rw [e0] at e
    rw [decide_eq_false (fun z : aE P ≠ -1 => z e)] at k
    exact ⟨h.is, sm_goes3 h (a := false) rfl (fun _ G' h' => k G' (MR.of h h' hp.t14 upd_self)) (fun q => by cases q)⟩
  · rw [e0] at e
    rw [decide_eq_true (show aE P ≠ -1 from e)] at k
    refine ⟨h.is, sm_goes3 h (a := true) rfl (fun q => by cases q) (fun _ G' h' => mI h' (by decide) ?_)⟩
    rw [upd_ne (by decide), e0]
    exact k G' (MR.of h h' hp.t14 upd_self)
theorem law_52 (h : LI ad G k c1 t1 t2 t3 t4 s n P) (hn : 5 * k + 5 ≤ n) (hn2 : n ≤ 120) (hJ : ∀ G' P', LI ad G' (k + 1) c1 t1 t2 t3 t4 s n P' → J28 G' (some c1) t1 t2 t3 t4 (nI (5 * k) + (5 : Int32))) : wp_X0_errorPosition ad G (some t1) (some t3) X (fun r411 G410 => (gIs G410 t2 0 ∧ wp_X3_errorPosition ad G410 t2  X (fun r413 G412 => (gIs G412 t2 0 ∧ wp_X3_thrown ad G412 t2  X (fun r415 G414 => (r415 = r411 → (¬ r411 = (0 : Int32) → wp_L_law_2741 ad X K J28 G414 c1 t1 t2 t3 t4 (nI (5 * k))) ∧ (r411 = (0 : Int32) → wAldL G414 t3 (0 : Int32) fun i416 => ((lg_cmp i416 ((r413).toInt64)) = (0 : Int32) → wp_L_law_2741 ad X K J28 G414 c1 t1 t2 t3 t4 (nI (5 * k))) ∧ (¬ (lg_cmp i416 ((r413).toInt64)) = (0 : Int32) → K (0 : Int32) G414))) ∧ (¬ r415 = r411 → K (0 : Int32) G414)))))) := by
  have hR := h.r hn hn2
  have hN := fun (tx c : Nat) (P' : pA) (G5 G8 : gS) (τ : Int32) => h.next (tx := tx) (c := c) (P' := P') (G5 := G5) (G8 := G8) (τ := τ) hn hn2
  obtain ⟨hk, hb, ⟨c, hc, hct⟩, hm, ⟨g3, h3⟩, h4, hs, -⟩ := h
  have hi := hc.hi
  refine sp_X0_errorPosition hc (hR.le (by omega)) h3 fun G5 x => ?_
  have hs5 := x.1.old (Or.inl ⟨_, _, h3⟩) hs
  have hm5 := x.1.mi (Or.inl ⟨_, _, h3⟩) hm
  refine sm3_errorPosition hm5 fun G8 m8 => ?_
  obtain ⟨xf, g5, h5, e5⟩ := x
  refine sp_tail m8 rfl (m8.1.l h5) (fun e => ?_) ?_
  · rw [e5 e, if_pos e]
  · exact hJ _ _ (hN t3 _ _ _ _ _ xf (Or.inl ⟨_, _, h3⟩) ⟨_, h5⟩ (xf.d h3 h4) m8 (by omega))
theorem sp_X0_failedCommand (hc : CI ad G t1 c P) (hR : rm G 200) {g0 : Nat → Int64} (h3 : G.1 t3 = some (gAl true 1 g0)) {K : Int32 → gS → Prop} (k : ∀ G5, XR ad G t1 t3 c P (qc (decide (aX P ≠ -1))) (aX P) G5 → K (qc (decide (aX P ≠ -1))) G5) : wp_X0_failedCommand ad G (some t1) (some t3) X K := by
  unfold wp_X0_failedCommand wp_X0_failedCommand_11
  refine wNN_of ⟨hc.is, ?_⟩
  have hc0 := hc
  obtain ⟨h, sn, l, sb, os, h1, -⟩ := hc
  unfold wp_X1_failedCommand
  exact wGetI_of h1 rfl (sp_foundx hR (fun e q G' s hh => ⟨hh, xq0 hc0 h3 s e k⟩) fun e => xq1 hc0 h3 gF2.refl rfl e k)
theorem sm3_failedCommand (hm : MI G t2 P) {K : Int32 → gS → Prop} (k : ∀ G', MR G t2 P (qc (decide (aX P ≠ -1))) G' → K (if qc (decide (aX P ≠ -1)) = 0 then aX P else 0) G') : gIs G t2 0 ∧ wp_X3_failedCommand ad G t2 X K := by
  obtain ⟨B, I, V, h, hp⟩ := hm
  refine ⟨h.is, ?_⟩
  unfold wp_X3_failedCommand wp_X3_failedCommand_14
  have e0 : I 8 = aX P := hp.2.2.1.2
  refine mI h (by decide) ⟨fun e => ?_, fun e => ?_⟩
  · rw [e0] at e
    rw [decide_eq_false (fun z : aX P ≠ -1 => z e)] at k
    exact ⟨h.is, sm_goes3 h (a := false) rfl (fun _ G' h' => k G' (MR.of h h' hp.t14 upd_self)) (fun q => by cases q)⟩
  · rw [e0] at e
    rw [decide_eq_true (show aX P ≠ -1 from e)] at k
    refine ⟨h.is, sm_goes3 h (a := true) rfl (fun q => by cases q) (fun _ G' h' => mI h' (by decide) ?_)⟩
    rw [upd_ne (by decide), e0]
    exact k G' (MR.of h h' hp.t14 upd_self)
theorem law_53 (h : LI ad G k c1 t1 t2 t3 t4 s n P) (hn : 5 * k + 5 ≤ n) (hn2 : n ≤ 120) (hJ : ∀ G' P', LI ad G' (k + 1) c1 t1 t2 t3 t4 s n P' → J28 G' (some c1) t1 t2 t3 t4 (nI (5 * k) + (5 : Int32))) : wp_X0_failedCommand ad G (some t1) (some t3) X (fun r418 G417 => (gIs G417 t2 0 ∧ wp_X3_failedCommand ad G417 t2  X (fun r420 G419 => (gIs G419 t2 0 ∧ wp_X3_thrown ad G419 t2  X (fun r422 G421 => (r422 = r418 → (¬ r418 = (0 : Int32) → wp_L_law_2785 ad X K J28 G421 c1 t1 t2 t3 t4 (nI (5 * k))) ∧ (r418 = (0 : Int32) → wAldL G421 t3 (0 : Int32) fun i423 => ((lg_cmp i423 ((r420).toInt64)) = (0 : Int32) → wp_L_law_2785 ad X K J28 G421 c1 t1 t2 t3 t4 (nI (5 * k))) ∧ (¬ (lg_cmp i423 ((r420).toInt64)) = (0 : Int32) → K (0 : Int32) G421))) ∧ (¬ r422 = r418 → K (0 : Int32) G421)))))) := by
  have hR := h.r hn hn2
  have hN := fun (tx c : Nat) (P' : pA) (G5 G8 : gS) (τ : Int32) => h.next (tx := tx) (c := c) (P' := P') (G5 := G5) (G8 := G8) (τ := τ) hn hn2
  obtain ⟨hk, hb, ⟨c, hc, hct⟩, hm, ⟨g3, h3⟩, h4, hs, -⟩ := h
  have hi := hc.hi
  refine sp_X0_failedCommand hc (hR.le (by omega)) h3 fun G5 x => ?_
  have hs5 := x.1.old (Or.inl ⟨_, _, h3⟩) hs
  have hm5 := x.1.mi (Or.inl ⟨_, _, h3⟩) hm
  refine sm3_failedCommand hm5 fun G8 m8 => ?_
  obtain ⟨xf, g5, h5, e5⟩ := x
  refine sp_tail m8 rfl (m8.1.l h5) (fun e => ?_) ?_
  · rw [e5 e, if_pos e]
  · exact hJ _ _ (hN t3 _ _ _ _ _ xf (Or.inl ⟨_, _, h3⟩) ⟨_, h5⟩ (xf.d h3 h4) m8 (by omega))
def pUndo (P : pA) : pA := if aN P = 0 then P else (aH P (aN P - 1), aS P, (aN P - 1, aH P), P.2.2.2)
theorem sp_X0_undo (hc : CI ad G t1 c P) (hR : rm G 200) {g0 : Nat → Int64} (h3 : G.1 t3 = some (gAl true 1 g0)) {K : Int32 → gS → Prop} (k : ∀ G5, XR ad G t1 t3 c (pUndo P) (qc (decide (aN P ≠ 0))) (nI (aN P - 1)) G5 → K (qc (decide (aN P ≠ 0))) G5) : wp_X0_undo ad G (some t1) (some t3) X K := by
  unfold wp_X0_undo wp_X0_undo_11
  refine wNN_of ⟨hc.is, ?_⟩
  have hc0 := hc
  have hR1 := hR.1
  have hR2 := hR.2
  obtain ⟨h, sn, l, sb, os, h1, h2, h3', ⟨a, it, h4, h5, h6⟩, h7⟩ := hc
  unfold wp_X1_undo wp_X1_undo_15
  refine wGetQ_of h1 (x := some l) rfl (wNN_of (sp_lempty h4 (by omega) ⟨fun e => ?_, fun e => ?_⟩))
  · have e0 : aN P = 0 := by
      have := bI_n0.mp e
      exact of_decide_eq_true this
    refine sp_checkElement (b := false) rfl (by omega) (by omega) (fun _ q G' fs s => ⟨⟨_, s.2.1⟩, ?_⟩) fun z => absurd z (by decide)
    rw [decide_eq_false (show ¬ aN P ≠ 0 from fun z => z e0)] at k
    have eu : pUndo P = P := by rw [pUndo, if_pos e0]
    rw [eu] at k
    exact xr_no hc0 h3 (s.f2 (by omega)) (by decide) k
  · have e0 : aN P ≠ 0 := fun z => by rw [decide_eq_true z] at e; exact absurd e (by decide)
    rw [decide_eq_true (show aN P ≠ 0 from e0)] at k
    have eu : pUndo P = (aH P (aN P - 1), aS P, (aN P - 1, aH P), P.2.2.2) := by rw [pUndo, if_neg e0]
    rw [eu] at k
    have h4' : LL G l (aN P - 1 + 1) a it := by rw [Nat.sub_add_cancel (Nat.pos_of_ne_zero e0)]; exact h4
    refine sp_checkElement (b := true) rfl (by omega) (by omega) (fun z => absurd z (by decide)) fun _ => wGetQ_of h1 (x := some l) rfl (wNN_of (sp_lremoveLast h4' (by omega) fun G1 t1' l1 => ?_))
    have hcell : ∀ b, LT l (aN P - 1 + 1) a b → tK G b := fun b z => by
      obtain ⟨ci, fs, e, q⟩ := h4'.cell z
      exact ⟨ci, fs, e, by omega⟩
    have htl : ∀ b d, G.1 b = some d → ¬ tK G b → G1.1 b = some d := fun b d hb hd => t1'.1 b d hb fun z => hd (hcell b z)
    have g1 : G1.1 t1 = some (gO true 1 [va_rf (some h), va_rf sn, va_rf (some l), va_rf (some sb), .int (aE P), .int (aX P), va_rf (some os)]) := t1'.1 _ _ h1 fun z => by
      obtain ⟨ci, fs, e, q⟩ := h4'.cell z
      rw [h1] at e
      cases e
      omega
    have hit := h6 (aN P - 1) (by omega)
    have hit1 : hH ad G1 (it (aN P - 1)) (aH P (aN P - 1)) c := hit.to fun b d hb hd => htl b d hb (hCl2.tk hb hd)
    refine wCast_of hit1.is (by decide) (wPut_sC g1 (ltb rfl) rfl fun G2 t2 => wGetQ_of t2.1 (x := some l) rfl (wNN_of ?_))
    have hk2 : ∀ b d, G1.1 b = some d → b ≠ t1 → G2.1 b = some d := fun b d hb hn => by rw [t2.2.1 b hn]; exact hb
    have l2 : LL G2 l (aN P - 1) a it := l1.to fun b d hb hd => hk2 b d hd fun z => by
      obtain ⟨ci, fs, e, q⟩ := l1.cell hb
      rw [z, g1] at e
      cases e
      omega
    have hall : ∀ b d, G.1 b = some d → ¬ tK G b → G2.1 b = some d := fun b d hb hd => hk2 b d (htl b d hb hd) fun z => by
      subst z
      exact hd ⟨_, _, h1, Or.inl rfl⟩
    have tt : gTo (tK G) 0 0 G G2 := t1'.trans (T := tK G) (t2.to (T := fun b => b = t1) g1 rfl) (fun b z => Or.inr (hcell b z)) (fun b z => Or.inr (by subst z; exact ⟨_, _, h1, Or.inl rfl⟩)) (Nat.le_refl _) (Nat.le_refl _)
    refine sp_lsize l2 (xr_st (tt.ts (by omega) (by omega)) h3 ?_ k)
    refine ⟨it (aN P - 1), sn, l, sb, os, t2.1, ?_, ?_, ⟨a, it, l2, ?_, fun i hi => ?_⟩, ?_⟩
    · exact hit.to fun b d hb hd => hall b d hb (hCl2.tk hb hd)
    · exact h3'.to fun b d hb hd => hall b d hb (hCl2.tk hb hd)
    · show aN P - 1 ≤ 8
      omega
    · have hi : i < aN P - 1 := hi
      exact (h6 i (by omega)).to fun b d hb hd => hall b d hb (hCl2.tk hb hd)
    · refine h7.to fun b d hb hd => hall b d hb ?_
      rintro ⟨ci, fs, e, q⟩
      rw [hb] at e
      cases e
      rcases hd with ⟨_, _, _, e⟩ | ⟨_, _, _, e, q2⟩
      · cases e
      · cases e; omega
theorem sm3_undo (hm : MI G t2 P) {K : Int32 → gS → Prop} (k : ∀ G', MR G t2 (pUndo P) (qc (decide (aN P ≠ 0))) G' → K (if qc (decide (aN P ≠ 0)) = 0 then nI (aN P - 1) else 0) G') : gIs G t2 0 ∧ wp_X3_undo ad G t2 X K := by
  obtain ⟨B, I, V, h, hp⟩ := hm
  refine ⟨h.is, ?_⟩
  unfold wp_X3_undo wp_X3_undo_13
  obtain ⟨⟨p0, p5, p3⟩, ⟨p6, p8, p4⟩, pc⟩ := hp
  have hp : mP I V P := ⟨⟨p0, p5, p3⟩, ⟨p6, p8, p4⟩, pc⟩
  refine mI h (by decide) ⟨fun e => ?_, fun e => ?_⟩
  · rw [p6] at e
    have e0 : aN P = 0 := Nat.eq_zero_of_le_zero (Nat.le_of_not_lt fun z => absurd e (nI_nle z (by omega)))
    have eu : pUndo P = P := by rw [pUndo, if_pos e0]
    rw [decide_eq_false (show ¬ aN P ≠ 0 from fun z => z e0), eu] at k
    exact ⟨h.is, sm_goes3' h (a := false) rfl (fun _ G' h' => k G' (MR.of h h' hp.t14 upd_self)) (fun q => by cases q)⟩
  · rw [p6] at e
    have e0 : aN P ≠ 0 := fun z => e (by rw [z]; decide)
    have eu : pUndo P = (aH P (aN P - 1), aS P, (aN P - 1, aH P), P.2.2.2) := by rw [pUndo, if_neg e0]
    rw [decide_eq_true (show aN P ≠ 0 from e0), eu] at k
    refine ⟨h.is, sm_goes3' h (a := true) rfl (fun q => by cases q) (fun _ G1 h1 => mI h1 (by decide) (mPut h1 (by decide) fun G2 h2 => mQ h2 m4 (mI h2 (by decide) (mQ h2 m0 ?_))))⟩
    have e6 : upd (upd I 14 0) 6 (upd I 14 0 6 - 1) 6 = nI (aN P - 1) := by
      rw [upd_self, upd_ne (by decide), p6, show (1 : Int32) = nI 1 from rfl, nI_sub (by omega)]
    refine sm_copies h2 m4 m0 (by decide) (s := 91 * (aN P - 1)) (t := 0) (by rw [e6, show (91 : Int32) = nI 91 from rfl, nI_mul, Nat.mul_comm]) rfl (by show 91 * (aN P - 1) + 91 ≤ 728; omega) (by decide) fun G3 h3 => mI h3 (by decide) ?_
    rw [e6]
    refine k G3 (MR.of h h3 ⟨⟨?_, ?_, ?_⟩, ⟨?_, ?_, ?_⟩, ?_⟩ (by rw [upd_ne (by decide), upd_self]; rfl))
    · rw [mar_self]
      funext j
      show va_cpy (V 4) (V 0) (91 * (aN P - 1)) 0 91 j = aH P (aN P - 1) j
      rw [p4 (aN P - 1) (by omega) j]
      simp only [va_cpy]
      by_cases hj : j < 91
      · rw [if_pos (by omega), if_pos hj]; rfl
      · rw [if_neg (by omega), if_neg hj, h.2.2.2.1 0 m0 j (by show 91 ≤ j; omega)]
    · rw [upd_ne (by decide), upd_ne (by decide)]; exact p5
    · intro f hf
      rw [mar_ne (by decide)]; exact p3 f hf
    · exact e6
    · show aN P - 1 ≤ 8
      omega
    · intro i hi j
      have hi : i < aN P - 1 := hi
      rw [mar_ne (by decide)]
      exact p4 i (by omega) j
    · refine pc.to ?_ ?_ ?_ ?_ ?_ ?_ rfl
      · rw [upd_ne (by decide), upd_ne (by decide)]
      · rw [upd_ne (by decide), upd_ne (by decide)]
      · rw [upd_ne (by decide), upd_ne (by decide)]
      · rw [upd_ne (by decide), upd_ne (by decide)]
      · rw [mar_ne (by decide)]
      · rw [mar_ne (by decide)]
theorem aT_undo : aT (pUndo P) = aT P := by
  unfold pUndo
  split <;> rfl
theorem law_54 (h : LI ad G k c1 t1 t2 t3 t4 s n P) (hn : 5 * k + 5 ≤ n) (hn2 : n ≤ 120) (hJ : ∀ G' P', LI ad G' (k + 1) c1 t1 t2 t3 t4 s n P' → J28 G' (some c1) t1 t2 t3 t4 (nI (5 * k) + (5 : Int32))) : wp_X0_undo ad G (some t1) (some t3) X (fun r425 G424 => (gIs G424 t2 0 ∧ wp_X3_undo ad G424 t2  X (fun r427 G426 => (gIs G426 t2 0 ∧ wp_X3_thrown ad G426 t2  X (fun r429 G428 => (r429 = r425 → (¬ r425 = (0 : Int32) → wp_L_law_2829 ad X K J28 G428 c1 t1 t2 t3 t4 (nI (5 * k))) ∧ (r425 = (0 : Int32) → wAldL G428 t3 (0 : Int32) fun i430 => ((lg_cmp i430 ((r427).toInt64)) = (0 : Int32) → wp_L_law_2829 ad X K J28 G428 c1 t1 t2 t3 t4 (nI (5 * k))) ∧ (¬ (lg_cmp i430 ((r427).toInt64)) = (0 : Int32) → K (0 : Int32) G428))) ∧ (¬ r429 = r425 → K (0 : Int32) G428)))))) := by
  have hR := h.r hn hn2
  have hN := fun (tx c : Nat) (P' : pA) (G5 G8 : gS) (τ : Int32) => h.next (tx := tx) (c := c) (P' := P') (G5 := G5) (G8 := G8) (τ := τ) hn hn2
  obtain ⟨hk, hb, ⟨c, hc, hct⟩, hm, ⟨g3, h3⟩, h4, hs, -⟩ := h
  have hi := hc.hi
  refine sp_X0_undo hc (hR.le (by omega)) h3 fun G5 x => ?_
  have hs5 := x.1.old (Or.inl ⟨_, _, h3⟩) hs
  have hm5 := x.1.mi (Or.inl ⟨_, _, h3⟩) hm
  refine sm3_undo hm5 fun G8 m8 => ?_
  obtain ⟨xf, g5, h5, e5⟩ := x
  refine sp_tail m8 rfl (m8.1.l h5) (fun e => ?_) ?_
  · rw [e5 e, if_pos e]
  · exact hJ _ _ (hN t3 _ _ _ _ _ xf (Or.inl ⟨_, _, h3⟩) ⟨_, h5⟩ (xf.d h3 h4) m8 (by rw [aT_undo]; omega))
def pSave (P : pA) : pA := (aF P, some (aF P), P.2.2)
theorem CI.put (hc : CI ad G t1 c P) {h : Nat} {sn : Option Nat} {l sb os : Nat} {e x : Int32} {G2 : gS} (h1 : G.1 t1 = some (gO true 1 [va_rf (some h), va_rf sn, va_rf (some l), va_rf (some sb), .int (aE P), .int (aX P), va_rf (some os)])) (ss : ∀ b, b ≠ t1 → G2.1 b = G.1 b) : ∀ b d, G.1 b = some d → ¬ tK G b → G2.1 b = some d := fun b d hb hd => by
  rw [ss b (fun z => by subst z; exact hd ⟨_, _, h1, Or.inl rfl⟩)]
  exact hb
theorem sp_X1_save (hc : CI ad G t1 c P) {K : Int32 → gS → Prop} (k : ∀ G', gTo (tK G) 0 0 G G' → CI ad G' t1 c (pSave P) → K (aF P 11) G') : gIs G t1 1 ∧ wp_X1_save ad G t1 X K := by
  refine ⟨hc.is, ?_⟩
  have hc0 := hc
  obtain ⟨h, sn, l, sb, os, h1, h2, h3', ⟨a, it, h4, h5, h6⟩, h7⟩ := hc
  unfold wp_X1_save
  refine wGetQ_of h1 (x := some h) rfl (wPut_sC h1 (ltb rfl) rfl fun G2 t2 => ?_)
  have hall : ∀ b d, G.1 b = some d → ¬ tK G b → G2.1 b = some d := hc0.put (e := 0) (x := 0) h1 t2.2.1
  have hc2 : CI ad G2 t1 c (pSave P) := by
    refine ⟨h, some h, l, sb, os, t2.1, ?_, ⟨fun z => (by cases z), fun f hf => ⟨h, rfl, ?_⟩⟩, ⟨a, it, h4.to fun b d hb hd => ?_, h5, fun i hi => ?_⟩, ?_⟩
    · exact h2.to fun b d hb hd => hall b d hb (hCl2.tk hb hd)
    · cases hf
      exact h2.to fun b d hb hd => hall b d hb (hCl2.tk hb hd)
    · rw [t2.2.1 b (fun z => ?_)]
      · exact hd
      · obtain ⟨ci, fs, e, q⟩ := h4.cell hb
        rw [z, h1] at e
        cases e
        omega
    · exact (h6 i hi).to fun b d hb hd => hall b d hb (hCl2.tk hb hd)
    · refine h7.to fun b d hb hd => hall b d hb ?_
      rintro ⟨ci, fs, e, q⟩
      rw [hb] at e
      cases e
      rcases hd with ⟨_, _, _, e⟩ | ⟨_, _, _, e, q2⟩
      · cases e
      · cases e; omega
  exact sp_X1_openContracts hc2 (k G2 (t2.to (T := tK G) h1 ⟨_, _, h1, Or.inl rfl⟩) hc2)
theorem sm3_save (hm : MI G t2 P) {K : Int32 → gS → Prop} (k : ∀ G', MR G t2 (pSave P) 0 G' → K (aF P 11) G') : gIs G t2 0 ∧ wp_X3_save ad G t2 X K := by
  obtain ⟨B, I, V, h, ⟨p0, p5, p3⟩, ⟨p6, p8, p4⟩, pc⟩ := hm
  refine ⟨h.is, ?_⟩
  unfold wp_X3_save
  refine mPut h (by decide) fun G1 h1 => mQ h1 m0 (mQ h1 m3 (sm_copy h1 m0 m3 (by decide) rfl rfl fun G2 h2 => mPut h2 (by decide) fun G3 h3 => mQ h3 m0 (wNN_of (mLd h3 m0 (j := 11) rfl (by decide) ?_))))
  rw [mar_ne (by decide), p0]
  refine k G3 (MR.of h h3 ⟨⟨?_, ?_, ?_⟩, ⟨?_, p8, ?_⟩, ?_⟩ (by rw [upd_ne (by decide), upd_self]))
  · rw [mar_ne (by decide)]; exact p0
  · rw [upd_self]; rfl
  · intro f hf
    cases hf
    rw [mar_self]; exact p0
  · rw [upd_ne (by decide), upd_ne (by decide)]; exact p6
  · intro i hi j
    rw [mar_ne (by decide)]
    exact p4 i hi j
  · refine pc.to ?_ ?_ ?_ ?_ ?_ ?_ rfl
    · rw [upd_ne (by decide), upd_ne (by decide)]
    · rw [upd_ne (by decide), upd_ne (by decide)]
    · rw [upd_ne (by decide), upd_ne (by decide)]
    · rw [upd_ne (by decide), upd_ne (by decide)]
    · rw [mar_ne (by decide)]
    · rw [mar_ne (by decide)]
theorem law_55 (h : LI ad G k c1 t1 t2 t3 t4 s n P) (hn : 5 * k + 5 ≤ n) (hn2 : n ≤ 120) (hJ : ∀ G' P', LI ad G' (k + 1) c1 t1 t2 t3 t4 s n P' → J28 G' (some c1) t1 t2 t3 t4 (nI (5 * k) + (5 : Int32))) : (gIs G t1 1 ∧ wp_X1_save ad G t1  X (fun r432 G431 => (gIs G431 t2 0 ∧ wp_X3_save ad G431 t2  X (fun r434 G433 => (r432 = r434 → wp_L_law_2889 ad X K J28 G433 c1 t1 t2 t3 t4 (nI (5 * k))) ∧ (¬ r432 = r434 → K (0 : Int32) G433))))) := by
  have hR := h.r hn hn2
  have hN := fun (tx c : Nat) (P' : pA) (G5 G8 : gS) (τ : Int32) => h.next (tx := tx) (c := c) (P' := P') (G5 := G5) (G8 := G8) (τ := τ) hn hn2
  obtain ⟨hk, hb, ⟨c, hc, hct⟩, hm, ⟨g3, h3⟩, h4, hs, -⟩ := h
  have hi := hc.hi
  refine sp_X1_save hc fun G5 s hc5 => ?_
  have hx : XF ad G t1 t3 c (pSave P) G5 := ⟨hc5, fun b e hb hn _ => s.1 b e hb fun z => hn (Or.inl z), by have := s.2.2.1; omega, by have := s.2.2.2; omega⟩
  refine sm3_save (hx.mi (Or.inl ⟨_, _, h3⟩) hm) fun G8 m8 => ⟨fun _ => ?_, fun z => absurd rfl z⟩
  exact hJ _ _ (hN t3 _ _ _ _ _ hx (Or.inl ⟨_, _, h3⟩) ⟨_, s.1 _ _ h3 fun z => tS.n_l h3 (Or.inl z)⟩ (hx.d h3 h4) m8 (by show c + (aT P).length ≤ k + 1; omega))
def pRestore (P : pA) : pA := match aS P with
  | none => P
  | some f => (f, some f, (0, aH P), P.2.2.2)
theorem sp_X0_restore (hc : CI ad G t1 c P) (hR : rm G 200) {g0 : Nat → Int64} (h3 : G.1 t3 = some (gAl true 1 g0)) {K : Int32 → gS → Prop} (k : ∀ G5, XR ad G t1 t3 c (pRestore P) (qc (aS P).isSome) (aF (pRestore P) 11) G5 → K (qc (aS P).isSome) G5) : wp_X0_restore ad G (some t1) (some t3) X K := by
  unfold wp_X0_restore wp_X0_restore_11
  refine wNN_of ⟨hc.is, ?_⟩
  have hc0 := hc
  have hR1 := hR.1
  have hR2 := hR.2
  obtain ⟨h, sn, l, sb, os, h1, h2, ⟨hs0, hs1⟩, ⟨a, it, h4, h5, h6⟩, h7⟩ := hc
  unfold wp_X1_restore wp_X1_restore_12
  refine wGetQ_of h1 (x := sn) rfl ?_
  cases e : aS P with
  | none =>
    have eu : pRestore P = P := by rw [pRestore, e]
    rw [e, eu] at k
    rw [hs0 e]
    exact oN (sp_checkState (b := false) rfl (by omega) (by omega) (fun _ q G' fs s => ⟨⟨_, s.2.1⟩, xr_no hc0 h3 (s.f2 (by omega)) (by decide) k⟩) fun z => absurd z (by decide))
  | some f =>
    obtain ⟨s0, e1, hsf⟩ := hs1 f e
    have eu : pRestore P = (f, some f, (0, aH P), P.2.2.2) := by rw [pRestore, e]
    rw [e, eu] at k
    rw [e1] at h1 ⊢
    refine oS (sp_checkState (b := true) rfl (by omega) (by omega) (fun z => absurd z (by decide)) fun _ => wGetQ_of h1 (x := some s0) rfl (wPut_sC h1 (ltb rfl) rfl fun G2 t2 => wGetQ_of t2.1 (x := some l) rfl (wNN_of ?_)))
    have hall : ∀ b d, G.1 b = some d → ¬ tK G b → G2.1 b = some d := hc0.put (e := 0) (x := 0) h1 t2.2.1
    have l2 : LL G2 l (aN P) a it := h4.to fun b d hb hd => by
      rw [t2.2.1 b (fun z => ?_)]
      · exact hd
      · obtain ⟨ci, fs, e, q⟩ := h4.cell hb
        rw [z, h1] at e
        cases e
        omega
    refine sp_lclear l2 (by omega) fun G3 t3' l3 => ?_
    have hcell : ∀ b, LT l (aN P) a b → tK G b := fun b z => by
      obtain ⟨ci, fs, e, q⟩ := h4.cell z
      exact ⟨ci, fs, e, by omega⟩
    have hall3 : ∀ b d, G.1 b = some d → ¬ tK G b → G3.1 b = some d := fun b d hb hd => t3'.1 b d (hall b d hb hd) fun z => hd (hcell b z)
    have g3 : G3.1 t1 = some (gO true 1 [va_rf (some s0), va_rf (some s0), va_rf (some l), va_rf (some sb), .int (aE P), .int (aX P), va_rf (some os)]) := t3'.1 _ _ t2.1 fun z => by
      obtain ⟨ci, fs, e, q⟩ := h4.cell z
      rw [h1] at e
      cases e
      omega
    have tt : gTo (tK G) 0 0 G G3 := (t2.to (T := fun b => b = t1) h1 rfl).trans (T := tK G) t3' (fun b z => Or.inr (by subst z; exact ⟨_, _, h1, Or.inl rfl⟩)) (fun b z => Or.inr (hcell b z)) (Nat.le_refl _) (Nat.le_refl _)
    have hc3 : CI ad G3 t1 c (f, some f, (0, aH P), P.2.2.2) := by
      have hf3 : hH ad G3 s0 f c := hsf.to fun b d hb hd => hall3 b d hb (hCl2.tk hb hd)
      refine ⟨s0, some s0, l, sb, os, g3, hf3, ⟨fun z => (by cases z), fun f' hf => ⟨s0, rfl, ?_⟩⟩, ⟨a, it, l3, by show 0 ≤ 8; omega, fun i hi => absurd hi (Nat.not_lt_zero i)⟩, ?_⟩
      · cases hf
        exact hf3
      · refine h7.to fun b d hb hd => hall3 b d hb ?_
        rintro ⟨ci, fs, e, q⟩
        rw [hb] at e
        cases e
        rcases hd with ⟨_, _, _, e⟩ | ⟨_, _, _, e, q2⟩
        · cases e
        · cases e; omega
    exact sp_X1_openContracts hc3 (xr_st (tt.ts (by omega) (by omega)) h3 hc3 k)
theorem sm3_restore (hm : MI G t2 P) {K : Int32 → gS → Prop} (k : ∀ G', MR G t2 (pRestore P) (qc (aS P).isSome) G' → K (if qc (aS P).isSome = 0 then aF (pRestore P) 11 else 0) G') : gIs G t2 0 ∧ wp_X3_restore ad G t2 X K := by
  obtain ⟨B, I, V, h, hp⟩ := hm
  have hp0 := hp
  obtain ⟨⟨p0, p5, p3⟩, ⟨p6, p8, p4⟩, pc⟩ := hp
  refine ⟨h.is, ?_⟩
  unfold wp_X3_restore
  refine mI h (by decide) ⟨h.is, sm_goes3' h (a := (aS P).isSome) p5 (fun e G' h' => ?_) (fun e G1 h1 => mQ h1 m3 (mQ h1 m0 (sm_copy h1 m3 m0 (by decide) rfl rfl fun G2 h2 => mPut h2 (by decide) fun G3 h3 => mQ h3 m0 (wNN_of (mLd h3 m0 (j := 11) rfl (by decide) ?_)))))⟩
  · cases e2 : aS P with
    | some f => rw [e2] at e; cases e
    | none =>
      have eu : pRestore P = P := by rw [pRestore, e2]
      rw [e2, eu] at k
      exact k G' (MR.of h h' hp0.t14 upd_self)
  · cases e2 : aS P with
    | none => rw [e2] at e; cases e
    | some f =>
      have eu : pRestore P = (f, some f, (0, aH P), P.2.2.2) := by rw [pRestore, e2]
      rw [e2, eu] at k
      have e3 := p3 f e2
      rw [mar_self, e3]
      refine k G3 (MR.of h h3 ⟨⟨?_, ?_, ?_⟩, ⟨?_, Nat.zero_le _, fun i hi => absurd hi (Nat.not_lt_zero i)⟩, ?_⟩ (by rw [upd_ne (by decide), upd_self]; rfl))
      · rw [mar_self]; exact e3
      · rw [upd_ne (by decide), upd_ne (by decide), p5, e2]
      · intro f' hf
        cases hf
        rw [mar_ne (by decide)]; exact e3
      · rw [upd_self]; rfl
      · refine pc.to ?_ ?_ ?_ ?_ ?_ ?_ rfl
        · rw [upd_ne (by decide), upd_ne (by decide)]
        · rw [upd_ne (by decide), upd_ne (by decide)]
        · rw [upd_ne (by decide), upd_ne (by decide)]
        · rw [upd_ne (by decide), upd_ne (by decide)]
        · rw [mar_ne (by decide)]
        · rw [mar_ne (by decide)]
theorem aT_restore : aT (pRestore P) = aT P := by
  unfold pRestore
  split <;> rfl
theorem law_56 (h : LI ad G k c1 t1 t2 t3 t4 s n P) (hn : 5 * k + 5 ≤ n) (hn2 : n ≤ 120) (hJ : ∀ G' P', LI ad G' (k + 1) c1 t1 t2 t3 t4 s n P' → J28 G' (some c1) t1 t2 t3 t4 (nI (5 * k) + (5 : Int32))) : wp_X0_restore ad G (some t1) (some t3) X (fun r436 G435 => (gIs G435 t2 0 ∧ wp_X3_restore ad G435 t2  X (fun r438 G437 => (gIs G437 t2 0 ∧ wp_X3_thrown ad G437 t2  X (fun r440 G439 => (r440 = r436 → (¬ r436 = (0 : Int32) → wp_L_law_2886 ad X K J28 G439 c1 t1 t2 t3 t4 (nI (5 * k))) ∧ (r436 = (0 : Int32) → wAldL G439 t3 (0 : Int32) fun i441 => ((lg_cmp i441 ((r438).toInt64)) = (0 : Int32) → wp_L_law_2886 ad X K J28 G439 c1 t1 t2 t3 t4 (nI (5 * k))) ∧ (¬ (lg_cmp i441 ((r438).toInt64)) = (0 : Int32) → K (0 : Int32) G439))) ∧ (¬ r440 = r436 → K (0 : Int32) G439)))))) := by
  have hR := h.r hn hn2
  have hN := fun (tx c : Nat) (P' : pA) (G5 G8 : gS) (τ : Int32) => h.next (tx := tx) (c := c) (P' := P') (G5 := G5) (G8 := G8) (τ := τ) hn hn2
  obtain ⟨hk, hb, ⟨c, hc, hct⟩, hm, ⟨g3, h3⟩, h4, hs, -⟩ := h
  have hi := hc.hi
  refine sp_X0_restore hc (hR.le (by omega)) h3 fun G5 x => ?_
  have hm5 := x.1.mi (Or.inl ⟨_, _, h3⟩) hm
  refine sm3_restore hm5 fun G8 m8 => ?_
  obtain ⟨xf, g5, h5, e5⟩ := x
  refine sp_tail m8 rfl (m8.1.l h5) (fun e => ?_) ?_
  · rw [e5 e, if_pos e]
  · exact hJ _ _ (hN t3 _ _ _ _ _ xf (Or.inl ⟨_, _, h3⟩) ⟨_, h5⟩ (xf.d h3 h4) m8 (by rw [aT_restore]; omega))
end LW
