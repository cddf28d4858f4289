/-! PURE: ArrayList, writing -/
set_option maxRecDepth 20000
/-- a list that may be written: its array is its own, or the shared empty one -/
def AW (ad : Nat → Nat) (G : gS) (a ar n cap : Nat) (f : Nat → Option Nat) : Prop := ∃ (mc : Int32) (wa : Bool), G.1 a = some (gO true 3 [.int mc, va_rf (some ar), .int (nI n)]) ∧ G.1 ar = some (gAq wa cap f) ∧ n ≤ cap ∧ cap < 65536 ∧ ((wa = true ∧ 0 < cap ∧ ar ≠ ad 2) ∨ (ar = ad 2 ∧ cap = 0))
theorem AW.al {ad : Nat → Nat} {G : gS} {a ar n cap : Nat} {f : Nat → Option Nat} (h : AW ad G a ar n cap f) : AL G true a ar n cap f := by
  obtain ⟨mc, wa, h1, h2, h3, h4, -⟩ := h
  exact ⟨mc, wa, h1, h2, h3, h4⟩
section AW
variable {ad : Nat → Nat} {G : gS} {a ar n cap : Nat} {f : Nat → Option Nat} {X : Nat → gS → Prop}
theorem AW.ne {ad : Nat → Nat} (h : AW ad G a ar n cap f) : ar ≠ a := by
  obtain ⟨mc, wa, h1, h2, -⟩ := h
  intro e
  rw [e, h1] at h2
  cases h2
/-- one more at the end: there is room, or the list is quite empty (then an array of ten is made) -/
theorem sp_add (h : AW ad G a ar n cap f) {o : Option Nat} (ho : gOkQ G o) (hr : n < cap ∨ (cap = 0 ∧ 1 ≤ G.2.1 ∧ 10 ≤ G.2.2)) {K : Int32 → gS → Prop}
    (k : ∀ G' ar' cap' f', gTo (fun b => b = a ∨ (b = ar ∧ 0 < cap)) (if cap = 0 then 1 else 0) (if cap = 0 then 10 else 0) G G' → AW ad G' a ar' (n + 1) cap' f' → (∀ j, j < n → f' j = f j) → f' n = o → (cap = 0 → cap' = 10 ∧ G.1 ar' = none) → (0 < cap → cap' = cap ∧ ar' = ar) → K 1 G') : wp_J2_add ad G a o X K := by
  have hne := h.ne
  obtain ⟨mc, wa, h1, h2, h3, h4, h5⟩ := h
  refine wGetI_of h1 rfl (wPut_of h1 (by simp) ?_)
  have g1 : (gSet G a (gO true 3 ([.int mc, va_rf (some ar), .int (nI n)].set 0 (.int (mc + 1))))).1 a = some (gO true 3 [.int (mc + 1), va_rf (some ar), .int (nI n)]) := gSet_self
  have g2 : (gSet G a (gO true 3 ([.int mc, va_rf (some ar), .int (nI n)].set 0 (.int (mc + 1))))).1 ar = some (gAq wa cap f) := by rw [gSet_ne hne]; exact h2
  have t1 : gTo (fun b => b = a ∨ (b = ar ∧ 0 < cap)) 0 0 G (gSet G a (gO true 3 ([.int mc, va_rf (some ar), .int (nI n)].set 0 (.int (mc + 1))))) := gTo_set h1 (Or.inl rfl)
  have ho1 : gOkQ (gSet G a (gO true 3 ([.int mc, va_rf (some ar), .int (nI n)].set 0 (.int (mc + 1))))) o := fun b hb => by
    obtain ⟨w9, c9, f9, h9⟩ := ho b hb
    by_cases e : b = a
    · subst e; exact gIsO_of gSet_self
    · exact ⟨w9, c9, f9, by rw [gSet_ne e]; exact h9⟩
  have b1 : (gSet G a (gO true 3 ([.int mc, va_rf (some ar), .int (nI n)].set 0 (.int (mc + 1))))).2 = G.2 := rfl
  generalize gSet G a (gO true 3 ([.int mc, va_rf (some ar), .int (nI n)].set 0 (.int (mc + 1)))) = G1 at *
  refine wGetQ_of g1 rfl (wGetI_of g1 rfl ⟨gIs_of g1, ?_⟩)
  refine wNN_of (wLen_of g2 (by decide) ⟨fun hq => ?_, fun hq => ?_⟩)
  · have hlt : n < cap := by
      rcases Nat.lt_or_ge n cap with q | q
      · exact q
      · exact absurd (by rw [Nat.le_antisymm h3 q]) hq
    obtain ⟨rfl, hc, hd⟩ : wa = true ∧ 0 < cap ∧ ar ≠ ad 2 := by
      rcases h5 with q | q
      · exact q
      · omega
    refine wNN_of (wAstQ_of g2 (vp_in_nI hlt (by omega)) ho1 ?_)
    rw [nI_clamp (by omega)]
    refine wPut_of (fs := [.int (mc + 1), va_rf (some ar), .int (nI n)]) (by rw [gSet_ne (Ne.symm hne)]; exact g1) (by simp) ?_
    refine k _ ar cap (va_up f n o) ?_ ?_ ?_ ?_ (fun q => by omega) (fun _ => ⟨rfl, rfl⟩)
    · rw [if_neg (by omega), if_neg (by omega)]
      refine t1.trans (T2 := fun b => b = a ∨ (b = ar ∧ 0 < cap)) ((gTo_set (T := fun b => b = a ∨ (b = ar ∧ 0 < cap)) g2 (Or.inr ⟨rfl, hc⟩)).trans (T2 := fun b => b = a ∨ (b = ar ∧ 0 < cap)) (gTo_set (by rw [gSet_ne (Ne.symm hne)]; exact g1) (Or.inl rfl)) (fun b q => Or.inr q) (fun b q => Or.inr q) (Nat.le_refl _) (Nat.le_refl _)) (fun b q => Or.inr q) (fun b q => Or.inr q) (Nat.le_refl _) (Nat.le_refl _)
    · refine ⟨mc + 1, true, ?_, ?_, hlt, h4, Or.inl ⟨rfl, hc, hd⟩⟩
      · rw [gSet_self, nI_succ]; rfl
      · rw [gSet_ne hne, gSet_self]
    · intro j hj
      simp [va_up, Nat.ne_of_lt hj]
    · simp [va_up]
  · have hnc : n = cap := (nI_eq (by omega) (by omega)).mp hq
    subst hnc
    obtain ⟨rfl, hb1, hb2⟩ : n = 0 ∧ 1 ≤ G.2.1 ∧ 10 ≤ G.2.2 := by
      rcases hr with q | q
      · omega
      · exact q
    have har : ar = ad 2 := by
      rcases h5 with q | q
      · omega
      · exact q.1
    refine ⟨gIs_of g1, wGetI_of g1 rfl ⟨gIs_of g1, ?_⟩⟩
    refine wGetQ_of g1 rfl (wNN_of (wLen_of g2 (by decide) ⟨fun q => absurd q (show ¬ (0 : Int32) < nI 0 by decide), fun _ => wGetQ_of g1 rfl ⟨fun _ => ?_, fun q => absurd (by rw [har]) q⟩⟩))
    have h10 : (if (10 : Int32) < nI 0 + 1 then nI 0 + 1 else 10) = 10 := by decide
    rw [h10]
    have e10 : (10 : Int32).toNatClampNeg = 10 := by decide
    refine ⟨by decide, by decide, by rw [b1]; exact hb1, by rw [b1, e10]; exact hb2, fun c hc => ?_⟩
    rw [e10]
    have hca : c ≠ a := fun q => by rw [q, g1] at hc; cases hc
    have m1 : (gNew G1 c (gAq true 10 fun _ => none) 10).1 a = some (gO true 3 [.int (mc + 1), va_rf (some ar), .int (nI 0)]) := by rw [gNew_ne (Ne.symm hca)]; exact g1
    have m2 : (gNew G1 c (gAq true 10 fun _ => none) 10).1 c = some (gAq true 10 fun _ => none) := gNew_self
    have hcG : G.1 c = none := by
      cases hg : G.1 c with
      | none => rfl
      | some d => exact absurd hc (t1.2.1 c (by rw [hg]; intro q; cases q))
    have ho2 : gOkQ (gNew G1 c (gAq true 10 fun _ => none) 10) o := fun b hb => by
      obtain ⟨w9, c9, f9, h9⟩ := ho1 b hb
      exact ⟨w9, c9, f9, by rw [gNew_ne (fun e => by rw [e, hc] at h9; cases h9)]; exact h9⟩
    have t2 := gTo_new (T := fun b => b = a ∨ (b = ar ∧ 0 < 0)) (c := gAq true 10 fun _ => none) hc (by rw [b1]; exact hb1) (n := 10) (by rw [b1]; exact hb2)
    generalize gNew G1 c (gAq true 10 fun _ => none) 10 = M at *
    refine wPut_of m1 (by simp) ?_
    have s1 : (gSet M a (gO true 3 ([.int (mc + 1), va_rf (some ar), .int (nI 0)].set 1 (va_rf (some c))))).1 a = some (gO true 3 [.int (mc + 1), va_rf (some c), .int (nI 0)]) := gSet_self
    have s2 : (gSet M a (gO true 3 ([.int (mc + 1), va_rf (some ar), .int (nI 0)].set 1 (va_rf (some c))))).1 c = some (gAq true 10 fun _ => none) := by rw [gSet_ne hca]; exact m2
    have t3 : gTo (fun b => b = a ∨ (b = ar ∧ 0 < 0)) 0 0 M (gSet M a (gO true 3 ([.int (mc + 1), va_rf (some ar), .int (nI 0)].set 1 (va_rf (some c))))) := gTo_set m1 (Or.inl rfl)
    have ho3 : gOkQ (gSet M a (gO true 3 ([.int (mc + 1), va_rf (some ar), .int (nI 0)].set 1 (va_rf (some c))))) o := fun b hb => by
      obtain ⟨w9, c9, f9, h9⟩ := ho2 b hb
      by_cases e : b = a
      · subst e; exact gIsO_of gSet_self
      · exact ⟨w9, c9, f9, by rw [gSet_ne e]; exact h9⟩
    generalize gSet M a (gO true 3 ([.int (mc + 1), va_rf (some ar), .int (nI 0)].set 1 (va_rf (some c)))) = N at *
    refine wNN_of (wAstQ_of s2 (vp_in_nI (by decide) (by decide)) ho3 ?_)
    rw [nI_clamp (by decide)]
    refine wPut_of (fs := [.int (mc + 1), va_rf (some c), .int (nI 0)]) (by rw [gSet_ne (Ne.symm hca)]; exact s1) (by simp) ?_
    refine k _ c 10 (va_up (fun _ => none) 0 o) ?_ ?_ (fun j hj => by omega) (by simp [va_up]) (fun _ => ⟨rfl, hcG⟩) (fun q => by omega)
    · rw [if_pos rfl, if_pos rfl]
      have t4 := gTo_set (T := fun b => b = c) (c := gAq true 10 (va_up (fun _ => none) 0 o)) s2 rfl
      have t5 := gTo_set (T := fun b => b = a ∨ (b = ar ∧ 0 < 0)) (G := gSet N c (gAq true 10 (va_up (fun _ => none) 0 o))) (c := gO true 3 ([.int (mc + 1), va_rf (some c), .int (nI 0)].set 2 (.int (nI 0 + 1)))) (a := a) (by rw [gSet_ne (Ne.symm hca)]; exact s1) (Or.inl rfl)
      have c1 := t1.trans (T := fun b => b = a ∨ (b = ar ∧ 0 < 0)) t2 (fun b q => Or.inr q) (fun b q => Or.inr q) (Nat.le_refl _) (Nat.le_refl _)
      have c2 := c1.trans (T := fun b => b = a ∨ (b = ar ∧ 0 < 0)) t3 (fun b q => Or.inr q) (fun b q => Or.inr q) (Nat.le_refl _) (Nat.le_refl _)
      have c3 := c2.trans (T := fun b => b = a ∨ (b = ar ∧ 0 < 0)) t4 (fun b q => Or.inr q) (fun b q => Or.inl (by rw [q]; exact hcG)) (Nat.le_refl _) (Nat.le_refl _)
      exact c3.trans t5 (fun b q => Or.inr q) (fun b q => Or.inr q) (Nat.le_refl _) (Nat.le_refl _)
    · refine ⟨mc + 1, true, ?_, ?_, by decide, by decide, Or.inl ⟨rfl, by decide, fun q => ?_⟩⟩
      · rw [gSet_self]; rfl
      · rw [gSet_ne hca, gSet_self]
      · rw [q, ← har, h2] at hcG; cases hcG
end AW
