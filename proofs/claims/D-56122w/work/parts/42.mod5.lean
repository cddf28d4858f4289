/-! PURE: the model's predictions and best wages -/
set_option maxRecDepth 20000
section MOD
variable {ad : Nat → Nat} {G0 G : gS} {m : Nat} {B : Nat → Nat} {I : Nat → Int32} {V : Nat → Nat → Int32} {X : Nat → gS → Prop} {f : pF}
/-- rows that are aside (trial, best) may be anything -/
def mEq (V V' : Nat → Nat → Int32) : Prop := ∀ a, a ≠ 2 → a ≠ 9 → V' a = V a
theorem sm_after (h : mSt G0 m B G I (mar V 0 f)) (hk : hK f) {n : Nat} (hn : n ≤ 60) {i : Int32} {j : Nat} (hi : i = nI j) (hj : j < 91) {K : Int32 → gS → Prop} (k : ∀ G' V', mEq (mar V 0 f) V' → mSt G0 m B G' I V' → K (pNights n f j) G') : wp_X3_after ad G m (nI n) i X K := by
  unfold wp_X3_after
  refine mQ h m0 (mQ h m2 (sm_copy h m0 m2 (by decide) rfl rfl fun G h => ?_))
  rw [mar_self, mar_comm (by decide)] at h
  have ok : ∀ r, hK (pNights r f) := by
    intro r
    induction r with
    | zero => exact hk
    | succ r ih => exact (pNight_ok ih).1
  refine gLoop_up n (fun r (ff : gS → Nat → Int32 → Int32 → Int32 → Prop) => ∀ G, mSt G0 m B G I (mar (mar V 2 f) 0 (pNights r f)) → ff G m (nI n) i (nI r)) ?_ gFuel 0 (by omega) (gFuel_lt (by omega)) G h
  intro r ff hr hs G h
  unfold wp_X3_after_15
  by_cases e : r = n
  · subst e
    refine brT (Int32.le_refl _) ?_
    unfold wp_X3_after_32
    refine mRd0 h hi hj (mQ h m2 (mQ h m0 (sm_copy h m2 m0 (by decide) rfl rfl fun G' h' => k G' _ ?_ h')))
    intro a h2 h9
    rw [mar_mar]
    by_cases e0 : a = 0
    · subst e0
      rw [mar_self, mar_self, mar_ne (by decide), mar_self]
    · rw [mar_ne e0, mar_ne h2, mar_ne e0]
  · refine brF (nI_ge (by omega) (by omega)) ⟨h.is, sm_passes h (ok r) fun G2 h2 => ?_⟩
    rw [← nI_succ]
    exact hs (by omega) G2 h2
theorem sm_chestAfter (h : mSt G0 m B G I (mar V 0 f)) (hk : hK f) {x : Int32} {K : Int32 → gS → Prop} (k0 : pIn x 0 60 = false → ∀ G', mSt G0 m B G' (upd I 14 1) (mar V 0 f) → K 0 G') (k : pIn x 0 60 = true → ∀ G' V', mEq (mar V 0 f) V' → mSt G0 m B G' (upd I 14 0) V' → K (pNights x.toNatClampNeg f 1) G') : wp_X3_chestAfter ad G m x X K := by
  unfold wp_X3_chestAfter
  refine sm_isIn ⟨h.is, sm_goes3 h rfl k0 fun q G' h' => ⟨h'.is, ?_⟩⟩
  have k2 := k q
  obtain ⟨n, -, hn, rfl⟩ := pIn_n (a := 0) (b := 60) rfl rfl (by omega) (by omega) q
  rw [nI_clamp (by omega)] at k2
  exact sm_after h' hk hn (j := 1) rfl (by decide) fun G2 V2 e2 h2 => k2 G2 V2 e2 h2
theorem sm_debtAfter (h : mSt G0 m B G I (mar V 0 f)) (hk : hK f) {g x : Int32} {K : Int32 → gS → Prop} (k0 : (pIn g 0 (f 9 - 1) && pIn x 0 60) = false → ∀ G', mSt G0 m B G' (upd I 14 (pHolds (pIn g 0 (f 9 - 1)) (pIn x 0 60) true true)) (mar V 0 f) → K 0 G') (k : (pIn g 0 (f 9 - 1) && pIn x 0 60) = true → ∀ G' V', mEq (mar V 0 f) V' → mSt G0 m B G' (upd I 14 0) V' → K (pNights x.toNatClampNeg f (28 + 5 * pGi f g)) G') : wp_X3_debtAfter ad G m g x X K := by
  unfold wp_X3_debtAfter
  refine ⟨h.is, sm_isGoblin h (sm_isIn ⟨h.is, sm_holds h rfl rfl (c := true) rfl (d := true) rfl fun G' h' => ?_⟩)⟩
  rw [Bool.and_true, Bool.and_true]
  refine bI_br (fun q => k0 q G' h') (fun q => ⟨h'.is, ?_⟩)
  have q : (pIn g 0 (f 9 - 1) && pIn x 0 60) = true := q
  have h2 : mSt G0 m B G' (upd I 14 (pHolds (pIn g 0 (f 9 - 1)) (pIn x 0 60) true true)) (mar V 0 f) := h'
  clear h'
  have k := k q
  rw [Bool.and_eq_true] at q
  rw [q.1, q.2] at h2
  obtain ⟨n, -, hn, rfl⟩ := pIn_n (a := 0) (b := 60) rfl rfl (by omega) (by omega) q.2
  rw [nI_clamp (by omega)] at k
  have hgi := pGi_lt (g := g) hk.1
  refine sm_place h2 hk.1 (j := 2) rfl ⟨h2.is, ?_⟩
  have ei : nI (26 + 5 * pGi (mar V 0 f 0) g + 2) = nI (28 + 5 * pGi f g) := by rw [mar_self]; congr 1; omega
  exact sm_after h2 hk hn ei (by omega) k
theorem sm_wasBroken {F F' : pF} (h' : mSt G0 m B G I (mar (mar V 2 f) 0 F')) (hk : hK f) (hk' : hK F') (hng : nG F' = nG f) {id : Int32} {w : Nat} (hw : pFind f id (nC f) = some w) {K : Int32 → gS → Prop} (k : K (bI (pWas f F F' id)) G) : wp_X3_wasBroken ad G m id (F 5) X K := by
  unfold wp_X3_wasBroken
  have h8 := hk.1.2.2.2
  let wh : Nat → Int32 := fun n => match pFind f id n with
    | none => -1
    | some w => f (52 + 5 * w)
  refine gLoop_up (nC f) (fun n (ff : gS → Nat → Int32 → Int32 → Int32 → Int32 → Prop) => ff G m id (F 5) (wh n) (nI n)) ?_ gFuel 0 (by omega) (gFuel_lt (by omega))
  intro n ff hn hs
  unfold wp_X3_wasBroken_5
  refine mRd h' m2 (i := 11) (j := 11) rfl (by decide) ?_
  have e2 : mar (mar V 2 f) 0 F' 2 = f := by rw [mar_ne (by decide), mar_self]
  rw [e2, hk.1.2.2.1]
  by_cases e : n = nC f
  · subst e
    refine brT (Int32.le_refl _) ?_
    unfold wp_X3_wasBroken_59
    have ewh : wh (nC f) = f (52 + 5 * w) := by show (match pFind f id (nC f) with | none => -1 | some w => f (52 + 5 * w)) = _; rw [hw]
    rw [ewh]
    obtain ⟨⟨g1, g2⟩, -⟩ := hk.2 w (pFind_lt hw).1
    rw [pWas, hw] at k
    have k : K (bI (decide (F 5 < F' 5) && decide (F' (30 + 5 * pN f (52 + 5 * w)) = 1))) G := k
    refine mRd0 h' (i := 5) (j := 5) rfl (by decide) ⟨fun q => ?_, fun q => ⟨h'.is, ?_⟩⟩
    · rw [decide_eq_false (Int32.not_lt.mpr q), Bool.false_and] at k
      exact k
    · rw [decide_eq_true (Int32.not_le.mp q), Bool.true_and] at k
      rw [g1]
      refine sm_ofK0 h' hk'.1 (n := pN f (52 + 5 * w)) (by rw [hng]; exact g2) (j := 4) rfl (by omega) (t := 30 + 5 * pN f (52 + 5 * w)) (by omega) ⟨fun q2 => ?_, fun q2 => ?_⟩
      · rw [decide_eq_false q2] at k; exact k
      · rw [decide_eq_true q2] at k; exact k
  · have hs := hs (by omega)
    refine brF (nI_ge (by omega) (by omega)) (mRd h' m2 (ixc (j := 0) rfl) (by show _ < 91; omega) ?_)
    rw [e2]
    unfold wp_X3_wasBroken_52
    have es : wh (n + 1) = if f (51 + 5 * n) = id then f (52 + 5 * n) else wh n := by
      show (match pFind f id (n + 1) with | none => -1 | some w => f (52 + 5 * w)) = _
      rw [pFind]
      split
      · rename_i q; split at q
        · cases q
        · rename_i q3; rw [if_neg q3]; show _ = (match pFind f id n with | none => -1 | some w => f (52 + 5 * w)); rw [q]
      · rename_i w' q; split at q
        · rename_i q3; cases q; rw [if_pos q3]
        · rename_i q3; rw [if_neg q3]; show _ = (match pFind f id n with | none => -1 | some w => f (52 + 5 * w)); rw [q]
    rw [es] at hs
    refine ⟨fun q => ?_, fun q => mRd h' m2 (ixc (j := 1) rfl) (by show _ < 91; omega) ?_⟩
    · rw [← nI_succ]
      have q : ¬ f (51 + 5 * n) = id := q
      rw [if_neg q] at hs
      exact hs
    · rw [e2, ← nI_succ]
      have q : f (51 + 5 * n) = id := q
      rw [if_pos q] at hs
      rw [show 51 + 5 * n + 1 = 52 + 5 * n by omega]
      exact hs
theorem sm_nightsUntilDone (h : mSt G0 m B G I (mar V 0 f)) (hk : hK f) {id : Int32} {K : Int32 → gS → Prop} (k0 : pFind f id (nC f) = none → ∀ G' V', mEq (mar V 0 f) V' → mSt G0 m B G' (upd I 14 1) V' → K 0 G') (k : ∀ w, pFind f id (nC f) = some w → ∀ G' V', mEq (mar V 0 f) V' → mSt G0 m B G' (upd I 14 (if pUntil f id 60 1 f = -1 then 2 else 0)) V' → K (if pUntil f id 60 1 f = -1 then 0 else pUntil f id 60 1 f) G') : wp_X3_nightsUntilDone ad G m id X K := by
  unfold wp_X3_nightsUntilDone
  have hlt : ∀ (F : pF), hK F → ∀ w, pFind F id (nC F) = some w → w < 2 ^ 31 := fun F hF w q => by have := (pFind_lt q).1; have := hF.1.2.2.2; omega
  have k107 : ∀ (G : gS) (F : pF) (io : Bool) (r : Int32), io = decide (pFind f id (nC f) ≠ none) → (io = true → r = pUntil f id 60 1 f) → mSt G0 m B G I (mar (mar V 2 f) 0 F) → wp_X3_nightsUntilDone_107 ad X K G m (bI io) r := by
    intro G F io r hio hr h
    unfold wp_X3_nightsUntilDone_107
    refine mQ h m2 (mQ h m0 (sm_copy h m2 m0 (by decide) rfl rfl fun G2 h2 => ?_))
    rw [mar_mar, mar_ne (by decide), mar_self] at h2
    have eV : mEq (mar V 0 f) (mar (mar V 2 f) 0 f) := by
      intro a a2 a9
      by_cases e0 : a = 0
      · subst e0; rw [mar_self, mar_self]
      · rw [mar_ne e0, mar_ne a2, mar_ne e0]
    have go : ∀ y, y = bI (decide (r ≠ -1)) → wp_X3_nightsUntilDone_132 ad X K G2 r y (bI io) m := by
      intro y hy
      unfold wp_X3_nightsUntilDone_132
      refine ⟨h2.is, sm_holds h2 rfl hy (c := true) rfl (d := true) rfl fun G3 h3 => ?_⟩
      rw [Bool.and_true, Bool.and_true]
      cases hio2 : io with
      | false =>
        rw [hio2] at h3 hio
        have e0 : pFind f id (nC f) = none := by
          have := of_decide_eq_false hio.symm
          exact Classical.byContradiction fun q => this q
        exact ⟨fun _ => k0 e0 G3 _ eV h3, fun q => absurd rfl q⟩
      | true =>
        rw [hio2] at h3 hio
        have e0 : pFind f id (nC f) ≠ none := of_decide_eq_true hio.symm
        obtain ⟨w, hw⟩ := Option.ne_none_iff_exists'.mp e0
        have hr := hr hio2
        rw [← hr] at k
        by_cases q : r = -1
        · have kk := k w hw G3 _ eV (by rw [if_pos q]; rw [decide_eq_false (fun z => z q)] at h3; exact h3)
          rw [if_pos q] at kk
          rw [decide_eq_false (fun z => z q)]
          exact ⟨fun _ => kk, fun q => absurd rfl q⟩
        · have kk := k w hw G3 _ eV (by rw [if_neg q]; rw [decide_eq_true q] at h3; exact h3)
          rw [if_neg q] at kk
          rw [decide_eq_true q]
          exact ⟨fun q => absurd q (by decide), fun _ => kk⟩
    refine ⟨fun q => go _ ?_, fun q => go _ ?_⟩
    · rw [decide_eq_false (fun z => z q)]; rfl
    · rw [decide_eq_true q]; rfl
  have k14 : ∀ io : Bool, io = decide (pFind f id (nC f) ≠ none) → wp_X3_nightsUntilDone_14 ad X K G m id (bI io) := by
    intro io hio
    unfold wp_X3_nightsUntilDone_14
    refine mQ h m0 (mQ h m2 (sm_copy h m0 m2 (by decide) rfl rfl fun G h => ?_))
    rw [mar_self, mar_comm (by decide)] at h
    cases hw : pFind f id (nC f) with
    | none =>
      have hiof : io = false := by rw [hio]; exact decide_eq_false (fun z => z hw)
      -- not open: the loop ends at once
      refine gLoop_up 60 (fun r (ff : gS → Nat → Int32 → Int32 → Int32 → Int32 → Prop) => r = 0 → ff G m id (bI io) (-1) (nI (r + 1))) ?_ gFuel 0 (by omega) (gFuel_lt (by omega)) rfl
      rintro r ff - - rfl
      unfold wp_X3_nightsUntilDone_33
      refine brF (by decide) ⟨h.is, sm_find h hk.1 ?_⟩
      rw [mar_self, hw]
      exact brT rfl (k107 G f io (-1) hio (fun q => by rw [hiof] at q; cases q) h)
    | some w =>
      have hiot : io = true := by rw [hio, decide_eq_true]; rw [hw]; exact fun z => by cases z
      refine gLoop_up 60 (fun r (ff : gS → Nat → Int32 → Int32 → Int32 → Int32 → Prop) => ∀ G F fo, mSt G0 m B G I (mar (mar V 2 f) 0 F) → hK F → nG F = nG f → ((pFind F id (nC F) ≠ none ∧ fo = -1 ∧ pUntil f id (60 - r) (r + 1) F = pUntil f id 60 1 f) ∨ (pFind F id (nC F) = none ∧ fo = pUntil f id 60 1 f)) → ff G m id (bI io) fo (nI (r + 1))) ?_ gFuel 0 (by omega) (gFuel_lt (by omega)) G f (-1) h hk rfl (Or.inl ⟨(by rw [hw]; exact fun z => (by cases z)), rfl, rfl⟩)
      intro r ff hr hs G F fo h hkF hgF hfF
      unfold wp_X3_nightsUntilDone_33
      by_cases er : r = 60
      · subst er
        refine brT (by decide) (k107 G F io fo hio (fun _ => ?_) h)
        rcases hfF with ⟨-, h2, h3⟩ | ⟨-, h2⟩
        · rw [h2, ← h3]; rfl
        · exact h2
      · refine brF (nI_nlt (b := r + 1) (a := 60) (by omega) (by omega)) ⟨h.is, sm_find h hkF.1 ?_⟩
        rw [mar_self]
        rcases hfF with ⟨h1, h2, h3⟩ | ⟨h1, h2⟩
        · have hne : ¬ oI (pFind F id (nC F)) = -1 := fun z => h1 ((oI_ne (hlt F hkF)).mp z)
          refine brF hne (mRd0 h (i := 5) (j := 5) rfl (by decide) ⟨h.is, sm_passes h hkF fun G2 hh2 => ⟨hh2.is, ?_⟩⟩)
          obtain ⟨kN, gN, -⟩ := pNight_ok hkF
          have hs := hs (by omega)
          obtain ⟨r', hr'⟩ : ∃ r', 60 - r = r' + 1 := ⟨59 - r, by omega⟩
          have er' : 60 - (r + 1) = r' := by omega
          rw [hr', pUntil] at h3
          rw [er'] at hs
          refine sm_find hh2 kN.1 ?_
          rw [mar_self]
          unfold wp_X3_nightsUntilDone_77 wp_X3_nightsUntilDone_99 wp_X3_nightsUntilDone_100
          by_cases hg : pFind (pNight F) id (nC (pNight F)) = none
          · rw [if_pos hg] at h3
            refine brT' ((oI_ne (hlt _ kN)).mpr hg) (brF (by decide) ⟨hh2.is, sm_wasBroken (F := F) (F' := pNight F) hh2 hk kN (gN.trans hgF) hw ?_⟩)
            refine bI_br' (fun q => ?_) (fun q => ?_)
            · rw [q, if_pos rfl] at h3
              rw [← nI_succ]
              exact hs G2 (pNight F) fo hh2 kN (gN.trans hgF) (Or.inr ⟨hg, by rw [h2]; exact h3⟩)
            · rw [q, if_neg (by decide)] at h3
              rw [← nI_succ]
              exact hs G2 (pNight F) (nI (r + 1)) hh2 kN (gN.trans hgF) (Or.inr ⟨hg, h3⟩)
          · rw [if_neg hg] at h3
            refine brF' (fun z => hg ((oI_ne (hlt _ kN)).mp z)) (brT rfl ?_)
            rw [← nI_succ]
            exact hs G2 (pNight F) fo hh2 kN (gN.trans hgF) (Or.inl ⟨hg, h2, h3⟩)
        · rw [h1]
          exact brT rfl (k107 G F io fo hio (fun _ => h2) h)
  exact ⟨h.is, sm_find h hk.1 ⟨fun q => k14 false (by rw [decide_eq_false (fun z => z ((oI_ne (hlt f hk)).mp q))]), fun q => k14 true (by rw [decide_eq_true (show pFind f id (nC f) ≠ none from fun z => q ((oI_ne (hlt f hk)).mpr z))])⟩⟩
end MOD
