/-! PURE: the model's nights -/
set_option maxRecDepth 20000
/-- contracts point at goblins and rooms -/
def hK (f : pF) : Prop := hW f ∧ ∀ w, w < nC f → (f (52 + 5 * w) = nI (pN f (52 + 5 * w)) ∧ pN f (52 + 5 * w) < nG f) ∧ (f (53 + 5 * w) = nI (pN f (53 + 5 * w)) ∧ pN f (53 + 5 * w) ≤ 5)
theorem hJ.k {f : pF} {c d : Nat} (h : hJ f c d) : hK f := ⟨h.w, fun w hw => ⟨⟨(h.2.2.2.2.1.1 w hw).2.1.1.1, (h.2.2.2.2.1.1 w hw).2.1.2⟩, (h.2.2.2.2.1.1 w hw).2.2.1⟩⟩
section PU
variable {f : pF} {g : Int32} {a n w j : Nat}
theorem hK.pu (h : hK f) {v : Int32} (h8 : j ≠ 8) (h9 : j ≠ 9) (h11 : j ≠ 11) (h51 : j < 51) : hK (upd f j v) := by
  refine ⟨h.1.pu h8 h9 h11, fun w hw => ?_⟩
  rw [nC_upd h11] at hw
  rw [upd_ne (by omega), upd_ne (by omega), pN_upd (by omega), pN_upd (by omega), nG_upd h9]
  exact h.2 w hw
theorem pFrom_some (h : a < n) (e : f (52 + 5 * a) = g) (hb : ∀ j, j < a → f (52 + 5 * j) ≠ g) : ∀ r, r ≤ n → n - r ≤ a → pFrom f g n r = some a
  | 0, _, h2 => absurd h2 (by omega)
  | r + 1, h1, h2 => by
    rw [pFrom]
    by_cases q : n - (r + 1) = a
    · rw [q, if_pos e]
    · rw [if_neg (hb _ (by omega))]
      exact pFrom_some h e hb r (by omega) (by omega)
theorem pFrom_none (hb : ∀ j, j < n → f (52 + 5 * j) ≠ g) : ∀ r, r ≤ n → pFrom f g n r = none
  | 0, _ => rfl
  | r + 1, h1 => by
    rw [pFrom, if_neg (hb _ (by omega))]
    exact pFrom_none hb r (by omega)
theorem pFrom_inv : ∀ r, r ≤ n → pFrom f g n r = some a → (a < n ∧ n - r ≤ a) ∧ f (52 + 5 * a) = g ∧ ∀ j, n - r ≤ j → j < a → f (52 + 5 * j) ≠ g
  | 0, _, h => by cases h
  | r + 1, h1, h => by
    rw [pFrom] at h
    split at h
    · rename_i e
      cases h
      exact ⟨⟨by omega, Nat.le_refl _⟩, e, fun j h2 h3 => absurd h3 (by omega)⟩
    · rename_i e
      obtain ⟨⟨h2, h3⟩, h4, h5⟩ := pFrom_inv r (by omega) h
      refine ⟨⟨h2, by omega⟩, h4, fun j h6 h7 => ?_⟩
      by_cases q : j = n - (r + 1)
      · rw [q]; exact e
      · exact h5 j (by omega) h7
theorem pFrom_noneInv : ∀ r, r ≤ n → pFrom f g n r = none → ∀ j, n - r ≤ j → j < n → f (52 + 5 * j) ≠ g
  | 0, _, _ => fun j h2 h3 => absurd h3 (by omega)
  | r + 1, h1, h => by
    rw [pFrom] at h
    split at h
    · cases h
    · rename_i e
      intro j h2 h3
      by_cases q : j = n - (r + 1)
      · rw [q]; exact e
      · exact pFrom_noneInv r (by omega) h j (by omega) h3
theorem pFirst_some (h : a < nC f) (e : f (52 + 5 * a) = g) (hb : ∀ j, j < a → f (52 + 5 * j) ≠ g) : pFirst f g = some a := pFrom_some h e hb _ (Nat.le_refl _) (by omega)
theorem pFirst_none (hb : ∀ j, j < nC f → f (52 + 5 * j) ≠ g) : pFirst f g = none := pFrom_none hb _ (Nat.le_refl _)
theorem pFirst_inv (h : pFirst f g = some a) : a < nC f ∧ f (52 + 5 * a) = g ∧ ∀ j, j < a → f (52 + 5 * j) ≠ g := by
  obtain ⟨⟨h1, -⟩, h2, h3⟩ := pFrom_inv _ (Nat.le_refl _) h
  exact ⟨h1, h2, fun j hj => h3 j (by omega) hj⟩
theorem pFirst_noneInv (h : pFirst f g = none) : ∀ j, j < nC f → f (52 + 5 * j) ≠ g := fun j hj => pFrom_noneInv _ (Nat.le_refl _) h j (by omega) hj
theorem pDrop_hi (h : j ≠ 11) (h1 : 51 + 5 * w ≤ j) (h2 : j < 86) : pDrop f w j = f (j + 5) := by
  simp only [pDrop]
  rw [if_neg h, if_pos ⟨h1, h2⟩]
theorem nC_drop (h : f 11 = nI (nC f)) (h8 : nC f ≤ 8) (hw : w < nC f) : nC (pDrop f w) = nC f - 1 ∧ pDrop f w 11 = nI (nC f - 1) := by
  have e : pDrop f w 11 = nI (nC f - 1) := by
    rw [pDrop_11, h]
    obtain ⟨k, hk⟩ := Nat.exists_eq_succ_of_ne_zero (by omega : nC f ≠ 0)
    rw [hk, nI_pred]; rfl
  refine ⟨?_, e⟩
  show (pDrop f w 11).toNatClampNeg = _
  rw [e, nI_clamp (by omega)]
theorem nG_drop : nG (pDrop f w) = nG f := by rw [nG, pN, pDrop_lo (by omega) (by omega)]; rfl
theorem nB_drop : nB (pDrop f w) = nB f := by rw [nB, pN, pDrop_lo (by omega) (by omega)]; rfl
theorem hW.drop (h : hW f) (hw : w < nC f) : hW (pDrop f w) := by
  obtain ⟨e1, e2⟩ := nC_drop h.2.2.1 h.2.2.2 hw
  have h8 := h.2.2.2
  exact ⟨by rw [nB_drop, pDrop_lo (by omega) (by omega)]; exact h.1, by rw [nG_drop, pDrop_lo (by omega) (by omega)]; exact h.2.1, by rw [e1, e2]; exact ⟨rfl, by omega⟩⟩
/-- what stands of contract j when w is gone -/
theorem pDrop_c (h8 : nC f ≤ 8) {i : Nat} (hi : i < 5) (hj : j < nC f - 1) : pDrop f w (51 + i + 5 * j) = f (51 + i + 5 * (if j < w then j else j + 1)) := by
  by_cases q : j < w
  · rw [if_pos q, pDrop_lo (by omega) (by omega)]
  · rw [if_neg q, pDrop_hi (by omega) (by omega) (by omega)]
    first | rfl | (congr 1; omega)
theorem hK.drop (h : hK f) (hw : w < nC f) : hK (pDrop f w) := by
  have h8 := h.1.2.2.2
  obtain ⟨e1, e2⟩ := nC_drop h.1.2.2.1 h8 hw
  refine ⟨h.1.drop hw, fun j hj => ?_⟩
  rw [e1] at hj
  have a1 := pDrop_c (f := f) (w := w) h8 (i := 1) (by omega) hj
  have a2 := pDrop_c (f := f) (w := w) h8 (i := 2) (by omega) hj
  have hh := h.2 (if j < w then j else j + 1) (by split <;> omega)
  rw [nG_drop, pN, pN, a1, a2]
  exact hh
/-- what stays through work -/
def pSm (f f' : pF) : Prop := hK f' ∧ f' 8 = f 8 ∧ f' 9 = f 9 ∧ f' 4 = f 4 ∧ f' 0 = f 0
theorem pSm.refl (h : hK f) : pSm f f := ⟨h, rfl, rfl, rfl, rfl⟩
theorem pSm.trans {f f' f'' : pF} (h : pSm f f') (h' : pSm f' f'') : pSm f f'' := ⟨h'.1, h'.2.1.trans h.2.1, h'.2.2.1.trans h.2.2.1, h'.2.2.2.1.trans h.2.2.2.1, h'.2.2.2.2.trans h.2.2.2.2⟩
theorem pSm.eG {f f' : pF} (h : pSm f f') : nG f' = nG f := by rw [nG, pN, h.2.2.1]; rfl
theorem pSm.pu (h : hK f) {v : Int32} (h0 : j ≠ 0) (h4 : j ≠ 4) (h8 : j ≠ 8) (h9 : j ≠ 9) (h11 : j ≠ 11) (h51 : j < 51) : pSm f (upd f j v) :=
  ⟨h.pu h8 h9 h11 h51, upd_ne (Ne.symm h8), upd_ne (Ne.symm h9), upd_ne (Ne.symm h4), upd_ne (Ne.symm h0)⟩
theorem pSm.drop (h : hK f) (hw : w < nC f) : pSm f (pDrop f w) := ⟨h.drop hw, pDrop_lo (by omega) (by omega), pDrop_lo (by omega) (by omega), pDrop_lo (by omega) (by omega), pDrop_lo (by omega) (by omega)⟩
theorem pSm.pay (h : hK f) {gg : Nat} (hg : gg < 5) {wage : Int32} : pSm f (pPay f gg wage) := by
  have a := pSm.pu (f := f) (j := 1) (v := f 1 + (pMin (f (28 + 5 * gg)) (pMin (f 1) wage) - pMin (f 1) wage)) h (by omega) (by omega) (by omega) (by omega) (by omega) (by omega)
  have b := a.trans (pSm.pu (j := 28 + 5 * gg) (v := f (28 + 5 * gg) - pMin (f (28 + 5 * gg)) (pMin (f 1) wage)) a.1 (by omega) (by omega) (by omega) (by omega) (by omega) (by omega))
  have c := b.trans (pSm.pu (j := 27 + 5 * gg) (v := f (27 + 5 * gg) + (pMin (f 1) wage - pMin (f (28 + 5 * gg)) (pMin (f 1) wage))) b.1 (by omega) (by omega) (by omega) (by omega) (by omega) (by omega))
  exact c.trans (pSm.pu (j := 6) (v := f 6 + (wage - pMin (f 1) wage)) c.1 (by omega) (by omega) (by omega) (by omega) (by omega) (by omega))
theorem pPay_hi {gg : Nat} (hg : gg < 5) {wage : Int32} (hj : 51 ≤ j) : pPay f gg wage j = f j := by
  rw [pPay, upd_ne (by omega), upd_ne (by omega), upd_ne (by omega), upd_ne (by omega)]
theorem pPay_11 {gg : Nat} (hg : gg < 5) {wage : Int32} : pPay f gg wage 11 = f 11 := by
  rw [pPay, upd_ne (by omega), upd_ne (by omega), upd_ne (by omega), upd_ne (by omega)]
theorem pSweep_hi {r : Nat} (hr : r < 6) {sw : Int32} (hj : 18 ≤ j ∨ j < 12) : pSweep f r sw j = f j := by
  rw [pSweep, upd_ne (by omega)]
theorem pSm.sweep (h : hK f) {r : Nat} (hr : r < 6) {sw : Int32} : pSm f (pSweep f r sw) := pSm.pu h (by omega) (by omega) (by omega) (by omega) (by omega) (by omega)
theorem pStep_ok (h : hK f) (hw : w < nC f) {sw : Int32} : pSm f (pStep f w sw) ∧ nC (pStep f w sw) = nC f - 1 ∧ (∀ j, 51 ≤ j → j < 51 + 5 * w → pStep f w sw j = f j) := by
  obtain ⟨⟨h1, h2⟩, h3, h4⟩ := h.2 w hw
  have h5 := h.1.2.1.2
  have a := pSm.sweep (r := pN f (53 + 5 * w)) h (by omega) (sw := sw)
  have b := a.trans (pSm.pay (gg := pN f (52 + 5 * w)) a.1 (by omega) (wage := f (54 + 5 * w)))
  have e11 : pPay (pSweep f (pN f (53 + 5 * w)) sw) (pN f (52 + 5 * w)) (f (54 + 5 * w)) 11 = f 11 := by rw [pPay_11 (by omega), pSweep_hi (by omega) (by omega)]
  have en : nC (pPay (pSweep f (pN f (53 + 5 * w)) sw) (pN f (52 + 5 * w)) (f (54 + 5 * w))) = nC f := by rw [nC, pN, e11]; rfl
  refine ⟨b.trans (pSm.drop b.1 (by rw [en]; exact hw)), ?_, fun j hj1 hj2 => ?_⟩
  · have := (nC_drop (w := w) b.1.1.2.2.1 b.1.1.2.2.2 (by rw [en]; exact hw)).1
    rw [en] at this
    exact this
  · rw [pStep, pDrop_lo (by omega) hj2, pPay_hi (by omega) hj1, pSweep_hi (by omega) (by omega)]
theorem pWorkL_ok {sw : Int32} : ∀ (r : Nat) (f : pF) (e m : Int32), hK f → pSm f (pWorkL g sw r f e m).1
  | 0, f, _, _, h => pSm.refl h
  | r + 1, f, e, m, h => by
    rw [pWorkL]
    cases q : pFirst f g with
    | none => exact pSm.refl h
    | some w =>
      show pSm f (if e < f (55 + 5 * w) then (f, m) else pWorkL g sw r (pStep f w sw) (e - f (55 + 5 * w)) (m + 1)).1
      by_cases q2 : e < f (55 + 5 * w)
      · rw [if_pos q2]; exact pSm.refl h
      · rw [if_neg q2]
        have a := (pStep_ok (sw := sw) h (pFirst_inv q).1).1
        exact a.trans (pWorkL_ok r _ _ _ a.1)
theorem pWork_ok (h : hK f) {gg : Nat} : pSm f (pWork f gg).1 := pWorkL_ok _ _ _ _ h
theorem pBr_ok (h : hK f) (hw : w < nC f) : pSm f (pBr f w) ∧ nC (pBr f w) = nC f - 1 ∧ (∀ j, 51 ≤ j → j < 51 + 5 * w → pBr f w j = f j) := by
  have a := pSm.drop h hw
  refine ⟨a.trans (pSm.pu a.1 (by omega) (by omega) (by omega) (by omega) (by omega) (by omega)), ?_, fun j h1 h2 => ?_⟩
  · rw [pBr, nC_upd (by omega)]; exact (nC_drop h.1.2.2.1 h.1.2.2.2 hw).1
  · rw [pBr, upd_ne (by omega), pDrop_lo (by omega) h2]
theorem pBreakL_ok : ∀ (r : Nat) (f : pF), hK f → pSm f (pBreakL g r f)
  | 0, f, h => pSm.refl h
  | r + 1, f, h => by
    rw [pBreakL]
    cases q : pFirst f g with
    | none => exact pSm.refl h
    | some w =>
      have a := (pBr_ok h (pFirst_inv q).1).1
      exact a.trans (pBreakL_ok r _ a.1)
theorem pNa_ok (h : hK f) {gg : Nat} (hg : gg < 5) {m : Int32} : pSm f (pNa f gg m).1 := by
  rw [pNa]
  split
  · exact pSm.pu h (by omega) (by omega) (by omega) (by omega) (by omega) (by omega)
  · have a := pSm.pu (j := 29 + 5 * gg) (v := 0) h (by omega) (by omega) (by omega) (by omega) (by omega) (by omega)
    exact a.trans (pWork_ok a.1)
theorem pNaL_ok (h : hK f) {m : Int32} : ∀ r, r ≤ 5 → pSm f (pNaL r f m).1
  | 0, _ => pSm.refl h
  | r + 1, hr => (pNaL_ok h r (by omega)).trans (pNa_ok (pNaL_ok h r (by omega)).1 (by omega))
theorem pNb_ok (h : hK f) {gg : Nat} (hg : gg < 5) : pSm f (pNb f gg) := by
  rw [pNb]
  have key : ∀ f', pSm f f' → pSm f (pGrow f' gg) := fun f' a => by
    have b := a.trans (pSm.pu (j := 28 + 5 * gg) (v := f' (28 + 5 * gg) + pMore f' gg) a.1 (by omega) (by omega) (by omega) (by omega) (by omega) (by omega))
    exact b.trans (pSm.pu (j := 7) (v := f' 7 + pMore f' gg) b.1 (by omega) (by omega) (by omega) (by omega) (by omega) (by omega))
  split
  · exact key _ (pSm.refl h)
  · exact key _ (pBreakL_ok _ _ h)
theorem pNbL_ok (h : hK f) : ∀ r, r ≤ 5 → pSm f (pNbL r f)
  | 0, _ => pSm.refl h
  | r + 1, hr => (pNbL_ok h r (by omega)).trans (pNb_ok (pNbL_ok h r (by omega)).1 (by omega))
theorem pDusty_ok (h : hK f) : hK (pDusty f) ∧ nG (pDusty f) = nG f ∧ pDusty f 4 = f 4 := by
  have e : ∀ j, (j < 12 ∨ 18 ≤ j) → pDusty f j = f j := fun j hj => by
    simp only [pDusty]
    rw [if_neg (by omega)]
  have eN : ∀ j, (j < 12 ∨ 18 ≤ j) → pN (pDusty f) j = pN f j := fun j hj => by rw [pN, e j hj]; rfl
  have e8 : nB (pDusty f) = nB f := eN 8 (by omega)
  have e9 : nG (pDusty f) = nG f := eN 9 (by omega)
  have e11 : nC (pDusty f) = nC f := eN 11 (by omega)
  refine ⟨⟨⟨by rw [e8, e 8 (by omega)]; exact h.1.1, by rw [e9, e 9 (by omega)]; exact h.1.2.1, by rw [e11, e 11 (by omega)]; exact h.1.2.2⟩, fun w hw => ?_⟩, e9, e 4 (by omega)⟩
  rw [e11] at hw
  rw [e _ (by omega), e _ (by omega), eN _ (by omega), eN _ (by omega), e9]
  exact h.2 w hw
end PU
section MOD
variable {ad : Nat → Nat} {G0 G : gS} {m : Nat} {B : Nat → Nat} {I : Nat → Int32} {V : Nat → Nat → Int32} {X : Nat → gS → Prop} {f : pF}
theorem sm_ofC0 (h : mSt G0 m B G I (mar V 0 f)) {n : Nat} (hn : n < 8) {x : Int32} {j : Nat} (hx : x = nI j) (hj : j < 5) {t : Nat} (ht : 51 + 5 * n + j = t) {K : Int32 → gS → Prop} (k : K (f t) G) : wp_X3_ofContract ad G m (nI n) x X K := sm_ofContract h hn hx hj ht k
theorem sm_ofK0 (h : mSt G0 m B G I (mar V 0 f)) (hw : hW f) {n : Nat} (hn : n < nG f) {x : Int32} {j : Nat} (hx : x = nI j) (hj : j < 5) {t : Nat} (ht : 26 + 5 * n + j = t) {K : Int32 → gS → Prop} (k : K (f t) G) : wp_X3_of ad G m (nI n) x X K := sm_ofK h hw hn hx hj ht k
theorem sm_placeK0 (h : mSt G0 m B G I (mar V 0 f)) (hw : hW f) {n : Nat} (hn : n < nG f) {x : Int32} {j : Nat} (hx : x = nI j) {t : Nat} (ht : 26 + 5 * n + j = t) {K : Int32 → gS → Prop} (k : K (nI t) G) : wp_X3_place ad G m (nI n) x X K := sm_placeK h hw hn hx ht k
theorem sm_pays (h : mSt G0 m B G I (mar V 0 f)) (hk : hK f) {w : Nat} (hw : w < nC f) {K : gS → Prop} (k : ∀ G', mSt G0 m B G' I (mar V 0 (pPay f (pN f (52 + 5 * w)) (f (54 + 5 * w)))) → K G') : wp_X3_pays ad G m (nI w) X K := by
  obtain ⟨⟨hg1, hg2⟩, -⟩ := hk.2 w hw
  have h8 := hk.1.2.2.2
  have h5 := hk.1.2.1.2
  generalize hg : pN f (52 + 5 * w) = g at *
  unfold wp_X3_pays
  refine ⟨h.is, sm_ofC0 h (n := w) (by omega) (j := 1) rfl (by omega) (t := 52 + 5 * w) (by omega) ⟨h.is, sm_ofC0 h (n := w) (by omega) (j := 3) rfl (by omega) (t := 54 + 5 * w) (by omega) (mRd0 h (i := 1) (j := 1) rfl (by decide) ⟨h.is, ?_⟩)⟩⟩
  rw [hg1]
  refine sm_ofK0 h hk.1 hg2 (j := 2) rfl (by omega) (t := 28 + 5 * g) (by omega) (mRw0 h (i := 1) (j := 1) (w := fun y => y + (pMin (f (28 + 5 * g)) (pMin (f 1) (f (54 + 5 * w))) - pMin (f 1) (f (54 + 5 * w)))) rfl (by decide) fun G2 h2 => ?_)
  have k2 := hk.pu (j := 1) (v := f 1 + (pMin (f (28 + 5 * g)) (pMin (f 1) (f (54 + 5 * w))) - pMin (f 1) (f (54 + 5 * w)))) (by omega) (by omega) (by omega) (by omega)
  have g2 : g < nG (upd f 1 (f 1 + (pMin (f (28 + 5 * g)) (pMin (f 1) (f (54 + 5 * w))) - pMin (f 1) (f (54 + 5 * w))))) := by rw [nG_upd (by omega)]; exact hg2
  refine mQ h2 m0 ⟨h2.is, sm_placeK0 h2 k2.1 g2 (j := 2) rfl (t := 28 + 5 * g) (by omega) (wNN_of (mLd0 h2 rfl (by omega) (mSa0 h2 rfl (by omega) fun G3 h3 => ?_)))⟩
  rw [upd_ne (by omega : 28 + 5 * g ≠ 1)] at h3
  have k3 := k2.pu (j := 28 + 5 * g) (v := f (28 + 5 * g) - pMin (f (28 + 5 * g)) (pMin (f 1) (f (54 + 5 * w)))) (by omega) (by omega) (by omega) (by omega)
  have g3 := g2
  rw [← nG_upd (w := 28 + 5 * g) (v := f (28 + 5 * g) - pMin (f (28 + 5 * g)) (pMin (f 1) (f (54 + 5 * w)))) (by omega)] at g3
  refine mQ h3 m0 ⟨h3.is, sm_placeK0 h3 k3.1 g3 (j := 1) rfl (t := 27 + 5 * g) (by omega) (wNN_of (mLd0 h3 rfl (by omega) (mSa0 h3 rfl (by omega) fun G4 h4 => ?_)))⟩
  rw [upd_ne (by omega : 27 + 5 * g ≠ 28 + 5 * g), upd_ne (by omega : 27 + 5 * g ≠ 1)] at h4
  refine mQ h4 m0 (wNN_of (mLd0 h4 (i := 6) (j := 6) rfl (by decide) ⟨h4.is, sm_ofC0 h4 (n := w) (by omega) (j := 3) rfl (by omega) (t := 54 + 5 * w) (by omega) (mSa0 h4 (j := 6) rfl (by decide) fun G5 h5 => k G5 ?_)⟩))
  rw [upd_ne (by omega : 6 ≠ 27 + 5 * g), upd_ne (by omega : 6 ≠ 28 + 5 * g), upd_ne (by omega : 6 ≠ 1), upd_ne (by omega : 54 + 5 * w ≠ 27 + 5 * g), upd_ne (by omega : 54 + 5 * w ≠ 28 + 5 * g), upd_ne (by omega : 54 + 5 * w ≠ 1)] at h5
  exact h5
theorem sm_works (h : mSt G0 m B G I (mar V 0 f)) (hk : hK f) {g : Nat} (hg : g < nG f) {K : Int32 → gS → Prop} (k : ∀ G', mSt G0 m B G' I (mar V 0 (pWork f g).1) → K (pWork f g).2 G') : wp_X3_works ad G m (nI g) X K := by
  unfold wp_X3_works
  have h5 := hk.1.2.1.2
  refine ⟨h.is, sm_energyOf h hk.1 hg ⟨h.is, sm_greatestPower h hk.1 ?_⟩⟩
  rw [mar_self]
  generalize hsw : (10 : Int32) + pGreat f (nB f) = sw
  generalize hR : pWork f g = R at k
  have hR0 : pWorkL (nI g) sw (nC f) f (pEnergy f g) 0 = R := by rw [← hR, ← hsw]; rfl
  refine gLoop_ms (fun mu (ff : gS → Nat → Int32 → Int32 → Int32 → Int32 → Int32 → Prop) => ∀ (G : gS) (f' : pF) (a r : Nat) (e mm : Int32), mSt G0 m B G I (mar V 0 f') → hK f' → nG f' = nG f → a ≤ nC f' → 2 * nC f' - a = mu → nC f' ≤ r → (∀ j, j < a → f' (52 + 5 * j) ≠ nI g) → pWorkL (nI g) sw r f' e mm = R → ff G m (nI g) e sw mm (nI a)) ?_ gFuel (2 * nC f) (gFuel_lt (by have := hk.1.2.2.2; omega)) G f 0 (nC f) (pEnergy f g) 0 h hk rfl (by omega) (by omega) (Nat.le_refl _) (fun j hj => absurd hj (by omega)) hR0
  intro mu ff hs G f' a r e mm h hk hng ha hmu hr hb hRr
  unfold wp_X3_works_20
  have h8 := hk.1.2.2.2
  refine mRd0 h (i := 11) (j := 11) rfl (by decide) ?_
  rw [hk.1.2.2.1]
  by_cases ea : a = nC f'
  · subst ea
    refine brT (Int32.le_refl _) ?_
    have : R = (f', mm) := by
      rw [← hRr]
      cases r with
      | zero => rfl
      | succ r => rw [pWorkL, pFirst_none hb]
    subst this
    exact k G h
  · refine brF (nI_ge (by omega) (by omega)) ⟨h.is, sm_ofC0 h (n := a) (by omega) (j := 1) rfl (by omega) (t := 52 + 5 * a) (by omega) ⟨fun q => ?_, fun q => ?_⟩⟩
    · have ef := pFirst_some (by omega) q hb
      obtain ⟨r', rfl⟩ := Nat.exists_eq_succ_of_ne_zero (by omega : r ≠ 0)
      rw [pWorkL, ef] at hRr
      have hRr : (if e < f' (55 + 5 * a) then (f', mm) else pWorkL (nI g) sw r' (pStep f' a sw) (e - f' (55 + 5 * a)) (mm + 1)) = R := hRr
      refine ⟨h.is, sm_ofC0 h (n := a) (by omega) (j := 4) rfl (by omega) (t := 55 + 5 * a) (by omega) ⟨fun q2 => ?_, fun q2 => ?_⟩⟩
      · rw [if_pos q2] at hRr
        subst hRr
        exact k G h
      · rw [if_neg q2] at hRr
        obtain ⟨⟨hg1, hg2⟩, hr1, hr2⟩ := hk.2 a (by omega)
        refine ⟨h.is, sm_ofC0 h (n := a) (by omega) (j := 4) rfl (by omega) (t := 55 + 5 * a) (by omega) ⟨h.is, sm_ofC0 h (n := a) (by omega) (j := 2) rfl (by omega) (t := 53 + 5 * a) (by omega) (mQ h m0 ?_)⟩⟩
        have e12 : (12 : Int32) + f' (53 + 5 * a) = nI (12 + pN f' (53 + 5 * a)) := by
          rw [hr1, show (12 : Int32) = nI 12 from rfl, nI_add]
        refine mRd0 h e12 (by omega) (wNN_of (mSa0 h e12 (by omega) fun G2 h2 => ⟨h2.is, ?_⟩))
        have h2 : mSt G0 m B G2 I (mar V 0 (pSweep f' (pN f' (53 + 5 * a)) sw)) := h2
        have k2 := pSm.sweep (r := pN f' (53 + 5 * a)) (sw := sw) hk (by omega)
        have eC : nC (pSweep f' (pN f' (53 + 5 * a)) sw) = nC f' := by rw [nC, pN, pSweep_hi (by omega) (by omega)]; rfl
        refine sm_pays h2 k2.1 (w := a) (by rw [eC]; omega) fun G3 h3 => ⟨h3.is, sm_drops h3 (w := a) (by omega) fun G4 h4 => ?_⟩
        have e52 : pN (pSweep f' (pN f' (53 + 5 * a)) sw) (52 + 5 * a) = pN f' (52 + 5 * a) := by rw [pN, pSweep_hi (by omega) (by omega)]; rfl
        rw [e52, pSweep_hi (j := 54 + 5 * a) (by omega) (by omega)] at h4
        have h4 : mSt G0 m B G4 I (mar V 0 (pStep f' a sw)) := h4
        obtain ⟨s1, s2, s3⟩ := pStep_ok (sw := sw) hk (w := a) (by omega)
        refine hs (2 * nC (pStep f' a sw) - a) (by rw [s2]; omega) G4 (pStep f' a sw) a r' _ _ h4 s1.1 (s1.eG.trans hng) (by rw [s2]; omega) rfl (by rw [s2]; omega) (fun j hj => ?_) hRr
        rw [s3 _ (by omega) (by omega)]
        exact hb j hj
    · rw [← nI_succ]
      refine hs (mu - 1) (by omega) G f' (a + 1) r e mm h hk hng (by omega) (by omega) hr (fun j hj => ?_) hRr
      by_cases ej : j = a
      · rw [ej]; exact q
      · exact hb j (by omega)
theorem sm_breaks (h : mSt G0 m B G I (mar V 0 f)) (hk : hK f) {g : Nat} {K : gS → Prop} (k : ∀ G', mSt G0 m B G' I (mar V 0 (pBreak f g)) → K G') : wp_X3_breaks ad G m (nI g) X K := by
  unfold wp_X3_breaks
  generalize hR : pBreak f g = R at k
  have hR0 : pBreakL (nI g) (nC f) f = R := hR
  refine gLoop_ms (fun mu (ff : gS → Nat → Int32 → Int32 → Prop) => ∀ (G : gS) (f' : pF) (a r : Nat), mSt G0 m B G I (mar V 0 f') → hK f' → a ≤ nC f' → 2 * nC f' - a = mu → nC f' ≤ r → (∀ j, j < a → f' (52 + 5 * j) ≠ nI g) → pBreakL (nI g) r f' = R → ff G m (nI g) (nI a)) ?_ gFuel (2 * nC f) (gFuel_lt (by have := hk.1.2.2.2; omega)) G f 0 (nC f) h hk (by omega) (by omega) (Nat.le_refl _) (fun j hj => absurd hj (by omega)) hR0
  intro mu ff hs G f' a r h hk ha hmu hr hb hRr
  unfold wp_X3_breaks_2
  have h8 := hk.1.2.2.2
  refine mRd0 h (i := 11) (j := 11) rfl (by decide) ?_
  rw [hk.1.2.2.1]
  by_cases ea : a = nC f'
  · subst ea
    refine brT (Int32.le_refl _) ?_
    have : R = f' := by
      rw [← hRr]
      cases r with
      | zero => rfl
      | succ r => rw [pBreakL, pFirst_none hb]
    subst this
    exact k G h
  · refine brF (nI_ge (by omega) (by omega)) ⟨h.is, sm_ofC0 h (n := a) (by omega) (j := 1) rfl (by omega) (t := 52 + 5 * a) (by omega) ⟨fun q => ?_, fun q => ?_⟩⟩
    · rw [← nI_succ]
      refine hs (mu - 1) (by omega) G f' (a + 1) r h hk (by omega) (by omega) hr (fun j hj => ?_) hRr
      by_cases ej : j = a
      · rw [ej]; exact q
      · exact hb j (by omega)
    · have ef := pFirst_some (by omega) q hb
      obtain ⟨r', rfl⟩ := Nat.exists_eq_succ_of_ne_zero (by omega : r ≠ 0)
      rw [pBreakL, ef] at hRr
      refine ⟨h.is, sm_drops h (w := a) (by omega) fun G2 h2 => mRw0 h2 (i := 5) (j := 5) (w := fun x => x + 1) rfl (by decide) fun G3 h3 => ?_⟩
      rw [pDrop_lo (by omega) (by omega)] at h3
      have h3 : mSt G0 m B G3 I (mar V 0 (pBr f' a)) := h3
      obtain ⟨s1, s2, s3⟩ := pBr_ok hk (w := a) (by omega)
      refine hs (2 * nC (pBr f' a) - a) (by rw [s2]; omega) G3 (pBr f' a) a r' h3 s1.1 (by rw [s2]; omega) rfl (by rw [s2]; omega) (fun j hj => ?_) hRr
      rw [s3 _ (by omega) (by omega)]
      exact hb j hj
theorem sm_passes (h : mSt G0 m B G I (mar V 0 f)) (hk : hK f) {K : Int32 → gS → Prop} (k : ∀ G', mSt G0 m B G' I (mar V 0 (pNight f)) → K (pNight0 f).2 G') : wp_X3_passes ad G m X K := by
  unfold wp_X3_passes
  refine mRw0 h (i := 0) (j := 0) (w := fun x => x + 1) rfl (by decide) fun G h => ?_
  have k1 : hK (upd f 0 (f 0 + 1)) := hk.pu (by omega) (by omega) (by omega) (by omega)
  have g1 : nG (upd f 0 (f 0 + 1)) = nG f := nG_upd (by omega)
  have e41 : upd f 0 (f 0 + 1) 4 = f 4 := upd_ne (by omega)
  generalize hf1 : upd f 0 (f 0 + 1) = f1 at *
  obtain ⟨k2, g2, e42⟩ := pDusty_ok k1
  have h5 := hk.1.2.1.2
  have loopB : ∀ (G : gS) (f3 : pF) (mm : Int32), mSt G0 m B G I (mar V 0 f3) → hK f3 → nG f3 = nG f → f3 4 = f 4 → (∀ G', mSt G0 m B G' I (mar V 0 (upd (pNbL (nG f) f3) 4 (f 4 + mm))) → K mm G') → wp_X3_passes_129 ad X K G m mm := by
    intro G f3 mm h k3 g3 e43 k
    unfold wp_X3_passes_129
    refine gLoop_up (nG f) (fun n (ff : gS → Nat → Int32 → Int32 → Prop) => ∀ G, mSt G0 m B G I (mar V 0 (pNbL n f3)) → ff G m mm (nI n)) ?_ gFuel 0 (by omega) (gFuel_lt (by omega)) G h
    intro n ff hn hs G h
    have s := pNbL_ok k3 n (by omega)
    have gs : nG (pNbL n f3) = nG f := s.eG.trans g3
    unfold wp_X3_passes_131
    refine mRd0 h (i := 9) (j := 9) rfl (by decide) ?_
    rw [s.1.1.2.1.1, gs]
    by_cases en : n = nG f
    · subst en
      refine brT (Int32.le_refl _) ?_
      unfold wp_X3_passes_234
      refine mRw0 h (i := 4) (j := 4) (w := fun x => x + mm) rfl (by decide) fun G2 h2 => k G2 ?_
      rw [s.2.2.2.1, e43] at h2
      exact h2
    · have hs := hs (by omega)
      have fin : ∀ (G : gS) (f4 : pF), mSt G0 m B G I (mar V 0 f4) → pSm (pNbL n f3) f4 → pNbL (n + 1) f3 = pGrow f4 n → wp_X3_passes_157 ad X K ff G m mm (nI n) := by
        intro G f4 h s4 e4
        have g4 : n < nG f4 := by rw [s4.eG, gs]; omega
        have f198 : ∀ v, v = pMore f4 n → wp_X3_passes_198 ad X K ff G m mm (nI n) v := by
          intro v hv
          unfold wp_X3_passes_198
          refine mQ h m0 ⟨h.is, sm_placeK0 h s4.1.1 g4 (j := 2) rfl (t := 28 + 5 * n) (by omega) (wNN_of (mLd0 h rfl (by omega) (mSa0 h rfl (by omega) fun G2 h2 => mRw0 h2 (i := 7) (j := 7) (w := fun x => x + v) rfl (by decide) fun G3 h3 => ?_)))⟩
          rw [← nI_succ]
          refine hs G3 ?_
          rw [upd_ne (by omega : 7 ≠ 28 + 5 * n)] at h3
          rw [e4, pGrow, ← hv]
          exact h3
        unfold wp_X3_passes_157 wp_X3_passes_197
        refine ⟨h.is, sm_ofK0 h s4.1.1 g4 (j := 2) rfl (by omega) (t := 28 + 5 * n) (by omega) (mRd0 h (i := 0) (j := 0) rfl (by decide) ⟨fun q => f198 _ ?_, fun q => ⟨fun q2 => f198 _ ?_, fun q2 => f198 _ ?_⟩⟩)⟩
        · rw [pMore, if_neg (fun q2 => q q2.1)]
        · rw [pMore, if_neg (fun q3 => absurd q3.2 (Int32.not_lt.mpr q2))]
        · rw [pMore]; exact (if_pos ⟨q, Int32.not_le.mp q2⟩).symm
      refine brF (nI_ge (by omega) (by omega)) ⟨h.is, sm_ofK0 h s.1.1 (n := n) (by rw [gs]; omega) (j := 3) rfl (by omega) (t := 29 + 5 * n) (by omega) ⟨fun q => ?_, fun q => ⟨h.is, sm_breaks h s.1 fun G2 h2 => ?_⟩⟩⟩
      · refine fin G _ h (pSm.refl s.1) ?_
        rw [pNbL, pNb, if_pos q]
      · refine fin G2 _ h2 (pBreakL_ok _ _ s.1) ?_
        rw [pNbL, pNb, if_neg q]
  have loopA : ∀ (G : gS) (f2 : pF), mSt G0 m B G I (mar V 0 f2) → f2 = pDusty f1 → wp_X3_passes_49 ad X K G m := by
    rintro G f2 h rfl
    unfold wp_X3_passes_49
    refine gLoop_up (nG f) (fun n (ff : gS → Nat → Int32 → Int32 → Prop) => ∀ G, mSt G0 m B G I (mar V 0 (pNaL n (pDusty f1) 0).1) → ff G m (pNaL n (pDusty f1) 0).2 (nI n)) ?_ gFuel 0 (by omega) (gFuel_lt (by omega)) G h
    intro n ff hn hs G h
    have s := pNaL_ok k2 (m := 0) n (by omega)
    have gs : nG (pNaL n (pDusty f1) 0).1 = nG f := by rw [s.eG, g2, g1]
    unfold wp_X3_passes_53
    refine mRd0 h (i := 9) (j := 9) rfl (by decide) ?_
    rw [s.1.1.2.1.1, gs]
    by_cases en : n = nG f
    · subst en
      refine brT (Int32.le_refl _) (loopB G _ _ h s.1 gs ?_ fun G' h' => ?_)
      · rw [s.2.2.2.1, e42, e41]
      · have := k G' (by rw [pNight, pNight0, hf1]; exact h')
        rw [pNight0, hf1] at this
        exact this
    · have hs := hs (by omega)
      rw [pNaL] at hs
      generalize hp : pNaL n (pDusty f1) 0 = P at *
      obtain ⟨f3, mm⟩ := P
      have hng : n < nG f3 := by rw [gs]; omega
      refine brF (nI_ge (by omega) (by omega)) ⟨h.is, sm_ofK0 h s.1.1 hng (j := 4) rfl (by omega) (t := 30 + 5 * n) (by omega) ⟨fun q => ?_, fun q => ?_⟩⟩
      · rw [pNa, if_neg q] at hs
        unfold wp_X3_passes_79
        refine mQ h m0 ⟨h.is, sm_placeK0 h s.1.1 hng (j := 3) rfl (t := 29 + 5 * n) (by omega) (brT rfl ?_)⟩
        unfold wp_X3_passes_106
        refine wNN_of (mSa0 h rfl (by omega) fun G2 h2 => brT rfl ⟨h2.is, ?_⟩)
        have k3 : hK (upd f3 (29 + 5 * n) 0) := s.1.pu (by omega) (by omega) (by omega) (by omega)
        refine sm_works h2 k3 (g := n) (by rw [nG_upd (by omega)]; exact hng) fun G3 h3 => ?_
        unfold wp_X3_passes_121
        rw [← nI_succ]
        exact hs G3 h3
      · rw [pNa, if_pos q] at hs
        unfold wp_X3_passes_79
        refine mQ h m0 ⟨h.is, sm_placeK0 h s.1.1 hng (j := 3) rfl (t := 29 + 5 * n) (by omega) (brF (by decide) ⟨h.is, sm_ofK0 h s.1.1 hng (j := 3) rfl (by omega) (t := 29 + 5 * n) (by omega) ?_⟩)⟩
        unfold wp_X3_passes_106
        refine wNN_of (mSa0 h rfl (by omega) fun G2 h2 => ?_)
        refine ⟨fun q => absurd q (by decide), fun _ => ?_⟩
        unfold wp_X3_passes_121
        rw [← nI_succ, Int32.add_zero]
        exact hs G2 h2
  refine gLoop_up 6 (fun n (ff : gS → Nat → Int32 → Prop) => ∀ G, mSt G0 m B G I (mar V 0 (fun j => if 12 ≤ j ∧ j < 12 + n then (if f1 j + 3 < 99 then f1 j + 3 else 99) else f1 j)) → ff G m (nI n)) ?_ gFuel 0 (by omega) (gFuel_lt (by omega)) G (by rw [show (fun j => if 12 ≤ j ∧ j < 12 + 0 then (if f1 j + 3 < 99 then f1 j + 3 else 99) else f1 j) = f1 from by funext j; rw [if_neg (by omega)]]; exact h)
  intro n ff hn hs G h
  unfold wp_X3_passes_12
  by_cases en : n = 6
  · subst en
    exact brT (by decide) (loopA G _ h rfl)
  · have e12 : (12 : Int32) + nI n = nI (12 + n) := by rw [show (12 : Int32) = nI 12 from rfl, nI_add]
    refine brF (nI_ge (b := 6) (by omega) (by omega)) (mQ h m0 (mRd0 h e12 (by omega) (wNN_of (mSa0 h e12 (by omega) fun G2 h2 => ?_))))
    rw [← nI_succ]
    refine hs (by omega) G2 ?_
    rw [if_neg (by omega : ¬ (12 ≤ 12 + n ∧ 12 + n < 12 + n))] at h2
    rw [show (fun j => if 12 ≤ j ∧ j < 12 + (n + 1) then (if f1 j + 3 < 99 then f1 j + 3 else 99) else f1 j) = upd (fun j => if 12 ≤ j ∧ j < 12 + n then (if f1 j + 3 < 99 then f1 j + 3 else 99) else f1 j) (12 + n) (if f1 (12 + n) + 3 < 99 then f1 (12 + n) + 3 else 99) from ?_]
    · exact h2
    · funext j
      simp only [upd]
      by_cases hj : j = 12 + n
      · subst hj; rw [if_pos (by omega), if_pos rfl]
      · rw [if_neg hj]
        by_cases h3 : 12 ≤ j ∧ j < 12 + n
        · rw [if_pos (by omega), if_pos h3]
        · rw [if_neg (by omega), if_neg h3]
theorem pNight_ok (hk : hK f) : hK (pNight f) ∧ nG (pNight f) = nG f ∧ nB (pNight f) = nB f := by
  have k1 : hK (upd f 0 (f 0 + 1)) := hk.pu (by omega) (by omega) (by omega) (by omega)
  have h5 := hk.1.2.1.2
  obtain ⟨k2, g2, e42⟩ := pDusty_ok k1
  have a := pNaL_ok k2 (m := 0) (nG f) h5
  have b := a.trans (pNbL_ok a.1 (nG f) h5)
  refine ⟨b.1.pu (by omega) (by omega) (by omega) (by omega), ?_, ?_⟩
  · rw [pNight, nG_upd (by omega)]
    exact b.eG.trans (g2.trans (nG_upd (by omega)))
  · rw [pNight, nB_upd (by omega)]
    have e8 : pDusty (upd f 0 (f 0 + 1)) 8 = f 8 := by
      simp only [pDusty]
      rw [if_neg (by omega), upd_ne (by omega)]
    show (pNbL (nG f) (pNaL (nG f) (pDusty (upd f 0 (f 0 + 1))) 0).1 8).toNatClampNeg = _
    rw [b.2.1, e8]; rfl
theorem pWaits_ok (hk : hK f) {m : Int32} : ∀ r, hK (pWaits r f m).1 ∧ nG (pWaits r f m).1 = nG f ∧ nB (pWaits r f m).1 = nB f
  | 0 => ⟨hk, rfl, rfl⟩
  | r + 1 => by
    obtain ⟨h1, h2, h3⟩ := pWaits_ok hk (m := m) r
    obtain ⟨h4, h5, h6⟩ := pNight_ok h1
    exact ⟨h4, h5.trans h2, h6.trans h3⟩
theorem sm_waits (h : mSt G0 m B G I (mar V 0 f)) (hk : hK f) {x : Int32} {K : Int32 → gS → Prop} (k : ∀ G', mSt G0 m B G' (upd I 14 (oNight x f).1) (mar V 0 (qV (oNight x f) f)) → K (qA (oNight x f)) G') : wp_X3_waits ad G m x X K := by
  unfold wp_X3_waits
  refine sm_isIn ⟨h.is, sm_goes2 h rfl (oNight x f) rfl k fun q q0 G' h' => ?_⟩
  rw [qV_0 q0, qA_0 q0] at k
  obtain ⟨n, -, hn, rfl⟩ := pIn_n (a := 1) (b := 60) rfl rfl (by omega) (by omega) q
  have k : ∀ G', mSt G0 m B G' (upd I 14 (oNight (nI n) f).1) (mar V 0 (pWaits (nI n).toNatClampNeg f 0).1) → K (pWaits (nI n).toNatClampNeg f 0).2 G' := k
  rw [nI_clamp (by omega)] at k
  refine gLoop_up n (fun r (ff : gS → Nat → Int32 → Int32 → Int32 → Prop) => ∀ G, mSt G0 m B G (upd I 14 (oNight (nI n) f).1) (mar V 0 (pWaits r f 0).1) → ff G m (nI n) (pWaits r f 0).2 (nI r)) ?_ gFuel 0 (by omega) (gFuel_lt (by omega)) G' h'
  intro r ff hr hs G h
  unfold wp_X3_waits_20
  by_cases e : r = n
  · subst e
    exact brT (Int32.le_refl _) (k G h)
  · refine brF (nI_ge (by omega) (by omega)) ⟨h.is, sm_passes h (pWaits_ok hk r).1 fun G2 h2 => ?_⟩
    rw [← nI_succ]
    exact hs (by omega) G2 h2
end MOD
