/-! PURE: the object's answers (printed by gen/query.py) -/
set_option maxRecDepth 20000
def gF2 (G G' : gS) : Prop := gTo (fun _ => False) 200 2000 G G'
def qc (a : Bool) : Int32 := if a then 0 else 1
section QU
variable {ad : Nat → Nat} {G G' : gS} {t c t3 : Nat} {P : pA} {X : Nat → gS → Prop} {x y : Int32}
theorem gF2.refl : gF2 G G := gTo.refl.mono (fun _ z => Or.inr z) (by omega) (by omega)
theorem gTo.f2 {n m : Nat} {T : Nat → Prop} (h : gTo T n m G G') (hT : ∀ b, T b → False) (hn : n ≤ 200) (hm : m ≤ 2000) : gF2 G G' := h.mono (fun b z => (hT b z).elim) hn hm
theorem nC'.f2 {a n : Nat} {e : gC} (s : nC' G a e n G') (hn : n ≤ 2000) : gF2 G G' := (s.to (T := fun _ => False)).mono (fun b z => Or.inr z) (by omega) hn
theorem CI.hq (hc : CI ad G t c P) : ∃ h A, hRep ad G h A (aF P) ∧ hI (aF P) c ∧ ∀ K : Option Nat → Prop, K (some h) → wGetQ G t 1 0 K := by
  obtain ⟨h, sn, l, sb, os, h1, ⟨⟨A, h2⟩, h3⟩, -⟩ := hc
  exact ⟨h, A, h2, h3, fun K k => wGetQ_of h1 (x := some h) rfl k⟩
theorem XF.of2 (hc : CI ad G t c P) (s : gF2 G G') {tx : Nat} : XF ad G t tx c P G' := ⟨hc.gto s fun b z => z, fun b e hb _ _ => s.1 b e hb fun z => z, by have := s.2.2.1; omega, by have := s.2.2.2; omega⟩
theorem xr_no (hc : CI ad G t c P) {g0 : Nat → Int64} (h3 : G.1 t3 = some (gAl true 1 g0)) (s : gF2 G G') {code v : Int32} (hn : code ≠ 0) {R : Int32 → gS → Prop} (k : ∀ G5, XR ad G t t3 c P code v G5 → R code G5) : R code G' :=
  k G' ⟨XF.of2 hc s, g0, s.1 _ _ h3 fun z => z, fun z => absurd z hn⟩
theorem xr_yes (hc : CI ad G t c P) {g0 : Nat → Int64} (h3 : G.1 t3 = some (gAl true 1 g0)) (s : gF2 G G') {v : Int32} {w : Int64} (hw : w = v.toInt64) {R : Int32 → gS → Prop} (k : ∀ G5, XR ad G t t3 c P 0 v G5 → R 0 G5) : wNN (some t3) fun c6 => wAstL G' c6 (0 : Int32) w fun G7 => R 0 G7 := by
  have h3' := s.1 _ _ h3 fun z => z
  refine wNN_of (wAstL_of h3' (vp_in_nI (n := 0) (by omega) (by omega)) (k _ ⟨⟨?_, fun b e hb hn hne => ?_, ?_, ?_⟩, _, gSet_self, fun _ => ?_⟩))
  · refine (hc.gto s fun b z => z).to fun b c hb hc => ?_
    rw [gSet_ne (fun z => ?_)]
    · exact hb
    · subst z
      rw [h3'] at hb
      cases hb
      rcases hc with ⟨_, _, _, e⟩ | ⟨_, _, e⟩ | ⟨_, _, _, e⟩ | ⟨w, ci, fs, e, q⟩ <;> cases e
  · rw [gSet_ne hne]
    exact s.1 b e hb fun z => z
  · have := s.2.2.1
    show G.2.1 ≤ G'.2.1 + 22000
    omega
  · have := s.2.2.2
    show G.2.2 ≤ G'.2.2 + 220000
    omega
  · rw [hw]; exact pk_uLs
theorem qc_t : qc true = 0 := rfl
theorem qc_f : qc false = 1 := rfl
/-- the usual question: it holds, or an exception -/
theorem xq {a : Bool} {v : Int32} {κ : Nat} (hc : CI ad G t c P) {g0 : Nat → Int64} (h3 : G.1 t3 = some (gAl true 1 g0)) {R : Int32 → gS → Prop} (k : ∀ G5, XR ad G t t3 c P (qc a) v G5 → R (qc a) G5) {w : (Nat → gS → Prop) → (Int32 → gS → Prop) → Prop} (W : ∀ X K, (a = false → ∀ q G', gF2 G G' → gHas G' q κ → X q G') → (a = true → ∀ G', gF2 G G' → K v G') → w X K) : w (fun y G4 => gHas G4 y κ ∧ R 1 G4) (fun r G2 => wNN (some t3) fun c6 => wAstL G2 c6 (0 : Int32) r.toInt64 fun G7 => R 0 G7) :=
  W _ _ (fun e q G' s hh => ⟨hh, by subst e; exact xr_no hc h3 s (by decide) k⟩) (fun e G' s => by subst e; exact xr_yes hc h3 s rfl k)
theorem sp_X1_dust (hc : CI ad G t c P) (hR : rm G 200) {K : Int32 → gS → Prop} (k0 : pIn x 0 5 = false → ∀ q G', gF2 G G' → gHas G' q 20 → X q G') (k1 : pIn x 0 5 = true → ∀ G', gF2 G G' → K (aF P (12 + x.toNatClampNeg)) G') : wp_X1_dust ad G t x X K := by
  obtain ⟨h, A, hr, hi, q0⟩ := hc.hq
  unfold wp_X1_dust
  have hR1 := hR.1
  have hR2 := hR.2
  refine sp_isBetween (sp_checkIndex rfl (by omega) (by omega) (fun e q G' fs s => k0 e q G' (s.f2 (by omega)) ⟨_, s.2.1⟩) fun e => q0 _ (wNN_of (wGetQ_of hr.1 (x := some (hD A)) rfl (wNN_of ?_))))
  obtain ⟨n, -, hn, rfl⟩ := pIn_n (a := 0) (b := 5) rfl rfl (by omega) (by omega) e
  obtain ⟨g, h2, h2'⟩ := hr.2.1
  refine wAldI_of h2 (vp_in_nI (by omega) (by omega)) ?_
  have kk := k1 e G gF2.refl
  rw [nI_clamp (by omega)] at kk ⊢
  rw [h2' n (by omega)]
  exact kk
theorem sp_broomAt (hc : CI ad G t c P) (hR : rm G 200) {K : Option Nat → gS → Prop} (k0 : pIn x 0 (aF P 8 - 1) = false → ∀ q G', gF2 G G' → gHas G' q 20 → X q G') (k1 : pIn x 0 (aF P 8 - 1) = true → ∀ h A k, hRep ad G h A (aF P) → k < nB (aF P) → pBi (aF P) x = k → K (some (hBa A k)) G) : gIs G t 1 ∧ wp_X1_broomAt ad G t x X K := by
  refine ⟨hc.is, ?_⟩
  obtain ⟨h, A, hr, hi, q0⟩ := hc.hq
  unfold wp_X1_broomAt
  have hR1 := hR.1
  have hR2 := hR.2
  refine q0 _ (wNN_of ⟨hr.is, sp_isBroom hr (sp_checkIndex rfl (by omega) (by omega) (fun e q G' fs s => k0 e q G' (s.f2 (by omega)) ⟨_, s.2.1⟩) fun e => q0 _ (wNN_of ?_))⟩)
  obtain ⟨n, hn, hx, hp⟩ := pBi_t hr.w e
  exact hElB hr hx hn (k1 e h A n hr hn hp)
theorem sp_goblinFor (hc : CI ad G t c P) (hR : rm G 200) {K : Option Nat → gS → Prop} (k0 : pIn x 0 (aF P 9 - 1) = false → ∀ q G', gF2 G G' → gHas G' q 20 → X q G') (k1 : pIn x 0 (aF P 9 - 1) = true → ∀ h A k, hRep ad G h A (aF P) → k < nG (aF P) → pGi (aF P) x = k → G.1 t = G.1 t → K (some (hGa A k)) G) : gIs G t 1 ∧ wp_X1_goblinFor ad G t x X K := by
  refine ⟨hc.is, ?_⟩
  obtain ⟨h, A, hr, hi, q0⟩ := hc.hq
  unfold wp_X1_goblinFor
  have hR1 := hR.1
  have hR2 := hR.2
  refine q0 _ (wNN_of ⟨hr.is, sp_isGoblin hr (sp_checkIndex rfl (by omega) (by omega) (fun e q G' fs s => k0 e q G' (s.f2 (by omega)) ⟨_, s.2.1⟩) fun e => q0 _ (wNN_of ?_))⟩)
  obtain ⟨n, hn, hx, hp⟩ := pGi_t hr.w e
  exact hElG hr hx hn (k1 e h A n hr hn hp rfl)
theorem sp_X1_power (hc : CI ad G t c P) (hR : rm G 200) {K : Int32 → gS → Prop} (k0 : pIn x 0 (aF P 8 - 1) = false → ∀ q G', gF2 G G' → gHas G' q 20 → X q G') (k1 : pIn x 0 (aF P 8 - 1) = true → ∀ G', gF2 G G' → K (aF P (18 + 2 * pBi (aF P) x)) G') : wp_X1_power ad G t x X K := by
  unfold wp_X1_power
  refine sp_broomAt hc hR k0 fun e h A k hr hk hp => wNN_of (wGetI_of (hr.2.2.2.2.1 k hk).1 rfl ?_)
  rw [← hp]
  exact k1 e G gF2.refl
theorem sp_X1_isBanished (hb : bs ad G) (hc : CI ad G t c P) (hR : rm G 200) {K : Int32 → gS → Prop} (k0 : pIn x 0 (aF P 8 - 1) = false → ∀ q G', gF2 G G' → gHas G' q 20 → X q G') (k1 : pIn x 0 (aF P 8 - 1) = true → ∀ G', gF2 G G' → K (bI (decide (aF P (19 + 2 * pBi (aF P) x) = 1))) G') : wp_X1_isBanished ad G t x X K := by
  unfold wp_X1_isBanished
  refine sp_broomAt hc hR k0 fun e h A k hr hk hp => wNN_of ⟨gIs_of (hr.2.2.2.2.1 k hk).1, sp_isUsed hr hb.b4.ne hk ?_⟩
  have kk := k1 e G gF2.refl
  rw [hp] at kk
  rcases (hr.2.2.2.2.1 k hk).2 with q | q
  · rw [q] at kk ⊢
    exact ⟨fun _ => kk, fun z => absurd z (by decide)⟩
  · rw [q] at kk ⊢
    exact ⟨fun z => absurd rfl z, fun _ => kk⟩
theorem sp_X1_strength (hc : CI ad G t c P) (hR : rm G 200) {K : Int32 → gS → Prop} (k0 : pIn x 0 (aF P 9 - 1) = false → ∀ q G', gF2 G G' → gHas G' q 20 → X q G') (k1 : pIn x 0 (aF P 9 - 1) = true → ∀ G', gF2 G G' → K (aF P (26 + 0 + 5 * pGi (aF P) x)) G') : wp_X1_strength ad G t x X K := by
  unfold wp_X1_strength
  refine sp_goblinFor hc hR k0 fun e h A k hr hk hp _ => wNN_of ?_
  skip
  refine wGetI_of (hr.2.2.2.2.2.1 k hk).1 rfl ?_
  rw [← hp]
  exact k1 e G gF2.refl
theorem sp_X1_purse (hc : CI ad G t c P) (hR : rm G 200) {K : Int32 → gS → Prop} (k0 : pIn x 0 (aF P 9 - 1) = false → ∀ q G', gF2 G G' → gHas G' q 20 → X q G') (k1 : pIn x 0 (aF P 9 - 1) = true → ∀ G', gF2 G G' → K (aF P (26 + 1 + 5 * pGi (aF P) x)) G') : wp_X1_purse ad G t x X K := by
  unfold wp_X1_purse
  refine sp_goblinFor hc hR k0 fun e h A k hr hk hp _ => wNN_of ⟨gIs_of (hr.2.2.2.2.2.1 k hk).1, ?_⟩
  unfold wp_X7_purse
  refine wGetI_of (hr.2.2.2.2.2.1 k hk).1 rfl ?_
  rw [← hp]
  exact k1 e G gF2.refl
theorem sp_X1_debt (hc : CI ad G t c P) (hR : rm G 200) {K : Int32 → gS → Prop} (k0 : pIn x 0 (aF P 9 - 1) = false → ∀ q G', gF2 G G' → gHas G' q 20 → X q G') (k1 : pIn x 0 (aF P 9 - 1) = true → ∀ G', gF2 G G' → K (aF P (26 + 2 + 5 * pGi (aF P) x)) G') : wp_X1_debt ad G t x X K := by
  unfold wp_X1_debt
  refine sp_goblinFor hc hR k0 fun e h A k hr hk hp _ => wNN_of ⟨gIs_of (hr.2.2.2.2.2.1 k hk).1, ?_⟩
  unfold wp_X7_debt
  refine wGetI_of (hr.2.2.2.2.2.1 k hk).1 rfl ?_
  rw [← hp]
  exact k1 e G gF2.refl
theorem sp_X1_skippedNights (hc : CI ad G t c P) (hR : rm G 200) {K : Int32 → gS → Prop} (k0 : pIn x 0 (aF P 9 - 1) = false → ∀ q G', gF2 G G' → gHas G' q 20 → X q G') (k1 : pIn x 0 (aF P 9 - 1) = true → ∀ G', gF2 G G' → K (aF P (26 + 3 + 5 * pGi (aF P) x)) G') : wp_X1_skippedNights ad G t x X K := by
  unfold wp_X1_skippedNights
  refine sp_goblinFor hc hR k0 fun e h A k hr hk hp _ => wNN_of ?_
  skip
  refine wGetI_of (hr.2.2.2.2.2.1 k hk).1 rfl ?_
  rw [← hp]
  exact k1 e G gF2.refl
theorem sp_X1_isResting (hc : CI ad G t c P) (hR : rm G 200) {K : Int32 → gS → Prop} (k0 : pIn x 0 (aF P 9 - 1) = false → ∀ q G', gF2 G G' → gHas G' q 20 → X q G') (k1 : pIn x 0 (aF P 9 - 1) = true → ∀ G', gF2 G G' → K (bI (decide (aF P (30 + 5 * pGi (aF P) x) = 1))) G') : wp_X1_isResting ad G t x X K := by
  unfold wp_X1_isResting
  refine sp_goblinFor hc hR k0 fun e h A k hr hk hp _ => wNN_of (wGetI_of (hr.2.2.2.2.2.1 k hk).1 (x := aF P (30 + 5 * k)) rfl ?_)
  have kk := k1 e G gF2.refl
  rw [hp] at kk
  rcases (hr.2.2.2.2.2.1 k hk).2 with q | q
  · rw [q] at kk ⊢
    exact ⟨rfl, kk⟩
  · rw [q] at kk ⊢
    exact ⟨rfl, kk⟩
theorem sp_X1_energy (hb : bs ad G) (hc : CI ad G t c P) (hR : rm G 200) {K : Int32 → gS → Prop} (k0 : pIn x 0 (aF P 9 - 1) = false → ∀ q G', gF2 G G' → gHas G' q 20 → X q G') (k1 : pIn x 0 (aF P 9 - 1) = true → ∀ G', gF2 G G' → K (pEnergy (aF P) (pGi (aF P) x)) G') : wp_X1_energy ad G t x X K := by
  obtain ⟨h, A, hr, hi, q0⟩ := hc.hq
  unfold wp_X1_energy wp_X1_goblinFor
  have hR1 := hR.1
  have hR2 := hR.2
  refine q0 _ ⟨hc.is, q0 _ (wNN_of ⟨hr.is, sp_isGoblin hr (sp_checkIndex rfl (by omega) (by omega) (fun e q G' fs s => k0 e q G' (s.f2 (by omega)) ⟨_, s.2.1⟩) fun e => q0 _ (wNN_of ?_))⟩)⟩
  obtain ⟨n, hn, hx, hp⟩ := pGi_t hr.w e
  refine hElG hr hx hn (wNN_of ⟨hr.is, sp_energy hr hb.b4.ne hn ?_⟩)
  rw [← hp]
  exact k1 e G gF2.refl
theorem sp_found {o : Option Nat} (ho : ∀ w, o = some w → w < 2 ^ 31) (hR : rm G 200) {K : Int32 → gS → Prop} (k0 : decide (o ≠ none) = false → ∀ q G', gF2 G G' → gHas G' q 23 → X q G') (k1 : decide (o ≠ none) = true → K (oI o) G) : wp_X1_found ad G (oI o) X K := by
  have hR1 := hR.1
  have hR2 := hR.2
  unfold wp_X1_found wp_X1_found_10
  refine ⟨fun e => ?_, fun e => ?_⟩
  · have := (oI_ne ho).mp e
    subst this
    exact sp_checkElement (b := false) rfl (by omega) (by omega) (fun _ q G' fs s => k0 rfl q G' (s.f2 (by omega)) ⟨_, s.2.1⟩) fun z => absurd z (by decide)
  · have : o ≠ none := fun z => e ((oI_ne ho).mpr z)
    exact sp_checkElement (b := true) rfl (by omega) (by omega) (fun z => absurd z (by decide)) fun _ => k1 (decide_eq_true this)
theorem pLast_b {p : Nat → Bool} {w : Nat} : ∀ {n : Nat}, pLast p n = some w → w < n
  | 0, h => by cases h
  | n + 1, h => by
    rw [pLast] at h
    by_cases q : p n = true
    · rw [if_pos q] at h
      injection h with h
      omega
    · rw [if_neg q] at h
      have := pLast_b h
      omega
theorem sp_X1_roomByDust (hc : CI ad G t c P) (hR : rm G 200) {K : Int32 → gS → Prop} (k0 : decide (pRoomRank (aF P) x ≠ none) = false → ∀ q G', gF2 G G' → gHas G' q 23 → X q G') (k1 : decide (pRoomRank (aF P) x ≠ none) = true → ∀ G', gF2 G G' → K (oI (pRoomRank (aF P) x)) G') : wp_X1_roomByDust ad G t x X K := by
  obtain ⟨h, A, hr, hi, q0⟩ := hc.hq
  unfold wp_X1_roomByDust
  exact q0 _ (wNN_of ⟨hr.is, sp_roomAt hr hi.1.2.1 (sp_found (fun w hw => by have := pLast_b hw; omega) hR k0 fun e => k1 e G gF2.refl)⟩)
theorem sp_X1_goblinByWealth (hc : CI ad G t c P) (hR : rm G 200) {K : Int32 → gS → Prop} (k0 : decide (pGobRank (aF P) x ≠ none) = false → ∀ q G', gF2 G G' → gHas G' q 23 → X q G') (k1 : decide (pGobRank (aF P) x ≠ none) = true → ∀ G', gF2 G G' → K (oI (pGobRank (aF P) x)) G') : wp_X1_goblinByWealth ad G t x X K := by
  obtain ⟨h, A, hr, hi, q0⟩ := hc.hq
  unfold wp_X1_goblinByWealth
  exact q0 _ (wNN_of ⟨hr.is, sp_goblinAt hr hi.1.2.2.2.1 (sp_found (fun w hw => by have := pLast_b hw; have := hr.w.2.1.2; omega) hR k0 fun e => k1 e G gF2.refl)⟩)
theorem sp_X1_broomCount (hc : CI ad G t c P) {K : Int32 → gS → Prop} (k : K (aF P 8) G) : gIs G t 1 ∧ wp_X1_broomCount ad G t X K := by
  refine ⟨hc.is, ?_⟩
  obtain ⟨h, A, hr, hi, q0⟩ := hc.hq
  unfold wp_X1_broomCount
  refine q0 _ (wNN_of (hSizeB hr ?_))
  rw [← hr.w.1.1]
  exact k
theorem sp_X1_goblinCount (hc : CI ad G t c P) {K : Int32 → gS → Prop} (k : K (aF P 9) G) : gIs G t 1 ∧ wp_X1_goblinCount ad G t X K := by
  refine ⟨hc.is, ?_⟩
  obtain ⟨h, A, hr, hi, q0⟩ := hc.hq
  unfold wp_X1_goblinCount
  refine q0 _ (wNN_of (hSizeG hr ?_))
  rw [← hr.w.2.1.1]
  exact k
theorem sp_X1_openContracts (hc : CI ad G t c P) {K : Int32 → gS → Prop} (k : K (aF P 11) G) : gIs G t 1 ∧ wp_X1_openContracts ad G t X K := by
  refine ⟨hc.is, ?_⟩
  obtain ⟨h, A, hr, hi, q0⟩ := hc.hq
  unfold wp_X1_openContracts
  refine q0 _ (wNN_of (hSizeC hr ?_))
  rw [← hr.w.2.2.1]
  exact k
theorem sp_X1_night (hc : CI ad G t c P) {K : Int32 → gS → Prop} (k : K (aF P 0) G) : gIs G t 1 ∧ wp_X1_night ad G t X K := by
  refine ⟨hc.is, ?_⟩
  obtain ⟨h, A, hr, hi, q0⟩ := hc.hq
  unfold wp_X1_night
  exact q0 _ (wNN_of (wGetI_of hr.1 rfl k))
theorem sp_X1_chest (hc : CI ad G t c P) {K : Int32 → gS → Prop} (k : K (aF P 1) G) : gIs G t 1 ∧ wp_X1_chest ad G t X K := by
  refine ⟨hc.is, ?_⟩
  obtain ⟨h, A, hr, hi, q0⟩ := hc.hq
  unfold wp_X1_chest
  exact q0 _ (wNN_of (wGetI_of hr.1 rfl k))
theorem sp_X1_doneTotal (hc : CI ad G t c P) {K : Int32 → gS → Prop} (k : K (aF P 4) G) : gIs G t 1 ∧ wp_X1_doneTotal ad G t X K := by
  refine ⟨hc.is, ?_⟩
  obtain ⟨h, A, hr, hi, q0⟩ := hc.hq
  unfold wp_X1_doneTotal
  exact q0 _ (wNN_of (wGetI_of hr.1 rfl k))
theorem sp_X1_brokenTotal (hc : CI ad G t c P) {K : Int32 → gS → Prop} (k : K (aF P 5) G) : gIs G t 1 ∧ wp_X1_brokenTotal ad G t X K := by
  refine ⟨hc.is, ?_⟩
  obtain ⟨h, A, hr, hi, q0⟩ := hc.hq
  unfold wp_X1_brokenTotal
  exact q0 _ (wNN_of (wGetI_of hr.1 rfl k))
theorem sp_X1_unpaidTotal (hc : CI ad G t c P) {K : Int32 → gS → Prop} (k : K (aF P 6) G) : gIs G t 1 ∧ wp_X1_unpaidTotal ad G t X K := by
  refine ⟨hc.is, ?_⟩
  obtain ⟨h, A, hr, hi, q0⟩ := hc.hq
  unfold wp_X1_unpaidTotal
  exact q0 _ (wNN_of (wGetI_of hr.1 rfl k))
theorem sp_X1_interestTotal (hc : CI ad G t c P) {K : Int32 → gS → Prop} (k : K (aF P 7) G) : gIs G t 1 ∧ wp_X1_interestTotal ad G t X K := by
  refine ⟨hc.is, ?_⟩
  obtain ⟨h, A, hr, hi, q0⟩ := hc.hq
  unfold wp_X1_interestTotal
  exact q0 _ (wNN_of (wGetI_of hr.1 rfl k))
theorem sp_X1_allCrumbs (hc : CI ad G t c P) {K : Int32 → gS → Prop} (k : K (pPurses (aF P) (nG (aF P))) G) : gIs G t 1 ∧ wp_X1_allCrumbs ad G t X K := by
  refine ⟨hc.is, ?_⟩
  obtain ⟨h, A, hr, hi, q0⟩ := hc.hq
  unfold wp_X1_allCrumbs
  exact q0 _ (wNN_of ⟨hr.is, sp_allCrumbs hr k⟩)
theorem sp_X1_allCrumbsByAccounts (hc : CI ad G t c P) {K : Int32 → gS → Prop} (k : K (100 + aF P 2 - aF P 3) G) : gIs G t 1 ∧ wp_X1_allCrumbsByAccounts ad G t X K := by
  refine ⟨hc.is, ?_⟩
  obtain ⟨h, A, hr, hi, q0⟩ := hc.hq
  unfold wp_X1_allCrumbsByAccounts
  exact q0 _ (wNN_of ⟨hr.is, sp_byAccounts hr k⟩)
theorem sp_X1_isConsistent (hb : bs ad G) (hc : CI ad G t c P) (hR : rm G 200) {K : Int32 → gS → Prop} (k : ∀ G', gF2 G G' → K 1 G') : gIs G t 1 ∧ wp_X1_isConsistent ad G t X K := by
  refine ⟨hc.is, ?_⟩
  obtain ⟨h, A, hr, hi, q0⟩ := hc.hq
  unfold wp_X1_isConsistent
  exact q0 _ (wNN_of ⟨hr.is, sp_isConsistent hr hb.b4.ne hi (hR.le (by omega)) fun G' s => ⟨rfl, k G' (gTo.f2 s (fun b z => z) (by omega) (by omega))⟩⟩)
theorem sp_X1_bestWages (hb : bs ad G) (hc : CI ad G t c P) (hR : rm G 200) {K : Int32 → gS → Prop} (k0 : pIn x 0 (aF P 9 - 1) = false → ∀ q G', gF2 G G' → gHas G' q 20 → X q G') (k1 : pIn x 0 (aF P 9 - 1) = true → ∀ G', gF2 G G' → K (pBest (aF P) x (nC (aF P)) (pEnergy (aF P) (pGi (aF P) x)).toNatClampNeg) G') : wp_X1_bestWages ad G t x X K := by
  obtain ⟨h, A, hr, hi, q0⟩ := hc.hq
  unfold wp_X1_bestWages
  have hR1 := hR.1
  have hR2 := hR.2
  refine q0 _ (wNN_of ⟨hr.is, sp_isGoblin hr (sp_checkIndex rfl (by omega) (by omega) (fun e q G' fs s => k0 e q G' (s.f2 (by omega)) ⟨_, s.2.1⟩) fun e => q0 _ (wNN_of ⟨hr.is, ?_⟩))⟩)
  obtain ⟨n, hn, hx, hp⟩ := pGi_t hr.w e
  have kk := k1 e
  rw [hp, hx] at kk
  rw [hx]
  exact sp_bestWages hr hb.b4.ne hi.1 (hR.le (by omega)) hn fun G' s => kk G' (gTo.f2 s (fun b z => z) (by omega) (by omega))
theorem sp_X1_bestWagesByTable (hb : bs ad G) (hc : CI ad G t c P) (hR : rm G 200) {K : Int32 → gS → Prop} (k0 : pIn x 0 (aF P 9 - 1) = false → ∀ q G', gF2 G G' → gHas G' q 20 → X q G') (k1 : pIn x 0 (aF P 9 - 1) = true → ∀ G', gF2 G G' → K (pBest (aF P) x (nC (aF P)) (pEnergy (aF P) (pGi (aF P) x)).toNatClampNeg) G') : wp_X1_bestWagesByTable ad G t x X K := by
  obtain ⟨h, A, hr, hi, q0⟩ := hc.hq
  unfold wp_X1_bestWagesByTable
  have hR1 := hR.1
  have hR2 := hR.2
  refine q0 _ (wNN_of ⟨hr.is, sp_isGoblin hr (sp_checkIndex rfl (by omega) (by omega) (fun e q G' fs s => k0 e q G' (s.f2 (by omega)) ⟨_, s.2.1⟩) fun e => q0 _ (wNN_of ⟨hr.is, ?_⟩))⟩)
  obtain ⟨n, hn, hx, hp⟩ := pGi_t hr.w e
  have kk := k1 e
  rw [hp, hx] at kk
  rw [hx]
  exact sp_bestTable hr hb.b4.ne hi.1 (hR.le (by omega)) hn fun G' s => kk G' (gTo.f2 s (fun b z => z) (by omega) (by omega))
theorem sp_X1_contractAt (hc : CI ad G t c P) (hR : rm G 200) {K : Int32 → gS → Prop} (k0 : pIn x 0 (aF P 11 - 1) = false → ∀ q G', gF2 G G' → gHas G' q 23 → X q G') (k1 : pIn x 0 (aF P 11 - 1) = true → ∀ G', gF2 G G' → K (aF P (51 + 5 * x.toNatClampNeg)) G') : wp_X1_contractAt ad G t x X K := by
  unfold wp_X1_contractAt
  refine sp_X1_openContracts hc ?_
  obtain ⟨h, A, hr, hi, q0⟩ := hc.hq
  have hR1 := hR.1
  have hR2 := hR.2
  refine sp_isBetween (sp_checkElement rfl (by omega) (by omega) (fun e q G' fs s => k0 e q G' (s.f2 (by omega)) ⟨_, s.2.1⟩) fun e => q0 _ (wNN_of ?_))
  have kk := k1 e G gF2.refl
  rw [hr.w.2.2.1] at e
  have h8 := hr.w.2.2.2
  obtain ⟨n, hn, rfl⟩ := (pIn_nI (by omega)).mp e
  rw [nI_clamp (by omega)] at kk
  exact hElC hr rfl hn (wNN_of (wGetI_of (hr.2.2.2.2.2.2.1 n hn) rfl kk))
theorem sp_X1_goblinOf (hb : bs ad G) (hc : CI ad G t c P) (hR : rm G 200) {K : Int32 → gS → Prop} (k0 : pFind (aF P) x (nC (aF P)) = none → ∀ q G', gF2 G G' → gHas G' q 23 → X q G') (k1 : ∀ w, pFind (aF P) x (nC (aF P)) = some w → ∀ G', gF2 G G' → K (aF P (51 + 1 + 5 * w)) G') : wp_X1_goblinOf ad G t x X K := by
  unfold wp_X1_goblinOf
  refine ⟨hc.is, ?_⟩
  obtain ⟨h, A, hr, hi, q0⟩ := hc.hq
  have hR1 := hR.1
  have hR2 := hR.2
  unfold wp_X1_about wp_X1_about_18
  refine q0 _ (wNN_of ⟨hr.is, sp_find hr ?_⟩)
  cases e : pFind (aF P) x (nC (aF P)) with
  | none => exact oN (sp_checkElement (b := false) rfl (by omega) (by omega) (fun _ q G' fs s => k0 e q G' (s.f2 (by omega)) ⟨_, s.2.1⟩) fun z => absurd z (by decide))
  | some w =>
    have hw := (pFind_lt e).1
    refine oS (sp_checkElement (b := true) rfl (by omega) (by omega) (fun z => absurd z (by decide)) fun _ => wNN_of ?_)
    unfold wL_Question
    have hq : wp_X1_lambda_goblinOf_12 ad G (some (hCa A w)) X K := by
      unfold wp_X1_lambda_goblinOf_12
      exact wNN_of (wGetI_of (hr.2.2.2.2.2.2.1 w hw) rfl (k1 w e G gF2.refl))
    exact Or.inr (Or.inl ⟨hb.lam (i := 13) (by decide), hq⟩)
theorem sp_X1_roomOf (hb : bs ad G) (hc : CI ad G t c P) (hR : rm G 200) {K : Int32 → gS → Prop} (k0 : pFind (aF P) x (nC (aF P)) = none → ∀ q G', gF2 G G' → gHas G' q 23 → X q G') (k1 : ∀ w, pFind (aF P) x (nC (aF P)) = some w → ∀ G', gF2 G G' → K (aF P (51 + 2 + 5 * w)) G') : wp_X1_roomOf ad G t x X K := by
  unfold wp_X1_roomOf
  refine ⟨hc.is, ?_⟩
  obtain ⟨h, A, hr, hi, q0⟩ := hc.hq
  have hR1 := hR.1
  have hR2 := hR.2
  unfold wp_X1_about wp_X1_about_18
  refine q0 _ (wNN_of ⟨hr.is, sp_find hr ?_⟩)
  cases e : pFind (aF P) x (nC (aF P)) with
  | none => exact oN (sp_checkElement (b := false) rfl (by omega) (by omega) (fun _ q G' fs s => k0 e q G' (s.f2 (by omega)) ⟨_, s.2.1⟩) fun z => absurd z (by decide))
  | some w =>
    have hw := (pFind_lt e).1
    refine oS (sp_checkElement (b := true) rfl (by omega) (by omega) (fun z => absurd z (by decide)) fun _ => wNN_of ?_)
    unfold wL_Question
    have hq : wp_X1_lambda_roomOf_13 ad G (some (hCa A w)) X K := by
      unfold wp_X1_lambda_roomOf_13
      exact wNN_of (wGetI_of (hr.2.2.2.2.2.2.1 w hw) rfl (k1 w e G gF2.refl))
    exact Or.inr (Or.inr (Or.inl ⟨hb.lam (i := 14) (by decide), hq⟩))
theorem sp_X1_wage (hb : bs ad G) (hc : CI ad G t c P) (hR : rm G 200) {K : Int32 → gS → Prop} (k0 : pFind (aF P) x (nC (aF P)) = none → ∀ q G', gF2 G G' → gHas G' q 23 → X q G') (k1 : ∀ w, pFind (aF P) x (nC (aF P)) = some w → ∀ G', gF2 G G' → K (aF P (51 + 3 + 5 * w)) G') : wp_X1_wage ad G t x X K := by
  unfold wp_X1_wage
  refine ⟨hc.is, ?_⟩
  obtain ⟨h, A, hr, hi, q0⟩ := hc.hq
  have hR1 := hR.1
  have hR2 := hR.2
  unfold wp_X1_about wp_X1_about_18
  refine q0 _ (wNN_of ⟨hr.is, sp_find hr ?_⟩)
  cases e : pFind (aF P) x (nC (aF P)) with
  | none => exact oN (sp_checkElement (b := false) rfl (by omega) (by omega) (fun _ q G' fs s => k0 e q G' (s.f2 (by omega)) ⟨_, s.2.1⟩) fun z => absurd z (by decide))
  | some w =>
    have hw := (pFind_lt e).1
    refine oS (sp_checkElement (b := true) rfl (by omega) (by omega) (fun z => absurd z (by decide)) fun _ => wNN_of ?_)
    unfold wL_Question
    have hq : wp_X1_lambda_wage_14 ad G (some (hCa A w)) X K := by
      unfold wp_X1_lambda_wage_14
      exact wNN_of (wGetI_of (hr.2.2.2.2.2.2.1 w hw) rfl (k1 w e G gF2.refl))
    exact Or.inr (Or.inr (Or.inr (Or.inl ⟨hb.lam (i := 15) (by decide), hq⟩)))
theorem sp_X1_effort (hb : bs ad G) (hc : CI ad G t c P) (hR : rm G 200) {K : Int32 → gS → Prop} (k0 : pFind (aF P) x (nC (aF P)) = none → ∀ q G', gF2 G G' → gHas G' q 23 → X q G') (k1 : ∀ w, pFind (aF P) x (nC (aF P)) = some w → ∀ G', gF2 G G' → K (aF P (51 + 4 + 5 * w)) G') : wp_X1_effort ad G t x X K := by
  unfold wp_X1_effort
  refine ⟨hc.is, ?_⟩
  obtain ⟨h, A, hr, hi, q0⟩ := hc.hq
  have hR1 := hR.1
  have hR2 := hR.2
  unfold wp_X1_about wp_X1_about_18
  refine q0 _ (wNN_of ⟨hr.is, sp_find hr ?_⟩)
  cases e : pFind (aF P) x (nC (aF P)) with
  | none => exact oN (sp_checkElement (b := false) rfl (by omega) (by omega) (fun _ q G' fs s => k0 e q G' (s.f2 (by omega)) ⟨_, s.2.1⟩) fun z => absurd z (by decide))
  | some w =>
    have hw := (pFind_lt e).1
    refine oS (sp_checkElement (b := true) rfl (by omega) (by omega) (fun z => absurd z (by decide)) fun _ => wNN_of ?_)
    unfold wL_Question
    have hq : wp_X1_lambda_effort_15 ad G (some (hCa A w)) X K := by
      unfold wp_X1_lambda_effort_15
      exact wNN_of (wGetI_of (hr.2.2.2.2.2.2.1 w hw) rfl (k1 w e G gF2.refl))
    exact Or.inr (Or.inr (Or.inr (Or.inr (⟨hb.lam (i := 16) (by decide), hq⟩))))
theorem sp_X1_nightsUntilDone (hb : bs ad G) (hc : CI ad G t c P) (hR : rm G 200) {K : Int32 → gS → Prop} (k0 : pFind (aF P) x (nC (aF P)) = none → ∀ q G', gF2 G G' → gHas G' q 23 → X q G') (k2 : ∀ w, pFind (aF P) x (nC (aF P)) = some w → pUntil (aF P) x 60 1 (aF P) = -1 → ∀ q G', gF2 G G' → gHas G' q 22 → X q G') (k1 : ∀ w, pFind (aF P) x (nC (aF P)) = some w → pUntil (aF P) x 60 1 (aF P) ≠ -1 → ∀ G', gF2 G G' → K (pUntil (aF P) x 60 1 (aF P)) G') : wp_X1_nightsUntilDone ad G t x X K := by
  obtain ⟨h, A, hr, hi, q0⟩ := hc.hq
  have hR1 := hR.1
  have hR2 := hR.2
  unfold wp_X1_nightsUntilDone wp_X1_nightsUntilDone_16 wp_X1_nightsUntilDone_38
  refine q0 _ (wNN_of ⟨hr.is, sp_find hr ?_⟩)
  cases e : pFind (aF P) x (nC (aF P)) with
  | none => exact oN (sp_checkElement (b := false) rfl (by omega) (by omega) (fun _ q G' fs s => k0 e q G' (s.f2 (by omega)) ⟨_, s.2.1⟩) fun z => absurd z (by decide))
  | some w =>
    refine oS (sp_checkElement (b := true) rfl (by omega) (by omega) (fun z => absurd z (by decide)) fun _ => q0 _ (wNN_of ⟨hr.is, sp_nightsUntilDone hr hb.b4 hi (hR.le (by omega)) e fun G' s => ⟨fun z => ?_, fun z => ?_⟩⟩))
    · have r1 := s.2.2.1
      have r2 := s.2.2.2
      exact sp_checkState (b := false) rfl (by omega) (by omega) (fun _ q G2 fs s2 => k2 w e z q G2 ((s.trans (T := fun _ => False) (s2.to (T := fun _ => False)) (fun b z => z.elim) (fun b z => z.elim) (Nat.le_refl _) (Nat.le_refl _)).f2 (fun b z => z) (by omega) (by omega)) ⟨_, s2.2.1⟩) fun z => absurd z (by decide)
    · exact sp_checkState (b := true) rfl (by have := s.2.2.1; omega) (by have := s.2.2.2; omega) (fun z => absurd z (by decide)) fun _ => k1 w e z G' (s.f2 (fun b z => z) (by omega) (by omega))
theorem sp_X1_chestAfter (hb : bs ad G) (hc : CI ad G t c P) (hR : rm G 200) {K : Int32 → gS → Prop} (k0 : pIn x 0 60 = false → ∀ q G', gF2 G G' → gHas G' q 21 → X q G') (k1 : pIn x 0 60 = true → ∀ G', gF2 G G' → K (pNights x.toNatClampNeg (aF P) 1) G') : wp_X1_chestAfter ad G t x X K := by
  obtain ⟨h, A, hr, hi, q0⟩ := hc.hq
  have hR1 := hR.1
  have hR2 := hR.2
  unfold wp_X1_chestAfter
  refine sp_isBetween (sp_checkArgument rfl (by omega) (by omega) (fun e q G' fs s => k0 e q G' (s.f2 (by omega)) ⟨_, s.2.1⟩) fun e => q0 _ (wNN_of ⟨hr.is, ?_⟩))
  obtain ⟨n, -, hn, rfl⟩ := pIn_n (a := 0) (b := 60) rfl rfl (by omega) (by omega) e
  have kk := k1 e
  rw [nI_clamp (by omega)] at kk
  exact sp_after hr hb.b4 hi (hR.le (by omega)) hn fun G' l A' hc' => wNN_of (wGetI_of hc'.1.1 rfl (kk G' (hc'.2.2.f2 (fun b z => z) (by omega) (by omega))))
theorem nG_nights {f : pF} (h : hI f c) : ∀ r, nG (pNights r f) = nG f
  | 0 => rfl
  | r + 1 => (pNight_ok (h.nights r).1.k).2.1.trans (nG_nights h r)
theorem sp_X1_debtAfter (hb : bs ad G) (hc : CI ad G t c P) (hR : rm G 200) {K : Int32 → gS → Prop} (k0 : pIn x 0 (aF P 9 - 1) = false → ∀ q G', gF2 G G' → gHas G' q 20 → X q G') (k2 : pIn x 0 (aF P 9 - 1) = true → pIn y 0 60 = false → ∀ q G', gF2 G G' → gHas G' q 21 → X q G') (k1 : pIn x 0 (aF P 9 - 1) = true → pIn y 0 60 = true → ∀ G', gF2 G G' → K (pNights y.toNatClampNeg (aF P) (28 + 5 * pGi (aF P) x)) G') : wp_X1_debtAfter ad G t x y X K := by
  obtain ⟨h, A, hr, hi, q0⟩ := hc.hq
  have hR1 := hR.1
  have hR2 := hR.2
  unfold wp_X1_debtAfter
  refine q0 _ (wNN_of ⟨hr.is, sp_isGoblin hr (sp_checkIndex rfl (by omega) (by omega) (fun e q G' fs s => k0 e q G' (s.f2 (by omega)) ⟨_, s.2.1⟩) fun e => ?_)⟩)
  refine sp_isBetween (sp_checkArgument rfl (by omega) (by omega) (fun e2 q G' fs s => k2 e e2 q G' (s.f2 (by omega)) ⟨_, s.2.1⟩) fun e2 => q0 _ (wNN_of ⟨hr.is, ?_⟩))
  obtain ⟨g, hg, hx, hp⟩ := pGi_t hr.w e
  obtain ⟨n, -, hn, hy⟩ := pIn_n (a := 0) (b := 60) rfl rfl (by omega) (by omega) e2
  have kk := k1 e e2
  rw [hp, hy, nI_clamp (by omega)] at kk
  rw [hy]
  refine sp_after hr hb.b4 hi (hR.le (by omega)) hn fun G' l A' hc' => wNN_of (hElG hc'.1 hx (by rw [nG_nights hi n]; exact hg) (wNN_of ⟨gIs_of (hc'.1.2.2.2.2.2.1 g (by rw [nG_nights hi n]; exact hg)).1, ?_⟩))
  unfold wp_X7_debt
  exact wGetI_of (hc'.1.2.2.2.2.2.1 g (by rw [nG_nights hi n]; exact hg)).1 rfl (kk G' (hc'.2.2.f2 (fun b z => z) (by omega) (by omega)))
theorem sp_X1_meanDust (hc : CI ad G t c P) (hn : vf_n64 (FP.ddiv (FP.i2d (pDustSum (aF P) 6)) (4618441417868443648 : UInt64))) {K : UInt64 → gS → Prop} (k : K (FP.ddiv (FP.i2d (pDustSum (aF P) 6)) (4618441417868443648 : UInt64)) G) : gIs G t 1 ∧ wp_X1_meanDust ad G t X K := by
  refine ⟨hc.is, ?_⟩
  obtain ⟨h, A, hr, hi, q0⟩ := hc.hq
  unfold wp_X1_meanDust
  exact q0 _ (wNN_of ⟨hr.is, sp_allDust hr ⟨hn, k⟩⟩)
end QU
