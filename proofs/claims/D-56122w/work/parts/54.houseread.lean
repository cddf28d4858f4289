/-! PURE: a household's questions; exceptions -/
set_option maxRecDepth 20000
/-- the constants that households lean on -/
def gB4 (ad : Nat → Nat) (G : gS) : Prop := (∃ w fs, G.1 (ad 0) = some (gO w 26 fs)) ∧ (∃ w fs, G.1 (ad 1) = some (gO w 27 fs)) ∧ (∃ w g, G.1 (ad 2) = some (gAq w 0 g))
theorem gB4.ne {ad : Nat → Nat} {G : gS} (h : gB4 ad G) : ad 0 ≠ ad 1 := fun e => by
  obtain ⟨⟨w, fs, h1⟩, ⟨w2, fs2, h2⟩, -⟩ := h
  rw [e, h2] at h1; cases h1
theorem gB4.to {ad : Nat → Nat} {G G' : gS} (h : gB4 ad G) {n m : Nat} {T : Nat → Prop} (t : gTo T n m G G') (hT : ∀ b, T b → ∃ c, G.1 b = some c ∧ (∀ w fs, c ≠ gO w 26 fs) ∧ (∀ w fs, c ≠ gO w 27 fs) ∧ (∀ w g, c ≠ gAq w 0 g)) : gB4 ad G' := by
  obtain ⟨⟨w, fs, h1⟩, ⟨w2, fs2, h2⟩, w3, g3, h3⟩ := h
  refine ⟨⟨w, fs, t.1 _ _ h1 fun z => ?_⟩, ⟨w2, fs2, t.1 _ _ h2 fun z => ?_⟩, w3, g3, t.1 _ _ h3 fun z => ?_⟩
  · obtain ⟨c, e, n1, n2, n3⟩ := hT _ z
    rw [h1] at e; cases e; exact n1 _ _ rfl
  · obtain ⟨c, e, n1, n2, n3⟩ := hT _ z
    rw [h2] at e; cases e; exact n2 _ _ rfl
  · obtain ⟨c, e, n1, n2, n3⟩ := hT _ z
    rw [h3] at e; cases e; exact n3 _ _ rfl
theorem HC.b4 {ad : Nat → Nat} {G0 G : gS} {u h : Nat} {A : hA} {f : Nat → Int32} (hc : HC ad G0 u G h A f) (hb : gB4 ad G0) : gB4 ad G := by
  obtain ⟨⟨w, fs, h1⟩, ⟨w2, fs2, h2⟩, w3, g3, h3⟩ := hb
  exact ⟨⟨w, fs, hc.old h1⟩, ⟨w2, fs2, hc.old h2⟩, w3, g3, hc.old h3⟩
section HQ
variable {ad : Nat → Nat} {G0 G : gS} {u h : Nat} {A : hA} {f : Nat → Int32} {X : Nat → gS → Prop}
theorem sp_isBetween {x0 x1 x2 : Int32} {K : Int32 → gS → Prop} (k : K (bI (pIn x0 x1 x2)) G) : wp_X1_isBetween ad G x0 x1 x2 X K := by
  unfold wp_X1_isBetween
  refine ⟨fun h => ?_, fun h => ⟨fun h2 => ?_, fun h2 => ?_⟩⟩
  · rw [pIn_lo h] at k; exact k
  · rw [pIn_hi h2] at k; exact k
  · rw [pIn_in h h2] at k; exact k
theorem sp_isGoblin (hr : hRep ad G h A f) {x : Int32} {K : Int32 → gS → Prop} (k : K (bI (pIn x 0 (f 9 - 1))) G) : wp_X2_isGoblin ad G h x X K := by
  unfold wp_X2_isGoblin
  refine hSizeG hr (sp_isBetween ?_)
  rw [← hr.w.2.1.1]
  exact ⟨bI_nar, k⟩
theorem sp_isBroom (hr : hRep ad G h A f) {x : Int32} {K : Int32 → gS → Prop} (k : K (bI (pIn x 0 (f 8 - 1))) G) : wp_X2_isBroom ad G h x X K := by
  unfold wp_X2_isBroom
  refine hSizeB hr (sp_isBetween ?_)
  rw [← hr.w.1.1]
  exact ⟨bI_nar, k⟩
theorem sp_isUsed (hr : hRep ad G h A f) (hb : ad 0 ≠ ad 1) {k : Nat} (hk : k < nB f) {K : Int32 → gS → Prop} (q : K (1 - f (19 + 2 * k)) G) : wp_X9_isUsed ad G (hBa A k) X K := by
  obtain ⟨h1, h2⟩ := hr.2.2.2.2.1 k hk
  unfold wp_X9_isUsed
  refine wGetQ_of h1 (x := some (if f (19 + 2 * k) = 1 then ad 1 else ad 0)) rfl ?_
  rcases h2 with z | z
  · rw [z] at q ⊢
    rw [if_neg (by decide)]
    exact brT' rfl q
  · rw [z] at q ⊢
    rw [if_pos rfl]
    exact brF' (fun z => hb (Option.some.inj z).symm) q
theorem sp_usedBrooms (hr : hRep ad G h A f) (hb : ad 0 ≠ ad 1) {K : Int32 → gS → Prop} (q : K (pUsed f (nB f)) G) : wp_X2_usedBrooms ad G h X K := by
  unfold wp_X2_usedBrooms
  have h4 := hr.w.1.2
  refine gLoop_up (nB f) (fun n (ff : gS → Nat → Int32 → Int32 → Prop) => ff G h (pUsed f n) (nI n)) ?_ gFuel 0 (by omega) (gFuel_lt (by omega))
  intro n ff hn hs
  unfold wp_X2_usedBrooms_4
  refine hSizeB hr ?_
  by_cases e : n = nB f
  · subst e
    exact brT (Int32.le_refl _) q
  · refine brF (nI_ge (by omega) (by omega)) (hElB hr rfl (k := n) (by omega) (wNN_of ⟨gIsB hr (by omega), sp_isUsed hr hb (by omega) ?_⟩))
    have hs := hs (by omega)
    unfold wp_X2_usedBrooms_42
    rw [← nI_succ]
    rw [pUsed] at hs
    rcases (hr.2.2.2.2.1 n (by omega)).2 with z | z
    · rw [z] at hs ⊢
      exact brF (by decide) hs
    · rw [z] at hs ⊢
      exact brT (by decide) hs
theorem pGreat_nn : ∀ n, ¬ pGreat f n < 0
  | 0 => by show ¬ (0 : Int32) < 0; decide
  | n + 1 => by
    have ih := pGreat_nn n
    rw [pGreat]
    split
    · exact ih
    · split
      · rename_i q
        exact fun z => ih (Int32.lt_trans q z)
      · exact ih
theorem sp_usefulPower (hr : hRep ad G h A f) (hb : gB4 ad G) {k : Nat} (hk : k < nB f) {K : Int32 → gS → Prop} (q : K (if f (19 + 2 * k) = 1 then 0 else f (18 + 2 * k)) G) : wp_X9_usefulPower ad G (hBa A k) X K := by
  obtain ⟨h1, h2⟩ := hr.2.2.2.2.1 k hk
  obtain ⟨⟨w, fs, c0⟩, ⟨w2, fs2, c1⟩, -⟩ := hb
  unfold wp_X9_usefulPower
  refine wGetQ_of h1 (x := some (if f (19 + 2 * k) = 1 then ad 1 else ad 0)) rfl (wGetI_of h1 (x := f (18 + 2 * k)) rfl (wNN_of ?_))
  rcases h2 with z | z
  · rw [z, if_neg (by decide)] at q ⊢
    exact Or.inl ⟨gIs_of c0, q⟩
  · rw [z, if_pos rfl] at q ⊢
    exact Or.inr ⟨gIs_of c1, q⟩
theorem sp_sweepingPower (hr : hRep ad G h A f) (hb : gB4 ad G) {K : Int32 → gS → Prop} (q : K (10 + pGreat f (nB f)) G) : wp_X2_sweepingPower ad G h X K := by
  unfold wp_X2_sweepingPower
  have h4 := hr.w.1.2
  refine gLoop_up (nB f) (fun n (ff : gS → Nat → Int32 → Int32 → Prop) => ff G h (pGreat f n) (nI n)) ?_ gFuel 0 (by omega) (gFuel_lt (by omega))
  intro n ff hn hs
  unfold wp_X2_sweepingPower_4
  refine hSizeB hr ?_
  by_cases e : n = nB f
  · subst e
    exact brT (Int32.le_refl _) q
  · refine brF (nI_ge (by omega) (by omega)) (hElB hr rfl (k := n) (by omega) (wNN_of ⟨gIsB hr (by omega), sp_usefulPower hr hb (by omega) ?_⟩))
    have hs := hs (by omega)
    rw [← nI_succ]
    rw [pGreat] at hs
    by_cases z : f (19 + 2 * n) = 1
    · rw [if_pos z] at hs ⊢
      rw [if_neg (pGreat_nn n)]
      exact hs
    · rw [if_neg z] at hs ⊢
      exact hs
theorem sp_energy (hr : hRep ad G h A f) (hb : ad 0 ≠ ad 1) {g : Nat} (hg : g < nG f) {K : Int32 → gS → Prop} (q : K (pEnergy f g) G) : wp_X2_energy ad G h (some (hGa A g)) X K := by
  unfold wp_X2_energy
  exact wNN_of (gI hr hg rfl ⟨hr.is, sp_usedBrooms hr hb q⟩)
theorem sp_hasContract (hr : hRep ad G h A f) {x1 x2 : Int32} {K : Int32 → gS → Prop} (q : K (bI (pHas f x1 x2 (nC f))) G) : wp_X2_hasContract ad G h x1 x2 X K := by
  unfold wp_X2_hasContract
  have h8 := hr.w.2.2.2
  refine gLoop_up (nC f) (fun n (ff : gS → Nat → Int32 → Int32 → Int32 → Int32 → Prop) => ff G h x1 x2 (bI (pHas f x1 x2 n)) (nI n)) ?_ gFuel 0 (by omega) (gFuel_lt (by omega))
  intro n ff hn hs
  unfold wp_X2_hasContract_5
  refine hSizeC hr ?_
  by_cases e : n = nC f
  · subst e
    exact brT (Int32.le_refl _) ⟨bI_nar, q⟩
  · have hs := hs (by omega)
    rw [pHas] at hs
    refine brF (nI_ge (by omega) (by omega)) (hElC hr rfl (k := n) (by omega) (bI_br' (fun q1 => ?_) (fun q1 => wNN_of (cI hr (by omega) rfl ⟨fun q2 => ?_, fun q2 => cI hr (by omega) rfl ⟨fun q3 => ?_, fun q3 => ?_⟩⟩))))
    · unfold wp_X2_hasContract_57 wp_X2_hasContract_62
      rw [← nI_succ]
      rw [q1, Bool.true_or] at hs
      exact hs
    · unfold wp_X2_hasContract_61 wp_X2_hasContract_62
      rw [← nI_succ]
      rw [q1, Bool.false_or, decide_eq_false q2, Bool.false_and] at hs
      exact hs
    · unfold wp_X2_hasContract_61 wp_X2_hasContract_62
      rw [← nI_succ]
      rw [q1, Bool.false_or, decide_eq_false q3, Bool.and_false] at hs
      exact hs
    · unfold wp_X2_hasContract_57 wp_X2_hasContract_62
      rw [← nI_succ]
      rw [q1, Bool.false_or, decide_eq_true q2, decide_eq_true q3] at hs
      exact hs
theorem sp_find (hr : hRep ad G h A f) {id : Int32} {K : Option Nat → gS → Prop} (q : K ((pFind f id (nC f)).map (hCa A)) G) : wp_X2_find ad G h id X K := by
  unfold wp_X2_find
  have h8 := hr.w.2.2.2
  refine gLoop_up (nC f) (fun n (ff : gS → Nat → Int32 → Option Nat → Int32 → Prop) => ff G h id ((pFind f id n).map (hCa A)) (nI n)) ?_ gFuel 0 (by omega) (gFuel_lt (by omega))
  intro n ff hn hs
  unfold wp_X2_find_4
  refine hSizeC hr ?_
  by_cases e : n = nC f
  · subst e
    exact brT (Int32.le_refl _) q
  · have hs := hs (by omega)
    rw [pFind] at hs
    refine brF (nI_ge (by omega) (by omega)) (hElC hr rfl (k := n) (by omega) (wNN_of (cI hr (by omega) rfl ⟨fun q1 => ?_, fun q1 => hElC hr rfl (k := n) (by omega) ?_⟩)))
    · unfold wp_X2_find_54
      rw [← nI_succ]
      rw [if_neg q1] at hs
      exact hs
    · unfold wp_X2_find_54
      rw [← nI_succ]
      rw [if_pos q1] at hs
      exact hs
theorem sp_firstOf (hr : hRep ad G h A f) {g : Int32} {K : Option Nat → gS → Prop} (q : K ((pFirst f g).map (hCa A)) G) : wp_X2_firstOf ad G h g X K := by
  unfold wp_X2_firstOf
  have h8 := hr.w.2.2.2
  refine gLoop_up (nC f) (fun n (ff : gS → Nat → Int32 → Int32 → Prop) => (∀ j, j < n → f (52 + 5 * j) ≠ g) → ff G h g (nI n)) ?_ gFuel 0 (by omega) (gFuel_lt (by omega)) (fun j hj => absurd hj (by omega))
  intro n ff hn hs hb
  unfold wp_X2_firstOf_2
  refine hSizeC hr ?_
  by_cases e : n = nC f
  · subst e
    rw [pFirst_none hb] at q
    exact brT (Int32.le_refl _) q
  · refine brF (nI_ge (by omega) (by omega)) (hElC hr rfl (k := n) (by omega) (wNN_of (cI hr (by omega) rfl ⟨fun q1 => ?_, fun q1 => ?_⟩)))
    · rw [← nI_succ]
      refine hs (by omega) fun j hj => ?_
      by_cases ej : j = n
      · rw [ej]; exact q1
      · exact hb j (by omega)
    · unfold wp_X2_firstOf_35
      rw [pFirst_some (by omega) q1 hb] at q
      exact hElC hr rfl (k := n) (by omega) q
theorem sp_restingCount (hr : hRep ad G h A f) {K : Int32 → gS → Prop} (q : K (pRest f (nG f)) G) : wp_X2_restingCount ad G h X K := by
  unfold wp_X2_restingCount
  have h5 := hr.w.2.1.2
  refine gLoop_up (nG f) (fun n (ff : gS → Nat → Int32 → Int32 → Prop) => ff G h (pRest f n) (nI n)) ?_ gFuel 0 (by omega) (gFuel_lt (by omega))
  intro n ff hn hs
  unfold wp_X2_restingCount_4
  refine hSizeG hr ?_
  by_cases e : n = nG f
  · subst e
    exact brT (Int32.le_refl _) q
  · have hs := hs (by omega)
    rw [pRest] at hs
    refine brF (nI_ge (by omega) (by omega)) (hElG hr rfl (k := n) (by omega) (wNN_of (gI hr (by omega) rfl ?_)))
    unfold wp_X2_restingCount_42
    rw [← nI_succ]
    rcases (hr.2.2.2.2.2.1 n (by omega)).2 with z | z
    · rw [z] at hs ⊢
      exact brT rfl hs
    · rw [z] at hs ⊢
      exact brF (by decide) hs
theorem sp_allCrumbs (hr : hRep ad G h A f) {K : Int32 → gS → Prop} (q : K (pPurses f (nG f)) G) : wp_X2_allCrumbs ad G h X K := by
  unfold wp_X2_allCrumbs
  have h5 := hr.w.2.1.2
  refine hGetI hr (by decide) ?_
  refine gLoop_up (nG f) (fun n (ff : gS → Nat → Int32 → Int32 → Prop) => ff G h (pPurses f n) (nI n)) ?_ gFuel 0 (by omega) (gFuel_lt (by omega))
  intro n ff hn hs
  unfold wp_X2_allCrumbs_7
  refine hSizeG hr ?_
  by_cases e : n = nG f
  · subst e
    exact brT (Int32.le_refl _) q
  · have hs := hs (by omega)
    rw [pPurses] at hs
    refine brF (nI_ge (by omega) (by omega)) (hElG hr rfl (k := n) (by omega) (wNN_of ⟨gIsG hr (by omega), ?_⟩))
    unfold wp_X7_purse
    rw [← nI_succ]
    exact gI hr (by omega) rfl hs
theorem sp_byAccounts (hr : hRep ad G h A f) {K : Int32 → gS → Prop} (q : K (100 + f 2 - f 3) G) : wp_X2_allCrumbsByAccounts ad G h X K := by
  unfold wp_X2_allCrumbsByAccounts
  exact hGetI hr (by decide) (hGetI hr (by decide) q)
theorem sp_allDust (hr : hRep ad G h A f) {K : Int32 → gS → Prop} (q : K (pDustSum f 6) G) : wp_X2_allDust ad G h X K := by
  unfold wp_X2_allDust
  obtain ⟨g, h1, h2⟩ := hr.2.1
  refine hGetD hr (wNN_of (wLen_of h1 (by decide) ?_))
  refine gLoop_up 6 (fun n (ff : gS → Int32 → Nat → Int32 → Int32 → Prop) => ff G (pDustSum f n) (hD A) (nI 6) (nI n)) ?_ gFuel 0 (by omega) (gFuel_lt (by omega))
  intro n ff hn hs
  unfold wp_X2_allDust_13
  by_cases e : n = 6
  · subst e
    exact brT (by decide) q
  · have hs := hs (by omega)
    rw [pDustSum] at hs
    refine brF (nI_ge (b := 6) (by omega) (by omega)) (dLd hr rfl (by omega) ?_)
    rw [← nI_succ]
    exact hs
/-- what is thrown: a new object of class ci, its fields fs -/
def eX (G : gS) (q ci : Nat) (fs : List Value) (G' : gS) : Prop := nC' G q (gO true ci fs) fs.length G'
theorem eX.new {q ci n : Nat} {G' G'' : gS} {c0 : gC} (h : nC' G q c0 n G') {fs fs' : List Value} {k : Nat} {v : Value} (hc : c0 = gO true ci fs) (he : fs.set k v = fs') (s : sC G' q (gO true ci fs') G'') : nC' G q (gO true ci fs') n G'' := h.set s
theorem sp_demand {b : Bool} {x : Int32} (hx : x = bI b) {κ : Nat} {K : gS → Prop} (hb1 : 1 ≤ G.2.1) (hb2 : 7 ≤ G.2.2) (k0 : b = false → ∀ q G', nC' G q (gO true 17 [.null, va_rf (gOp (ad 5)), va_rf (gOp (ad 6)), .null, .null, .int 0, va_rf (some κ)]) 7 G' → X q G') (k1 : b = true → K G) : wp_X1_demand ad G x (some κ) X K := by
  subst hx
  unfold wp_X1_demand
  refine bI_br' k1 fun q => wNew_nC hb1 hb2 fun a G1 s1 => ?_
  unfold wp_X5_init wp_X4_init_at17 wp_J10_init_2_at17 wp_J9_init_3_at17
  refine wPut_sC s1.2.1 (ltb rfl) rfl fun G2 t2 => wPut_sC t2.1 (ltb rfl) rfl fun G3 t3 => wPut_sC t3.1 (ltb rfl) rfl fun G4 t4 => ⟨⟨_, t4.1, rfl, rfl⟩, wPut_sC t4.1 (ltb rfl) rfl fun G5 t5 => wPut_sC t5.1 (ltb rfl) rfl fun G6 t6 => wPut_sC t6.1 (ltb rfl) rfl fun G7 t7 => ?_⟩
  have s7 := (((((s1.set t2).set t3).set t4).set t5).set t6).set t7
  exact ⟨gIsO_of s7.2.1, k0 q a G7 s7⟩
end HQ
