/-! PURE: a household is made, copied -/
set_option maxRecDepth 20000
/-- cells by the list, the rest as it was -/
def oV (G : gS) (L : List (Nat × gC)) (n m : Nat) (G' : gS) : Prop := (∀ (i j : Nat) (x y : Nat × gC), L[i]? = some x → L[j]? = some y → x.1 = y.1 → i = j) ∧ (∀ x ∈ L, G'.1 x.1 = some x.2) ∧ (∀ b, (∀ x ∈ L, x.1 ≠ b) → G'.1 b = G.1 b) ∧ G.2.1 = G'.2.1 + n ∧ G.2.2 = G'.2.2 + m
section OV
variable {G G' G'' : gS} {L : List (Nat × gC)} {n m : Nat}
theorem oV.one {a : Nat} {c : gC} (h : G.1 a = some c) : oV G [(a, c)] 0 0 G := ⟨fun i j x y hi hj _ => (by have h1 := (List.getElem?_eq_some_iff.mp hi).1; have h2 := (List.getElem?_eq_some_iff.mp hj).1; simp at h1 h2; omega), fun x hx => by rw [List.mem_singleton] at hx; subst hx; exact h, fun b _ => rfl, rfl, rfl⟩
theorem oV.nil : oV G [] 0 0 G := ⟨fun i j x y hi hj _ => (by simp at hi), fun x hx => (by cases hx), fun b _ => rfl, rfl, rfl⟩
theorem oV.at (h : oV G L n m G') {i a : Nat} {c : gC} (hi : L[i]? = some (a, c)) : G'.1 a = some c := h.2.1 _ (List.mem_of_getElem? hi)
theorem oV.new (h : oV G L n m G') {a s : Nat} {c : gC} (t : nC' G' a c s G'') : oV G (L ++ [(a, c)]) (n + 1) (m + s) G'' ∧ G.1 a = none := by
  obtain ⟨h1, h2, h3, h4, h5⟩ := h
  have hne : ∀ x ∈ L, x.1 ≠ a := fun x hx e => by
    have := h2 x hx
    rw [e, t.1] at this; cases this
  obtain ⟨t1, t2, t3, t4, t5, t6⟩ := t
  have e1 : G''.2.1 = G'.2.1 - 1 := by rw [t6]
  have e2 : G''.2.2 = G'.2.2 - s := by rw [t6]
  refine ⟨⟨fun i j x y hi hj e => ?_, fun x hx => ?_, fun b hb => ?_, by omega, by omega⟩, ?_⟩
  · have key : ∀ (i : Nat) (x : Nat × gC), (L ++ [(a, c)])[i]? = some x → (L[i]? = some x) ∨ (i = L.length ∧ x = (a, c)) := fun i x hi => by
      rw [List.getElem?_append] at hi
      split at hi
      · exact Or.inl hi
      · have hl := (List.getElem?_eq_some_iff.mp hi).1
        simp at hl
        have e : i - L.length = 0 := by omega
        rw [e] at hi
        cases hi
        exact Or.inr ⟨by omega, rfl⟩
    rcases key i x hi with p | ⟨p, rfl⟩ <;> rcases key j y hj with q | ⟨q, rfl⟩
    · exact h1 i j x y p q e
    · exact absurd e (hne x (List.mem_of_getElem? p))
    · exact absurd e.symm (hne y (List.mem_of_getElem? q))
    · rw [p, q]
  · rw [List.mem_append, List.mem_singleton] at hx
    rcases hx with hx | hx
    · rw [t3 _ (hne x hx)]; exact h2 x hx
    · subst hx; exact t2
  · rw [t3 b (fun e => hb (a, c) (List.mem_append_right _ (List.mem_singleton_self _)) e.symm)]
    exact h3 b (fun x hx => hb x (List.mem_append_left _ hx))
  · rw [← h3 a hne]; exact t1
theorem oV.set (h : oV G L n m G') {i a : Nat} {c c0 : gC} (hi : L[i]? = some (a, c0)) (t : sC G' a c G'') : oV G (L.set i (a, c)) n m G'' := by
  obtain ⟨h1, h2, h3, h4, h5⟩ := h
  obtain ⟨hil, hiv⟩ := List.getElem?_eq_some_iff.mp hi
  have hnd : ∀ j, (hj : j < L.length) → j ≠ i → L[j].1 ≠ a := fun j hj hne e => hne (h1 j i L[j] (a, c0) (List.getElem?_eq_getElem hj) hi e)
  have key : ∀ (j : Nat) (x : Nat × gC), (L.set i (a, c))[j]? = some x → ∃ y, L[j]? = some y ∧ y.1 = x.1 := fun j x hj => by
    rw [List.getElem?_set] at hj
    split at hj
    · rename_i e
      subst e
      cases hj
      exact ⟨_, hi, rfl⟩
    · exact ⟨x, hj, rfl⟩
  refine ⟨fun j k x y hj hk e => ?_, fun x hx => ?_, fun b hb => ?_, by rw [t.2.2]; exact h4, by rw [t.2.2]; exact h5⟩
  · obtain ⟨x', p1, p2⟩ := key j x hj
    obtain ⟨y', q1, q2⟩ := key k y hk
    exact h1 j k x' y' p1 q1 (by rw [p2, q2]; exact e)
  · obtain ⟨j, hj, rfl⟩ := List.mem_iff_getElem.mp hx
    rw [List.length_set] at hj
    rw [List.getElem_set]
    split
    · exact t.1
    · rename_i hne
      rw [t.2.1 _ (hnd j hj (Ne.symm hne))]
      exact h2 _ (List.getElem_mem hj)
  · have hba : b ≠ a := fun e => hb (a, c) (List.mem_iff_getElem.mpr ⟨i, by rw [List.length_set]; exact hil, by simp⟩) e.symm
    rw [t.2.1 b hba]
    refine h3 b (fun x hx e => ?_)
    obtain ⟨j, hj, rfl⟩ := List.mem_iff_getElem.mp hx
    by_cases q : j = i
    · subst q; rw [hiv] at e; exact hba e.symm
    · exact hb L[j] (List.mem_iff_getElem.mpr ⟨j, by rw [List.length_set]; exact hj, by rw [List.getElem_set_ne (Ne.symm q)]⟩) e
theorem oV.ne (h : oV G L n m G') {i j a b : Nat} {c d : gC} (hi : L[i]? = some (a, c)) (hj : L[j]? = some (b, d)) (hne : i ≠ j) : a ≠ b := fun e => hne (h.1 i j _ _ hi hj e)
theorem oV.dom (h : oV G L n m G') : ∀ b, G.1 b ≠ none → G'.1 b ≠ none := fun b hb => by
  by_cases q : ∃ x ∈ L, x.1 = b
  · obtain ⟨x, hx, rfl⟩ := q
    rw [h.2.1 x hx]; intro z; cases z
  · rw [h.2.2.1 b (fun x hx e => q ⟨x, hx, e⟩)]; exact hb
theorem oV.to (h : oV G L n m G') {T : Nat → Prop} (hT : ∀ x ∈ L, T x.1 ∨ G.1 x.1 = none) : gTo T n m G G' := by
  refine ⟨fun b c hb hn => ?_, h.dom, by rw [h.2.2.2.1]; exact Nat.le_refl _, by rw [h.2.2.2.2]; exact Nat.le_refl _⟩
  rw [h.2.2.1 b (fun x hx e => by
    rcases hT x hx with z | z
    · rw [e] at z; exact hn z
    · rw [e, hb] at z; cases z)]
  exact hb
end OV
theorem wNewI_nC {G : gS} {n : Int32} {k : Nat} {K : Nat → gS → Prop} (hn : n = nI k) (hk : k ≤ 65536) (h1 : 1 ≤ G.2.1) (h2 : k ≤ G.2.2) (q : ∀ a G', nC' G a (gAi true k (fun _ => 0)) k G' → K a G') : wNewI G n K := by
  subst hn
  have e : (nI k).toNatClampNeg = k := nI_clamp (by omega)
  refine ⟨nI_pos (by omega), by rw [e]; exact hk, h1, by rw [e]; exact h2, fun a ha => ?_⟩
  rw [e]
  exact q a _ (nC'_new ha h1 h2)
def pInit : pF := fun j => if 12 ≤ j ∧ j < 18 then 20 else if j = 1 then 100 else 0
theorem pInit_hI : hI pInit 0 := by
  have e0 : ∀ j, j < 12 ∨ 18 ≤ j → j ≠ 1 → pInit j = nI 0 := fun j h1 h2 => by simp only [pInit]; rw [if_neg (by omega), if_neg h2]; rfl
  have z : ∀ j, j < 12 ∨ 18 ≤ j → j ≠ 1 → ∀ b, nn pInit j b := fun j h1 h2 b => nn_nI (e0 j h1 h2) (by omega) (by omega)
  have p0 : ∀ j, j < 12 ∨ 18 ≤ j → j ≠ 1 → pN pInit j = 0 := fun j h1 h2 => pN_nI (e0 j h1 h2) (by omega)
  have n8 : nB pInit = 0 := p0 8 (by omega) (by omega)
  have n9 : nG pInit = 0 := p0 9 (by omega) (by omega)
  have n11 : nC pInit = 0 := p0 11 (by omega) (by omega)
  have e1 : pInit 1 = nI 100 := rfl
  have p1 : pN pInit 1 = 100 := pN_nI e1 (by omega)
  have p2 := p0 2 (by omega) (by omega)
  have p3 := p0 3 (by omega) (by omega)
  have p4 := p0 4 (by omega) (by omega)
  have p5 := p0 5 (by omega) (by omega)
  have p10 := p0 10 (by omega) (by omega)
  refine ⟨⟨⟨z _ (by omega) (by omega) _, z _ (by omega) (by omega) _, z _ (by omega) (by omega) _, z _ (by omega) (by omega) _, by omega⟩, fun j hj => ?_, fun k hk => absurd hk (by omega), fun k hk => absurd hk (by omega), ⟨fun k hk => absurd hk (by omega), fun j k hj hk => absurd hk (by omega), fun j k hj hk => absurd hk (by omega)⟩, ⟨nn_nI e1 (by omega) (by omega), z _ (by omega) (by omega) _, z _ (by omega) (by omega) _, ?_⟩, z _ (by omega) (by omega) _, by omega⟩, by rw [p4]; exact e0 4 (by omega) (by omega)⟩
  · refine nn_nI (n := 20) ?_ (by omega) (by omega)
    simp only [pInit]
    rw [if_pos (by omega)]; rfl
  · rw [n9, p1, p2, p3]; rfl
section CP
variable {ad : Nat → Nat} {G0 G : gS} {u h : Nat} {A : hA} {f : Nat → Int32} {X : Nat → gS → Prop}
/-- only what is in use counts -/
theorem hRep.congr (hr : hRep ad G h A f) {f' : Nat → Int32} (h8 : f' 8 = f 8) (h9 : f' 9 = f 9) (h11 : f' 11 = f 11) (hf : ∀ j, j < 18 → f' j = f j) (hb : ∀ j, 18 ≤ j → j < 18 + 2 * nB f → f' j = f j) (hg : ∀ j, 26 ≤ j → j < 26 + 5 * nG f → f' j = f j) (hc : ∀ j, 51 ≤ j → j < 51 + 5 * nC f → f' j = f j) : hRep ad G h A f' := by
  obtain ⟨h1, ⟨g, h2, h2'⟩, h3, ⟨h4, h5, h6⟩, k7, k8, k9, h10⟩ := hr
  obtain ⟨w', e8, e9, e11⟩ := h3.eq h8 h9 h11
  rw [hRep, e8, e9, e11]
  refine ⟨?_, ⟨g, h2, fun j hj => by rw [hf _ (by omega)]; exact h2' j hj⟩, w', ⟨h4, h5, h6⟩, fun k hk => ?_, fun k hk => ?_, fun k hk => ?_, h10⟩
  · have e : hFs A f' = hFs A f := by
      simp only [hFs]
      rw [hf 10 (by omega), hf 1 (by omega), hf 0 (by omega), hf 2 (by omega), hf 3 (by omega), hf 4 (by omega), hf 5 (by omega), hf 6 (by omega), hf 7 (by omega)]
    rw [e]; exact h1
  · have e : hBf ad f' k = hBf ad f k := by rw [hBf, hBf, hb _ (by omega) (by omega), hb (19 + 2 * k) (by omega) (by omega)]
    rw [e, hb _ (by omega) (by omega)]
    exact k7 k hk
  · have e : hGf f' k = hGf f k := by rw [hGf, hGf, hg _ (by omega) (by omega), hg (28 + 5 * k) (by omega) (by omega), hg (26 + 5 * k) (by omega) (by omega), hg (30 + 5 * k) (by omega) (by omega), hg (29 + 5 * k) (by omega) (by omega)]
    rw [e, hg _ (by omega) (by omega)]
    exact k8 k hk
  · have e : hCf f' k = hCf f k := by rw [hCf, hCf, hc _ (by omega) (by omega), hc (52 + 5 * k) (by omega) (by omega), hc (53 + 5 * k) (by omega) (by omega), hc (54 + 5 * k) (by omega) (by omega), hc (55 + 5 * k) (by omega) (by omega)]
    rw [e]
    exact k9 k hk
theorem HC.congr (hc : HC ad G0 u G h A f) {f' : Nat → Int32} (h8 : f' 8 = f 8) (h9 : f' 9 = f 9) (h11 : f' 11 = f 11) (hr : hRep ad G h A f') : HC ad G0 u G h A f' := by
  obtain ⟨w', e8, e9, e11⟩ := hc.1.w.eq h8 h9 h11
  exact ⟨hr, fun b hb => hc.2.1 b (by rw [hOwn, e8, e9] at hb; exact hb), hc.2.2⟩
/-- all the dust at once -/
theorem HC.dustAll (hc : HC ad G0 u G h A f) {G' : gS} {f' g' : Nat → Int32} (s : sC G (hD A) (gAi true 6 g') G') (hg : ∀ j, j < 6 → g' j = f' (12 + j)) (hu : ∀ i, i < 12 ∨ 18 ≤ i → f' i = f i) : HC ad G0 u G' h A f' := by
  have hr := hc.1
  obtain ⟨h1, ⟨g, h2, h2'⟩, h3, ⟨h4, h5, h6⟩, h7, h8, h9, h10⟩ := hr
  obtain ⟨w', e8, e9, e11⟩ := h3.eq (hu 8 (by omega)) (hu 9 (by omega)) (hu 11 (by omega))
  refine hc.s1 (Or.inr (Or.inl rfl)) s ?_ ⟨e8, e9⟩
  have ne : ∀ {b c}, G.1 b = some c → (∀ w n ff, c ≠ gAi w n ff) → G'.1 b = some c := fun hb hc => by
    rw [s.2.1 _ (fun z => by rw [z, h2] at hb; cases hb; exact hc _ _ _ rfl)]; exact hb
  have el : ∀ {l e n K : Nat} {a : Nat → Nat}, EL ad G l e n K a → EL ad G' l e n K a := fun hh => by
    obtain ⟨⟨fs, e1⟩, wa, n, ff, e2⟩ := hh.cells
    exact hh.to (by rw [e1]; exact ne e1 (fun _ _ _ z => by cases z)) (by rw [e2]; exact ne e2 (fun _ _ _ z => by cases z))
  rw [hRep, e8, e9, e11]
  refine ⟨?_, ⟨_, s.1, hg⟩, w', ⟨el h4, el h5, el h6⟩, fun k hk => ?_, fun k hk => ?_, fun k hk => ?_, h10⟩
  · have e : hFs A f' = hFs A f := by
      simp only [hFs]
      rw [hu 10 (by omega), hu 1 (by omega), hu 0 (by omega), hu 2 (by omega), hu 3 (by omega), hu 4 (by omega), hu 5 (by omega), hu 6 (by omega), hu 7 (by omega)]
    rw [e]
    exact ne h1 (fun _ _ _ z => by cases z)
  · have e : hBf ad f' k = hBf ad f k := by rw [hBf, hBf, hu _ (by omega), hu (19 + 2 * k) (by omega)]
    rw [e, hu _ (by omega)]
    exact ⟨ne (h7 k hk).1 (fun _ _ _ z => by cases z), (h7 k hk).2⟩
  · have e : hGf f' k = hGf f k := by rw [hGf, hGf, hu _ (by omega), hu (28 + 5 * k) (by omega), hu (26 + 5 * k) (by omega), hu (30 + 5 * k) (by omega), hu (29 + 5 * k) (by omega)]
    rw [e, hu _ (by omega)]
    exact ⟨ne (h8 k hk).1 (fun _ _ _ z => by cases z), (h8 k hk).2⟩
  · have e : hCf f' k = hCf f k := by rw [hCf, hCf, hu _ (by omega), hu (52 + 5 * k) (by omega), hu (53 + 5 * k) (by omega), hu (54 + 5 * k) (by omega), hu (55 + 5 * k) (by omega)]
    rw [e]
    exact ne (h9 k hk) (fun _ _ _ z => by cases z)
theorem sp_X2_init {t0 : Nat} (h0 : G.1 t0 = some (gO true 2 [.null, .null, .null, .null, .int 0, .int 0, .int 0, .int 0, .int 0, .int 0, .int 0, .int 0, .int 0])) {wz : Bool} {gz : Nat → Option Nat} (h2 : G.1 (ad 2) = some (gAq wz 0 gz)) (hr1 : 4 ≤ G.2.1) (hr2 : 15 ≤ G.2.2) {K : gS → Prop}
    (k : ∀ G' A, hRep ad G' t0 A pInit → (∀ b, hOwn t0 A pInit b → b = t0 ∨ G.1 b = none) → gTo (fun b => b = t0) 4 15 G G' → K G') : wp_X2_init ad G t0 X K := by
  have o0 := oV.one h0
  unfold wp_X2_init
  refine wNewI_nC (k := 6) rfl (by omega) (by omega) (by omega) fun c2 G1 t1 => ?_
  obtain ⟨o1, n1⟩ := o0.new t1
  refine wPut_sC (o1.at (i := 0) rfl) (ltb rfl) rfl fun G3 t3 => ?_
  have o3 := o1.set (i := 0) rfl t3
  refine wNew_nC (by have := o3.2.2.2; omega) (by have := o3.2.2.2; omega) fun c5 G4 t4 => ?_
  obtain ⟨o4, n4⟩ := o3.new t4
  refine sp_J2_init (o4.at (i := 2) rfl) fun G6 t6 => ?_
  have o6 := o4.set (i := 2) rfl t6
  refine wPut_sC (o6.at (i := 0) rfl) (ltb rfl) rfl fun G7 t7 => ?_
  have o7 := o6.set (i := 0) rfl t7
  refine wNew_nC (by have := o7.2.2.2; omega) (by have := o7.2.2.2; omega) fun c9 G8 t8 => ?_
  obtain ⟨o8, n8⟩ := o7.new t8
  refine sp_J2_init (o8.at (i := 3) rfl) fun G10 t10 => ?_
  have o10 := o8.set (i := 3) rfl t10
  refine wPut_sC (o10.at (i := 0) rfl) (ltb rfl) rfl fun G11 t11 => ?_
  have o11 := o10.set (i := 0) rfl t11
  refine wNew_nC (by have := o11.2.2.2; omega) (by have := o11.2.2.2; omega) fun c13 G12 t12 => ?_
  obtain ⟨o12, n12⟩ := o11.new t12
  refine sp_J2_init (o12.at (i := 4) rfl) fun G14 t14 => ?_
  have o14 := o12.set (i := 4) rfl t14
  refine wPut_sC (o14.at (i := 0) rfl) (ltb rfl) rfl fun G15 t15 => ?_
  have o15 := o14.set (i := 0) rfl t15
  refine wPut_sC (o15.at (i := 0) rfl) (ltb rfl) rfl fun G16 t16 => ?_
  have o16 := o15.set (i := 0) rfl t16
  have o16 : oV G [(t0, gO true 2 [va_rf (some c2), va_rf (some c5), va_rf (some c9), va_rf (some c13), .int 0, .int 100, .int 0, .int 0, .int 0, .int 0, .int 0, .int 0, .int 0]), (c2, gAi true 6 (fun _ => 0)), (c5, gO true 3 [.int 0, va_rf (some (ad 2)), .int 0]), (c9, gO true 3 [.int 0, va_rf (some (ad 2)), .int 0]), (c13, gO true 3 [.int 0, va_rf (some (ad 2)), .int 0])] 4 15 G16 := o16
  clear o15 o14 o12 o11 o10 o8 o7 o6 o4 o3 o1 o0 t16 t15 t14 t12 t11 t10 t8 t7 t6 t4 t3 t1
  have hnone : ∀ (G' : gS) (g : Nat → Int32), oV G [(t0, gO true 2 [va_rf (some c2), va_rf (some c5), va_rf (some c9), va_rf (some c13), .int 0, .int 100, .int 0, .int 0, .int 0, .int 0, .int 0, .int 0, .int 0]), (c2, gAi true 6 g), (c5, gO true 3 [.int 0, va_rf (some (ad 2)), .int 0]), (c9, gO true 3 [.int 0, va_rf (some (ad 2)), .int 0]), (c13, gO true 3 [.int 0, va_rf (some (ad 2)), .int 0])] 4 15 G' → (∀ j, j < 6 → g j = 20) → K G' := by
    intro G' g o hg
    have hal : ∀ x ∈ [(t0, gO true 2 [va_rf (some c2), va_rf (some c5), va_rf (some c9), va_rf (some c13), .int 0, .int 100, .int 0, .int 0, .int 0, .int 0, .int 0, .int 0, .int 0]), (c2, gAi true 6 g), (c5, gO true 3 [.int 0, va_rf (some (ad 2)), .int 0]), (c9, gO true 3 [.int 0, va_rf (some (ad 2)), .int 0]), (c13, gO true 3 [.int 0, va_rf (some (ad 2)), .int 0])], x.1 = t0 ∨ G.1 x.1 = none := by
      intro x hx
      simp only [List.mem_cons, List.not_mem_nil, or_false] at hx
      rcases hx with rfl | rfl | rfl | rfl | rfl
      · exact Or.inl rfl
      · exact Or.inr n1
      · exact Or.inr n4
      · exact Or.inr n8
      · exact Or.inr n12
    have h2' : G'.1 (ad 2) = some (gAq wz 0 gz) := by
      rw [o.2.2.1 (ad 2) (fun x hx e => ?_)]
      · exact h2
      · rcases hal x hx with z | z
        · rw [z] at e; rw [← e, h0] at h2; cases h2
        · rw [e, h2] at z; cases z
    have w0 := pInit_hI.1.w
    have e8 : nB pInit = 0 := rfl
    have e9 : nG pInit = 0 := rfl
    have e11 : nC pInit = 0 := rfl
    refine k G' ((c2, c5, c9, c13), (ad 2, ad 2, ad 2), (0, 0, 0), (fun _ => 0, fun _ => 0, fun _ => 0)) ?_ (fun b hb => ?_) (o.to hal)
    · rw [hRep, e8, e9, e11]
      refine ⟨o.at (i := 0) rfl, ⟨g, o.at (i := 1) rfl, fun j hj => ?_⟩, w0, ⟨EL.new (o.at (i := 2) rfl) h2', EL.new (o.at (i := 3) rfl) h2', EL.new (o.at (i := 4) rfl) h2'⟩, fun k hk => absurd hk (by omega), fun k hk => absurd hk (by omega), fun k hk => absurd hk (by omega), ⟨o.ne (i := 2) (j := 3) rfl rfl (by omega), o.ne (i := 2) (j := 4) rfl rfl (by omega), o.ne (i := 3) (j := 4) rfl rfl (by omega)⟩, fun _ => rfl, fun _ => rfl, fun _ => rfl⟩
      rw [hg j hj]
      simp only [pInit]
      rw [if_pos (by omega)]
    · rw [hOwn, e8, e9] at hb
      rcases hb with z | z | (z | z | z) | (⟨-, z⟩ | ⟨-, z⟩ | ⟨-, z⟩) | ⟨k, hk, -⟩ | ⟨k, hk, -⟩
      · exact Or.inl z
      · rw [z]; exact Or.inr n1
      · rw [z]; exact Or.inr n4
      · rw [z]; exact Or.inr n8
      · rw [z]; exact Or.inr n12
      · exact absurd z (by show ¬ 0 < 0; omega)
      · exact absurd z (by show ¬ 0 < 0; omega)
      · exact absurd z (by show ¬ 0 < 0; omega)
      · omega
      · omega
  refine gLoop_up 6 (fun n (ff : gS → Nat → Int32 → Prop) => ∀ G' g, oV G [(t0, gO true 2 [va_rf (some c2), va_rf (some c5), va_rf (some c9), va_rf (some c13), .int 0, .int 100, .int 0, .int 0, .int 0, .int 0, .int 0, .int 0, .int 0]), (c2, gAi true 6 g), (c5, gO true 3 [.int 0, va_rf (some (ad 2)), .int 0]), (c9, gO true 3 [.int 0, va_rf (some (ad 2)), .int 0]), (c13, gO true 3 [.int 0, va_rf (some (ad 2)), .int 0])] 4 15 G' → (∀ j, j < n → g j = 20) → ff G' t0 (nI n)) ?_ gFuel 0 (by omega) (gFuel_lt (by omega)) G16 _ o16 (fun j hj => absurd hj (by omega))
  intro n ff hn hs G' g o hg
  unfold wp_X2_init_53
  by_cases e : n = 6
  · subst e
    exact brT (by decide) (hnone G' g o hg)
  · refine brF (nI_ge (b := 6) (by omega) (by omega)) (wGetQ_of (o.at (i := 0) rfl) (x := some c2) rfl (wNN_of (wAstI_of (o.at (i := 1) rfl) (vp_in_nI (by omega) (by omega)) ?_)))
    rw [nI_clamp (by omega), ← nI_succ]
    refine hs (by omega) _ _ (o.set (i := 1) rfl sC_set) fun j hj => ?_
    by_cases ej : j = n
    · rw [ej, upd_self]
    · rw [upd_ne ej]; exact hg j (by omega)
end CP
