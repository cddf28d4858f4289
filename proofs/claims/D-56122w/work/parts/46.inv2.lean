/-! PURE: what holds goes on to hold: nights, changes -/
set_option maxRecDepth 20000
section INV
variable {f f' : pF} {c d w : Nat}
theorem hJ.workL {g sw : Int32} {s : Nat} (hs : sw = nI s) (hs2 : s < 2 ^ 30) : ∀ (r : Nat) (f : pF) (e m : Int32) (d : Nat), hJ f c d → ∃ k, (pWorkL g sw r f e m).2 = m + nI k ∧ hJ (pWorkL g sw r f e m).1 c (d + k)
  | 0, f, _, m, d, h => ⟨0, by rw [show nI 0 = 0 from rfl, Int32.add_zero]; rfl, h⟩
  | r + 1, f, e, m, d, h => by
    rw [pWorkL]
    cases q : pFirst f g with
    | none => exact ⟨0, by rw [show nI 0 = 0 from rfl, Int32.add_zero], h⟩
    | some w =>
      show ∃ k, (if e < f (55 + 5 * w) then (f, m) else pWorkL g sw r (pStep f w sw) (e - f (55 + 5 * w)) (m + 1)).2 = m + nI k ∧ hJ (if e < f (55 + 5 * w) then (f, m) else pWorkL g sw r (pStep f w sw) (e - f (55 + 5 * w)) (m + 1)).1 c (d + k)
      by_cases q2 : e < f (55 + 5 * w)
      · rw [if_pos q2]; exact ⟨0, by rw [show nI 0 = 0 from rfl, Int32.add_zero], h⟩
      · rw [if_neg q2]
        obtain ⟨k, e1, e2⟩ := hJ.workL hs hs2 r _ (e - f (55 + 5 * w)) (m + 1) (d + 1) (h.step (pFirst_inv q).1 hs hs2)
        refine ⟨k + 1, ?_, ?_⟩
        · rw [e1, nI_succ, Int32.add_assoc, Int32.add_comm 1]
        · rw [show d + (k + 1) = d + 1 + k by omega]; exact e2
theorem hJ.work (h : hJ f c d) {g : Nat} : ∃ k, (pWork f g).2 = nI k ∧ hJ (pWork f g).1 c (d + k) := by
  obtain ⟨x, hx, e⟩ := pGreat_nI h.2.2.1 h.w.1.2 (nB f) (Nat.le_refl _)
  obtain ⟨k, e1, e2⟩ := hJ.workL (g := nI g) (sw := 10 + pGreat f (nB f)) (s := 10 + x) (by rw [e, show (10 : Int32) = nI 10 from rfl, nI_add]) (by omega) (nC f) f (pEnergy f g) 0 d h
  exact ⟨k, by rw [pWork, e1, Int32.zero_add], e2⟩
theorem hJ.breakL {g : Int32} : ∀ (r : Nat) (f : pF), hJ f c d → hJ (pBreakL g r f) c d
  | 0, f, h => h
  | r + 1, f, h => by
    rw [pBreakL]
    cases q : pFirst f g with
    | none => exact h
    | some w => exact hJ.breakL r _ (h.br (pFirst_inv q).1)
theorem hJ.na (h : hJ f c d) {g : Nat} (hg : g < 5) {m : Int32} : ∃ k, (pNa f g m).2 = m + nI k ∧ hJ (pNa f g m).1 c (d + k) := by
  rw [pNa]
  split
  · exact ⟨0, by rw [show nI 0 = 0 from rfl, Int32.add_zero], h.irr (Or.inr (Or.inr (Or.inr (Or.inr ⟨g, hg, rfl⟩))))⟩
  · obtain ⟨k, e1, e2⟩ := (h.irr (v := 0) (i := 29 + 5 * g) (Or.inr (Or.inr (Or.inr (Or.inr ⟨g, hg, rfl⟩))))).work (g := g)
    exact ⟨k, by rw [e1], e2⟩
theorem hJ.naL (h : hJ f c d) {m : Int32} : ∀ r, r ≤ 5 → ∃ k, (pNaL r f m).2 = m + nI k ∧ hJ (pNaL r f m).1 c (d + k)
  | 0, _ => ⟨0, by rw [show nI 0 = 0 from rfl, Int32.add_zero]; rfl, h⟩
  | r + 1, hr => by
    obtain ⟨k, e1, e2⟩ := hJ.naL h (m := m) r (by omega)
    obtain ⟨k2, e3, e4⟩ := e2.na (g := r) (by omega) (m := (pNaL r f m).2)
    refine ⟨k + k2, ?_, ?_⟩
    · rw [pNaL, e3, e1, Int32.add_assoc, nI_add]
    · rw [← Nat.add_assoc]; exact e4
theorem pMore_nI (h : hJ f c d) {g : Nat} (hg : g < nG f) : ∃ x, pMore f g = nI x ∧ pN f (28 + 5 * g) + x ≤ 999 ∧ (x = 0 ∨ x = min (999 - pN f (28 + 5 * g)) (pN f (28 + 5 * g) / 10 + 1)) ∧ ((f 0 - f 0 / 7 * 7 = 0 ∧ 0 < pN f (28 + 5 * g)) → x = min (999 - pN f (28 + 5 * g)) (pN f (28 + 5 * g) / 10 + 1)) := by
  obtain ⟨-, -, ⟨e, hb⟩, -⟩ := h.2.2.2.1 g hg
  have e1 : f (28 + 5 * g) / 10 + 1 = nI (pN f (28 + 5 * g) / 10 + 1) := by
    rw [e, show (10 : Int32) = nI 10 from rfl, pk_div (by omega) (by omega) (by omega), nI_1]
  have e2 : 999 - f (28 + 5 * g) = nI (999 - pN f (28 + 5 * g)) := by
    rw [e, show (999 : Int32) = nI 999 from rfl, nI_sub hb]
  rw [pMore]
  split
  · rw [e1, e2, min_nI (by omega) (by omega)]
    exact ⟨_, rfl, by omega, Or.inr (Nat.min_comm _ _), fun _ => Nat.min_comm _ _⟩
  · rename_i q
    refine ⟨0, rfl, by omega, Or.inl rfl, fun z => absurd ⟨z.1, ?_⟩ q⟩
    rw [e]
    exact nI_lt (a := 0) z.2 (by omega)
theorem hJ.grow (h : hJ f c d) {g : Nat} (hg : g < nG f) : hJ (pGrow f g) c d := by
  obtain ⟨x, e, hx, -⟩ := pMore_nI h hg
  obtain ⟨-, ⟨b1, b2⟩, ⟨c1, c2⟩, -⟩ := h.2.2.2.1 g hg
  have hg5 := h.w.2.1.2
  rw [pGrow]
  refine hJ.irr (h.move hg (C := pN f 1) (P := pN f (27 + 5 * g)) (D := pN f (28 + 5 * g) + x) ?_ ?_ ?_ hx rfl fun j h1 h2 h3 h4 => upd_ne h3) (by omega)
  · rw [upd_ne (by omega)]; exact h.2.2.2.2.2.1.1.1
  · rw [upd_ne (by omega)]; exact b1
  · rw [upd_self, e, c1, nI_add]
theorem hJ.nb (h : hJ f c d) {g : Nat} (hg : g < nG f) : hJ (pNb f g) c d := by
  rw [pNb]
  split
  · exact h.grow hg
  · have a := hJ.breakL (g := nI g) (nC f) f h
    refine hJ.grow a ?_
    rw [(pBreakL_ok (g := nI g) (nC f) f h.k).eG]; exact hg
theorem hJ.nbL (h : hJ f c d) : ∀ r, r ≤ nG f → hJ (pNbL r f) c d
  | 0, _ => h
  | r + 1, hr => by
    have hg5 := h.w.2.1.2
    refine (hJ.nbL h r (by omega)).nb ?_
    rw [(pNbL_ok h.k r (by omega)).eG]; omega
theorem hI.night (h : hI f c) : hI (pNight f) c ∧ ∃ k, (pNight0 f).2 = nI k := by
  obtain ⟨h1, h2⟩ := h
  have hg5 := h1.w.2.1.2
  have a := (h1.irr (i := 0) (v := f 0 + 1) (Or.inl rfl)).dusty
  have eN : nG (pDusty (upd f 0 (f 0 + 1))) = nG f := (pDusty_ok (h1.k.pu (by omega) (by omega) (by omega) (by omega))).2.1.trans (nG_upd (by omega))
  obtain ⟨k, e1, e2⟩ := a.naL (m := 0) (nG f) hg5
  have e3 := e2.nbL (nG f) (by rw [(pNaL_ok a.k (m := 0) (nG f) hg5).eG, eN]; exact Nat.le_refl _)
  have e4 : (pNight0 f).2 = nI k := by rw [pNight0, e1, Int32.zero_add]
  refine ⟨?_, k, e4⟩
  have e5 : pNight f 4 = nI (pN f 4 + k) := by rw [pNight, upd_self, e4, h2, nI_add]
  have e6 : hJ (pNight f) c (pN f 4 + k) := e3.irr (Or.inr (Or.inl rfl))
  have hlt : pN f 4 + k < 2 ^ 31 := by have := e6.2.2.2.2.2.2.2; have := e6.1.2.2.2.1.2; have := e6.1.2.2.2.2; omega
  have e7 : pN (pNight f) 4 = pN f 4 + k := pN_nI e5 hlt
  exact ⟨by rw [e7]; exact e6, by rw [e7]; exact e5⟩
theorem hI.waits (h : hI f c) {m : Int32} : ∀ r, hI (pWaits r f m).1 c
  | 0 => h
  | r + 1 => (hI.waits h r).night.1
theorem hI.nights (h : hI f c) : ∀ r, hI (pNights r f) c
  | 0 => h
  | r + 1 => (hI.nights h r).night.1
theorem hJ.mono (h : hJ f c d) {c' : Nat} (hc : c ≤ c') (hc2 : c' ≤ 1000) : hJ f c' d := by
  obtain ⟨⟨a1, a2, a3, ⟨a4, a4'⟩, a5⟩, b, b2, b3, b4, ⟨s1, ⟨s2, s2'⟩, s3⟩, ⟨n1, n1'⟩, n2⟩ := h
  exact ⟨⟨a1, a2, a3, ⟨a4, by omega⟩, hc2⟩, b, b2, b3, b4, ⟨s1, ⟨s2, by have := Nat.mul_le_mul_left 999 hc; omega⟩, s3⟩, ⟨n1, by omega⟩, n2⟩
theorem hI.mono (h : hI f c) {c' : Nat} (hc : c ≤ c') (hc2 : c' ≤ 1000) : hI f c' := ⟨h.1.mono hc hc2, h.2⟩
/-- one thing has changed that stands alone -/
theorem hI.of (h : hI f c) (h4 : f' 4 = f 4) (hj : hJ f' c (pN f 4)) : hI f' c := by
  have e : pN f' 4 = pN f 4 := pN_eq h4
  exact ⟨by rw [e]; exact hj, by rw [h4, e]; exact h.2⟩
theorem hI.ban (h : hI f c) {b : Nat} (hb : b < nB f) {x : Int32} (hx : x = 0 ∨ x = 1) : hI (pBan f b x) c := by
  have hb4 := h.1.w.1.2
  have hg5 := h.1.w.2.1.2
  have ne : ∀ j, j ≠ 19 + 2 * b → pBan f b x j = f j := fun j hj => by rw [pBan, upd_ne hj]
  refine h.of (ne _ (by omega)) ?_
  obtain ⟨a1, a2, a3, a4, a5, a6, a7⟩ := h.1
  refine ⟨a1.eq (ne _ (by omega)) (ne _ (by omega)) (ne _ (by omega)) (ne _ (by omega)), a2.eq (fun j _ _ => ne _ (by omega)), fun k hk => ?_, a4.eq (ne _ (by omega)) hg5 (fun j _ _ _ => ne _ (by omega)), a5.eq (ne _ (by omega)) (ne _ (by omega)) (ne _ (by omega)) (fun j _ => ne _ (by omega)), a6.eq hg5 (ne _ (by omega)) (ne _ (by omega)) (ne _ (by omega)) (ne _ (by omega)) (fun k _ => ne _ (by omega)), a7.eq (ne _ (by omega)) (ne _ (by omega)) (ne _ (by omega))⟩
  have e8 : nB (pBan f b x) = nB f := pN_eq (ne _ (by omega))
  rw [e8] at hk
  refine ⟨(nn_eq (ne _ (by omega))).mpr (a3 k hk).1, ?_⟩
  by_cases ek : k = b
  · subst ek
    have e9 : pBan f k x (19 + 2 * k) = x := by rw [pBan, upd_self]
    rcases hx with rfl | rfl
    · exact nn_nI (n := 0) e9 (by omega) (by omega)
    · exact nn_nI (n := 1) e9 (by omega) (by omega)
  · exact (nn_eq (ne _ (by omega))).mpr (a3 k hk).2
theorem hI.rest (h : hI f c) {g : Nat} (hg : g < nG f) {x : Int32} (hx : x = 0 ∨ x = 1) : hI (pRestF f g x) c := by
  have hb4 := h.1.w.1.2
  have hg5 := h.1.w.2.1.2
  have ne : ∀ j, j ≠ 30 + 5 * g → pRestF f g x j = f j := fun j hj => by rw [pRestF, upd_ne hj]
  refine h.of (ne _ (by omega)) ?_
  obtain ⟨a1, a2, a3, a4, a5, a6, a7⟩ := h.1
  refine ⟨a1.eq (ne _ (by omega)) (ne _ (by omega)) (ne _ (by omega)) (ne _ (by omega)), a2.eq (fun j _ _ => ne _ (by omega)), a3.eq (ne _ (by omega)) hb4 (fun j _ _ => ne _ (by omega)), fun k hk => ?_, a5.eq (ne _ (by omega)) (ne _ (by omega)) (ne _ (by omega)) (fun j _ => ne _ (by omega)), a6.eq hg5 (ne _ (by omega)) (ne _ (by omega)) (ne _ (by omega)) (ne _ (by omega)) (fun k _ => ne _ (by omega)), a7.eq (ne _ (by omega)) (ne _ (by omega)) (ne _ (by omega))⟩
  have e8 : nG (pRestF f g x) = nG f := pN_eq (ne _ (by omega))
  rw [e8] at hk
  obtain ⟨b1, b2, b3, b4⟩ := a4 k hk
  refine ⟨(nn_eq (ne _ (by omega))).mpr b1, (nn_eq (ne _ (by omega))).mpr b2, (nn_eq (ne _ (by omega))).mpr b3, ?_⟩
  by_cases ek : k = g
  · subst ek
    have e9 : pRestF f k x (30 + 5 * k) = x := by rw [pRestF, upd_self]
    rcases hx with rfl | rfl
    · exact nn_nI (n := 0) e9 (by omega) (by omega)
    · exact nn_nI (n := 1) e9 (by omega) (by omega)
  · exact (nn_eq (ne _ (by omega))).mpr b4
theorem hI.addBroom (h : hI f c) (hn : nB f < 4) {p : Nat} (hp : p ≤ 20) : hI (pAddBroom f (nI p)) c := by
  have hg5 := h.1.w.2.1.2
  have ne : ∀ j, j ≠ 8 → j ≠ 18 + 2 * nB f → j ≠ 19 + 2 * nB f → pAddBroom f (nI p) j = f j := fun j h1 h2 h3 => by rw [pAddBroom, upd_ne h1, upd_ne h3, upd_ne h2]
  refine h.of (ne _ (by omega) (by omega) (by omega)) ?_
  obtain ⟨a1, a2, a3, a4, a5, a6, a7⟩ := h.1
  have e8 : pAddBroom f (nI p) 8 = nI (nB f + 1) := by rw [pAddBroom, upd_self, a1.1.1, ← nI_succ]; rfl
  have n8 : nB (pAddBroom f (nI p)) = nB f + 1 := pN_nI e8 (by omega)
  refine ⟨⟨nn_nI e8 (by omega) (by omega), (nn_eq (ne _ (by omega) (by omega) (by omega))).mpr a1.2.1, (nn_eq (ne _ (by omega) (by omega) (by omega))).mpr a1.2.2.1, (nn_eq (ne _ (by omega) (by omega) (by omega))).mpr a1.2.2.2.1, a1.2.2.2.2⟩, a2.eq (fun j _ _ => ne _ (by omega) (by omega) (by omega)), fun k hk => ?_, a4.eq (ne _ (by omega) (by omega) (by omega)) hg5 (fun j _ _ _ => ne _ (by omega) (by omega) (by omega)), a5.eq (ne _ (by omega) (by omega) (by omega)) (ne _ (by omega) (by omega) (by omega)) (ne _ (by omega) (by omega) (by omega)) (fun j _ => ne _ (by omega) (by omega) (by omega)), a6.eq hg5 (ne _ (by omega) (by omega) (by omega)) (ne _ (by omega) (by omega) (by omega)) (ne _ (by omega) (by omega) (by omega)) (ne _ (by omega) (by omega) (by omega)) (fun k _ => ne _ (by omega) (by omega) (by omega)), a7.eq (ne _ (by omega) (by omega) (by omega)) (ne _ (by omega) (by omega) (by omega)) (ne _ (by omega) (by omega) (by omega))⟩
  rw [n8] at hk
  by_cases ek : k = nB f
  · subst ek
    exact ⟨nn_nI (n := p) (by rw [pAddBroom, upd_ne (by omega), upd_ne (by omega), upd_self]) (by omega) hp, nn_nI (n := 0) (by rw [pAddBroom, upd_ne (by omega), upd_self]; rfl) (by omega) (by omega)⟩
  · exact ⟨(nn_eq (ne _ (by omega) (by omega) (by omega))).mpr (a3 k (by omega)).1, (nn_eq (ne _ (by omega) (by omega) (by omega))).mpr (a3 k (by omega)).2⟩
theorem hI.addGoblin (h : hI f c) (hn : nG f < 5) {p : Nat} (hp : p ≤ 9) : hI (pAddGoblin f (nI p)) c := by
  have hb4 := h.1.w.1.2
  have hg5 := h.1.w.2.1.2
  have ne : ∀ j, j ≠ 9 → (j < 26 + 5 * nG f ∨ 31 + 5 * nG f ≤ j) → pAddGoblin f (nI p) j = f j := fun j h1 h2 => by rw [pAddGoblin, upd_ne h1, if_neg (by omega)]
  have hin : ∀ i, i < 5 → pAddGoblin f (nI p) (26 + i + 5 * nG f) = nI (if i = 0 then p else 0) := fun i hi => by
    rw [pAddGoblin, upd_ne (by omega), if_pos (by omega)]
    by_cases z : i = 0
    · rw [if_pos z, if_pos (by omega)]
    · rw [if_neg z, if_neg (by omega)]; rfl
  refine h.of (ne _ (by omega) (by omega)) ?_
  obtain ⟨a1, a2, a3, a4, a5, ⟨s1, s2, s3, s4⟩, a7⟩ := h.1
  have e9 : pAddGoblin f (nI p) 9 = nI (nG f + 1) := by rw [pAddGoblin, upd_self, a1.2.1.1, ← nI_succ]; rfl
  have n9 : nG (pAddGoblin f (nI p)) = nG f + 1 := pN_nI e9 (by omega)
  have eo : ∀ j, j ≠ 9 → j < 26 → pAddGoblin f (nI p) j = f j := fun j h1 h2 => ne j h1 (by omega)
  have e51 : ∀ j, 51 ≤ j → pAddGoblin f (nI p) j = f j := fun j h1 => ne j (by omega) (by omega)
  have eC : nC (pAddGoblin f (nI p)) = nC f := pN_eq (eo _ (by omega) (by omega))
  have eN : ∀ j, 51 ≤ j → pN (pAddGoblin f (nI p)) j = pN f j := fun j hj => pN_eq (e51 j hj)
  refine ⟨⟨(nn_eq (eo _ (by omega) (by omega))).mpr a1.1, nn_nI e9 (by omega) (by omega), (nn_eq (eo _ (by omega) (by omega))).mpr a1.2.2.1, (nn_eq (eo _ (by omega) (by omega))).mpr a1.2.2.2.1, a1.2.2.2.2⟩, a2.eq (fun j _ _ => eo _ (by omega) (by omega)), a3.eq (eo _ (by omega) (by omega)) hb4 (fun j _ _ => eo _ (by omega) (by omega)), fun k hk => ?_, ⟨fun k hk => ?_, fun j k hj hk => ?_, fun j k hj hk => ?_⟩, ⟨(nn_eq (eo _ (by omega) (by omega))).mpr s1, (nn_eq (eo _ (by omega) (by omega))).mpr s2, (nn_eq (eo _ (by omega) (by omega))).mpr s3, ?_⟩, a7.eq (eo _ (by omega) (by omega)) (eo _ (by omega) (by omega)) (eo _ (by omega) (by omega))⟩
  · rw [n9] at hk
    by_cases ek : k = nG f
    · subst ek
      exact ⟨nn_nI (n := p) (hin 0 (by omega)) (by omega) hp, nn_nI (n := 0) (hin 1 (by omega)) (by omega) (by omega), nn_nI (n := 0) (hin 2 (by omega)) (by omega) (by omega), nn_nI (n := 0) (hin 4 (by omega)) (by omega) (by omega)⟩
    · obtain ⟨b1, b2, b3, b4⟩ := a4 k (by omega)
      exact ⟨(nn_eq (ne _ (by omega) (by omega))).mpr b1, (nn_eq (ne _ (by omega) (by omega))).mpr b2, (nn_eq (ne _ (by omega) (by omega))).mpr b3, (nn_eq (ne _ (by omega) (by omega))).mpr b4⟩
  · rw [eC] at hk
    obtain ⟨⟨b1, b2⟩, ⟨b3, b4⟩, b5, b6, b7, b8⟩ := a5.1 k hk
    rw [n9, pN_eq (eo 10 (by omega) (by omega)), eN _ (by omega), eN _ (by omega), eN (55 + 5 * k) (by omega)]
    exact ⟨⟨(nn_eq (e51 _ (by omega))).mpr b1, b2⟩, ⟨(nn_eq (e51 _ (by omega))).mpr b3, by omega⟩, (nn_eq (e51 _ (by omega))).mpr b5, (nn_eq (e51 _ (by omega))).mpr b6, (nn_eq (e51 _ (by omega))).mpr b7, b8⟩
  · rw [eC] at hk
    rw [eN _ (by omega), eN _ (by omega)]
    exact a5.2.1 j k hj hk
  · rw [eC] at hk
    rw [e51 _ (by omega), e51 (52 + 5 * k) (by omega), e51 (53 + 5 * j) (by omega), e51 (53 + 5 * k) (by omega)]
    exact a5.2.2 j k hj hk
  · have ep : ∀ n, n ≤ nG f → pPu (pAddGoblin f (nI p)) n = pPu f n := by
      intro n
      induction n with
      | zero => intro _; rfl
      | succ n ih => intro hn; rw [pPu, pPu, ih (by omega), pN_eq (ne (27 + 5 * n) (by omega) (by omega))]
    rw [n9, pPu, ep _ (Nat.le_refl _), pN_nI (n := 0) (hin 1 (by omega)) (by omega), pN_eq (eo 1 (by omega) (by omega)), pN_eq (eo 2 (by omega) (by omega)), pN_eq (eo 3 (by omega) (by omega))]
    omega
theorem hI.lend (h : hI f c) {g : Nat} (hg : g < nG f) {x : Nat} (hx : x ≤ pN f 1) (hx2 : pN f (28 + 5 * g) + x ≤ 999) : hI (pLend f g (nI x)) c := by
  have hg5 := h.1.w.2.1.2
  obtain ⟨s1, s2⟩ := h.1.2.2.2.2.2.1.1
  obtain ⟨-, ⟨b1, b2⟩, ⟨c1, c2⟩, -⟩ := h.1.2.2.2.1 g hg
  refine h.of (by rw [pLend, upd_ne (by omega), upd_ne (by omega), upd_ne (by omega)]) (h.1.move hg (C := pN f 1 - x) (P := pN f (27 + 5 * g) + x) (D := pN f (28 + 5 * g) + x) ?_ ?_ ?_ hx2 (by omega) fun j h1 h2 h3 h4 => ?_)
  · rw [pLend, upd_ne (by omega), upd_ne (by omega), upd_self, s1, nI_sub hx]
  · rw [pLend, upd_ne (by omega), upd_self, b1, nI_add]
  · rw [pLend, upd_self, c1, nI_add]
  · rw [pLend, upd_ne h3, upd_ne h2, upd_ne h1]
theorem hJ.chest (h : hJ f c d) {c' C F S : Nat} (hc : c ≤ c') (hc2 : c' ≤ 1000) (h1 : f' 1 = nI C) (h2 : f' 2 = nI F) (h3 : f' 3 = nI S) (hF : F ≤ 999 * c') (hs : C + pPu f (nG f) + S = 100 + F) (ho : ∀ j, j ≠ 1 → j ≠ 2 → j ≠ 3 → f' j = f j) : hJ f' c' d := by
  have hb4 := h.w.1.2
  have hg5 := h.w.2.1.2
  obtain ⟨a1, a2, a3, a4, a5, -, a7⟩ := h.mono hc hc2
  have e9 : nG f' = nG f := pN_eq (ho _ (by omega) (by omega) (by omega))
  refine ⟨a1.eq (ho _ (by omega) (by omega) (by omega)) (ho _ (by omega) (by omega) (by omega)) (ho _ (by omega) (by omega) (by omega)) (ho _ (by omega) (by omega) (by omega)), a2.eq (fun j _ _ => ho _ (by omega) (by omega) (by omega)), a3.eq (ho _ (by omega) (by omega) (by omega)) hb4 (fun j _ _ => ho _ (by omega) (by omega) (by omega)), a4.eq (ho _ (by omega) (by omega) (by omega)) hg5 (fun j _ _ _ => ho _ (by omega) (by omega) (by omega)), a5.eq (ho _ (by omega) (by omega) (by omega)) (ho _ (by omega) (by omega) (by omega)) (ho _ (by omega) (by omega) (by omega)) (fun j _ => ho _ (by omega) (by omega) (by omega)), ⟨nn_nI h1 (by omega) (by omega), nn_nI h2 (by omega) hF, nn_nI h3 (by omega) (by omega), ?_⟩, a7.eq (ho _ (by omega) (by omega) (by omega)) (ho _ (by omega) (by omega) (by omega)) (ho _ (by omega) (by omega) (by omega))⟩
  rw [e9, pPu_eq (fun k _ => ho _ (by omega) (by omega) (by omega)) _ hg5, pN_nI h1 (by omega), pN_nI h2 (by omega), pN_nI h3 (by omega)]
  exact hs
theorem hI.fund (h : hI f c) (hc : c + 1 ≤ 1000) {x : Nat} (hx : x ≤ 999) : hI (upd (upd f 1 (f 1 + nI x)) 2 (f 2 + nI x)) (c + 1) := by
  obtain ⟨⟨s1, s1'⟩, ⟨s2, s2'⟩, ⟨s3, s3'⟩, s4⟩ := h.1.2.2.2.2.2.1
  have h4 : upd (upd f 1 (f 1 + nI x)) 2 (f 2 + nI x) 4 = f 4 := by rw [upd_ne (by omega), upd_ne (by omega)]
  refine (h.mono (c' := c + 1) (by omega) hc).of h4 (h.1.chest (C := pN f 1 + x) (F := pN f 2 + x) (S := pN f 3) (by omega) hc ?_ ?_ ?_ (by omega) (by omega) fun j h1 h2 h3 => ?_)
  · rw [upd_ne (by omega), upd_self, s1, nI_add]
  · rw [upd_self, s2, nI_add]
  · rw [upd_ne (by omega), upd_ne (by omega)]; exact s3
  · rw [upd_ne h2, upd_ne h1]
theorem hI.spend (h : hI f c) {x : Nat} (hx : x ≤ pN f 1) : hI (upd (upd f 1 (f 1 - nI x)) 3 (f 3 + nI x)) c := by
  obtain ⟨⟨s1, s1'⟩, ⟨s2, s2'⟩, ⟨s3, s3'⟩, s4⟩ := h.1.2.2.2.2.2.1
  have h4 : upd (upd f 1 (f 1 - nI x)) 3 (f 3 + nI x) 4 = f 4 := by rw [upd_ne (by omega), upd_ne (by omega)]
  refine h.of h4 (h.1.chest (c' := c) (C := pN f 1 - x) (F := pN f 2) (S := pN f 3 + x) (Nat.le_refl _) h.1.1.2.2.2.2 ?_ ?_ ?_ s2' (by omega) fun j h1 h2 h3 => ?_)
  · rw [upd_ne (by omega), upd_self, s1, nI_sub hx]
  · rw [upd_ne (by omega), upd_ne (by omega)]; exact s2
  · rw [upd_self, s3, nI_add]
  · rw [upd_ne h3, upd_ne h1]
theorem pFind_id (h : jC f) {k : Nat} (hk : k < nC f) : k < nC f := hk
theorem hI.cancel (h : hI f c) (hw : w < nC f) : hI (pCancel f w) c := by
  have hg5 := h.1.w.2.1.2
  obtain ⟨-, ⟨⟨g1, g1'⟩, g2⟩, -, ⟨w1, w2⟩, -⟩ := h.1.2.2.2.2.1.1 w hw
  obtain ⟨s1, s2⟩ := h.1.2.2.2.2.2.1.1
  obtain ⟨-, ⟨b1, b2⟩, ⟨c1, c2⟩, -⟩ := h.1.2.2.2.1 _ g2
  have ec : pCrumbs f w = nI (min (pN f 1) (pN f (54 + 5 * w) / 10)) := by
    rw [pCrumbs, w1, show (10 : Int32) = nI 10 from rfl, pk_div (by omega) (by omega) (by omega), s1]
    exact min_nI (by omega) (by omega)
  have a : hJ (upd (upd f 1 (f 1 - pCrumbs f w)) (27 + 5 * pN f (52 + 5 * w)) (f (27 + 5 * pN f (52 + 5 * w)) + pCrumbs f w)) c (pN f 4) := by
    refine h.1.move g2 (C := pN f 1 - min (pN f 1) (pN f (54 + 5 * w) / 10)) (P := pN f (27 + 5 * pN f (52 + 5 * w)) + min (pN f 1) (pN f (54 + 5 * w) / 10)) (D := pN f (28 + 5 * pN f (52 + 5 * w))) ?_ ?_ ?_ c2 (by omega) fun j h1 h2 h3 h4 => ?_
    · rw [upd_ne (by omega), upd_self, ec, ← nI_sub (by omega)]; rw [← s1]
    · rw [upd_self, ec, ← nI_add]; rw [← b1]
    · rw [upd_ne (by omega), upd_ne (by omega)]; exact c1
    · rw [upd_ne h2, upd_ne h1]
  refine h.of ?_ ((a.drop (w := w) ?_).le (by omega))
  · rw [pCancel, pDrop_lo (by omega) (by omega), upd_ne (by omega), upd_ne (by omega)]
  · rw [nC_upd (by omega), nC_upd (by omega)]; exact hw
theorem pHas_f {g r : Int32} : ∀ n, pHas f g r n = false → ∀ k, k < n → ¬ (f (52 + 5 * k) = g ∧ f (53 + 5 * k) = r)
  | 0, _ => fun k hk => absurd hk (by omega)
  | n + 1, h => by
    rw [pHas, Bool.or_eq_false_iff] at h
    intro k hk
    by_cases e : k = n
    · subst e
      intro q
      rw [decide_eq_true q.1, decide_eq_true q.2] at h
      exact absurd h.2 (by decide)
    · exact pHas_f n h.1 k (by omega)
theorem hI.hire (h : hI f c) (hc : c + 1 ≤ 1000) (hn : nC f < 8) {g r wg e : Nat} (hg : g < nG f) (hr : r ≤ 5) (hw : wg ≤ 50) (he : e ≤ 20) (he1 : 1 ≤ e) (hh : pHas f (nI g) (nI r) (nC f) = false) : hI (pHire f (nI g) (nI r) (nI wg) (nI e)) (c + 1) := by
  have hb4 := h.1.w.1.2
  have hg5 := h.1.w.2.1.2
  obtain ⟨m10, m10'⟩ := h.1.1.2.2.2.1
  have h := h.mono (c' := c + 1) (by omega) hc
  have ne : ∀ j, j ≠ 10 → j ≠ 11 → (j < 51 + 5 * nC f ∨ 56 + 5 * nC f ≤ j) → pHire f (nI g) (nI r) (nI wg) (nI e) j = f j := fun j h1 h2 h3 => by
    rw [pHire, upd_ne h1, upd_ne h2, upd_ne (by omega), upd_ne (by omega), upd_ne (by omega), upd_ne (by omega), upd_ne (by omega)]
  have eo : ∀ j, j ≠ 10 → j ≠ 11 → j < 51 → pHire f (nI g) (nI r) (nI wg) (nI e) j = f j := fun j h1 h2 h3 => ne j h1 h2 (by omega)
  have e10 : pHire f (nI g) (nI r) (nI wg) (nI e) 10 = nI (pN f 10 + 1) := by rw [pHire, upd_self, m10, nI_succ]
  have e11 : pHire f (nI g) (nI r) (nI wg) (nI e) 11 = nI (nC f + 1) := by rw [pHire, upd_ne (by omega), upd_self, h.1.1.2.2.1.1, ← nI_succ]; rfl
  have n11 : nC (pHire f (nI g) (nI r) (nI wg) (nI e)) = nC f + 1 := pN_nI e11 (by omega)
  have n10 : pN (pHire f (nI g) (nI r) (nI wg) (nI e)) 10 = pN f 10 + 1 := pN_nI e10 (by omega)
  have n9 : nG (pHire f (nI g) (nI r) (nI wg) (nI e)) = nG f := pN_eq (eo _ (by omega) (by omega) (by omega))
  have v0 : pHire f (nI g) (nI r) (nI wg) (nI e) (51 + 5 * nC f) = nI (pN f 10) := by rw [pHire, upd_ne (by omega), upd_ne (by omega), upd_ne (by omega), upd_ne (by omega), upd_ne (by omega), upd_ne (by omega), upd_self]; exact m10
  have v1 : pHire f (nI g) (nI r) (nI wg) (nI e) (52 + 5 * nC f) = nI g := by rw [pHire, upd_ne (by omega), upd_ne (by omega), upd_ne (by omega), upd_ne (by omega), upd_ne (by omega), upd_self]
  have v2 : pHire f (nI g) (nI r) (nI wg) (nI e) (53 + 5 * nC f) = nI r := by rw [pHire, upd_ne (by omega), upd_ne (by omega), upd_ne (by omega), upd_ne (by omega), upd_self]
  have v3 : pHire f (nI g) (nI r) (nI wg) (nI e) (54 + 5 * nC f) = nI wg := by rw [pHire, upd_ne (by omega), upd_ne (by omega), upd_ne (by omega), upd_self]
  have v4 : pHire f (nI g) (nI r) (nI wg) (nI e) (55 + 5 * nC f) = nI e := by rw [pHire, upd_ne (by omega), upd_ne (by omega), upd_self]
  refine h.of (eo _ (by omega) (by omega) (by omega)) ?_
  obtain ⟨a1, a2, a3, a4, a5, a6, a7⟩ := h.1
  generalize pHire f (nI g) (nI r) (nI wg) (nI e) = F at *
  refine ⟨⟨(nn_eq (eo _ (by omega) (by omega) (by omega))).mpr a1.1, (nn_eq (eo _ (by omega) (by omega) (by omega))).mpr a1.2.1, nn_nI e11 (by omega) (by omega), nn_nI e10 (by omega) (by omega), a1.2.2.2.2⟩, a2.eq (fun j _ _ => eo _ (by omega) (by omega) (by omega)), a3.eq (eo _ (by omega) (by omega) (by omega)) hb4 (fun j _ _ => eo _ (by omega) (by omega) (by omega)), a4.eq (eo _ (by omega) (by omega) (by omega)) hg5 (fun j _ _ _ => eo _ (by omega) (by omega) (by omega)), ⟨fun k hk => ?_, fun j k hj hk => ?_, fun j k hj hk => ?_⟩, a6.eq hg5 (eo _ (by omega) (by omega) (by omega)) (eo _ (by omega) (by omega) (by omega)) (eo _ (by omega) (by omega) (by omega)) (eo _ (by omega) (by omega) (by omega)) (fun k _ => eo _ (by omega) (by omega) (by omega)), ⟨(nn_eq (eo _ (by omega) (by omega) (by omega))).mpr a7.1, ?_⟩⟩
  · rw [n11] at hk
    rw [n10, n9]
    by_cases ek : k = nC f
    · subst ek
      refine ⟨⟨nn_nI v0 (by omega) (by omega), ?_⟩, ⟨nn_nI v1 (by omega) (by omega), ?_⟩, nn_nI v2 (by omega) hr, nn_nI v3 (by omega) hw, nn_nI v4 (by omega) he, ?_⟩
      · rw [pN_nI v0 (by omega)]; omega
      · rw [pN_nI v1 (by omega)]; exact hg
      · rw [pN_nI v4 (by omega)]; exact he1
    · obtain ⟨⟨b1, b2⟩, ⟨b3, b4⟩, b5, b6, b7, b8⟩ := a5.1 k (by omega)
      have eN : ∀ j, 51 ≤ j → j < 51 + 5 * nC f → pN F j = pN f j := fun j h1 h2 => pN_eq (ne j (by omega) (by omega) (by omega))
      rw [eN _ (by omega) (by omega), eN _ (by omega) (by omega), eN (55 + 5 * k) (by omega) (by omega)]
      exact ⟨⟨(nn_eq (ne _ (by omega) (by omega) (by omega))).mpr b1, by omega⟩, ⟨(nn_eq (ne _ (by omega) (by omega) (by omega))).mpr b3, b4⟩, (nn_eq (ne _ (by omega) (by omega) (by omega))).mpr b5, (nn_eq (ne _ (by omega) (by omega) (by omega))).mpr b6, (nn_eq (ne _ (by omega) (by omega) (by omega))).mpr b7, b8⟩
  · rw [n11] at hk
    rw [pN_eq (ne (51 + 5 * j) (by omega) (by omega) (by omega))]
    by_cases ek : k = nC f
    · subst ek
      rw [pN_nI v0 (by omega)]
      exact (a5.1 j (by omega)).1.2
    · rw [pN_eq (ne (51 + 5 * k) (by omega) (by omega) (by omega))]
      exact a5.2.1 j k hj (by omega)
  · rw [n11] at hk
    rw [ne (52 + 5 * j) (by omega) (by omega) (by omega), ne (53 + 5 * j) (by omega) (by omega) (by omega)]
    by_cases ek : k = nC f
    · subst ek
      rw [v1, v2]
      exact pHas_f _ hh j (by omega)
    · rw [ne (52 + 5 * k) (by omega) (by omega) (by omega), ne (53 + 5 * k) (by omega) (by omega) (by omega)]
      exact a5.2.2 j k hj (by omega)
  · rw [pN_eq (eo 5 (by omega) (by omega) (by omega)), n10, n11]
    have := a7.2
    omega
/-- every change, in one -/
theorem hI.op (h : hI f c) (hc : c + 1 ≤ 1000) (o : Nat) (a b x y : Int32) (h0 : (pOp o a b x y f).1 = 0) : hI (pOp o a b x y f).2.2 (c + 1) := by
  have hw := h.1.w
  have hm := fun {F : pF} (q : hI F c) => q.mono (c' := c + 1) (by omega) hc
  have ban : ∀ x b, (x = 0 ∨ x = 1) → (oBan x b f).1 = 0 → hI (oBan x b f).2.2 (c + 1) := fun x b hx q => by
    have q := pHolds_iff.mp q
    rw [Bool.and_true, Bool.and_true, Bool.and_eq_true] at q
    obtain ⟨k, hk, rfl, e⟩ := pBi_t hw q.1
    show hI (pBan f (pBi f (nI k)) x) (c + 1)
    rw [e]
    exact hm (h.ban hk hx)
  have rest : ∀ x g, (x = 0 ∨ x = 1) → (oRest x g f).1 = 0 → hI (oRest x g f).2.2 (c + 1) := fun x g hx q => by
    have q := pHolds_iff.mp q
    rw [Bool.and_true, Bool.and_true, Bool.and_eq_true] at q
    obtain ⟨k, hk, rfl, e⟩ := pGi_t hw q.1
    show hI (pRestF f (pGi f (nI k)) x) (c + 1)
    rw [e]
    exact hm (h.rest hk hx)
  match o with
  | 0 =>
    have q := pHolds_iff.mp h0
    rw [Bool.and_true, Bool.and_true, Bool.and_eq_true, decide_eq_true_iff, hw.2.1.1] at q
    obtain ⟨n, -, hn, rfl⟩ := pIn_n (a := 1) (b := 9) rfl rfl (by omega) (by omega) q.1
    exact hm (h.addGoblin ((nI_ltI (b := 5) (by have := hw.2.1.2; omega) (by omega)).mp q.2) hn)
  | 1 =>
    have q := pHolds_iff.mp h0
    rw [Bool.and_true, Bool.and_true, Bool.and_eq_true, decide_eq_true_iff, hw.1.1] at q
    obtain ⟨n, -, hn, rfl⟩ := pIn_n (a := 1) (b := 20) rfl rfl (by omega) (by omega) q.1
    exact hm (h.addBroom ((nI_ltI (b := 4) (by have := hw.1.2; omega) (by omega)).mp q.2) hn)
  | 2 => exact ban 1 a (Or.inr rfl) h0
  | 3 => exact ban 0 a (Or.inl rfl) h0
  | 4 =>
    have q := pHolds_iff.mp h0
    rw [Bool.and_eq_true, Bool.and_eq_true, Bool.and_eq_true, Bool.and_eq_true, Bool.and_eq_true, decide_eq_true_iff, hw.2.2.1] at q
    obtain ⟨⟨⟨⟨q1, q2⟩, q3, q4⟩, q5⟩, q6⟩ := q
    obtain ⟨g, hg, rfl, -⟩ := pGi_t hw q1
    obtain ⟨r, -, hr, rfl⟩ := pIn_n (a := 0) (b := 5) rfl rfl (by omega) (by omega) q2
    obtain ⟨w, -, hwg, rfl⟩ := pIn_n (a := 1) (b := 50) rfl rfl (by omega) (by omega) q3
    obtain ⟨e, he1, he, rfl⟩ := pIn_n (a := 1) (b := 20) rfl rfl (by omega) (by omega) q4
    refine h.hire hc ((nI_ltI (b := 8) (by have := hw.2.2.2; omega) (by omega)).mp q5) hg hr hwg he he1 ?_
    cases z : pHas f (nI g) (nI r) (nC f)
    · rfl
    · rw [z] at q6; exact absurd q6 (by decide)
  | 5 =>
    show hI (oCancel a f).2.2 (c + 1)
    have h0 : (oCancel a f).1 = 0 := h0
    rw [oCancel] at h0 ⊢
    cases z : pFind f a (nC f) with
    | none => rw [z] at h0; exact absurd h0 (by show ¬ (1 : Int32) = 0; decide)
    | some w => exact hm (h.cancel (pFind_lt z).1)
  | 6 => exact rest 1 a (Or.inr rfl) h0
  | 7 => exact rest 0 a (Or.inl rfl) h0
  | 8 =>
    have q := pHolds_iff.mp h0
    rw [Bool.and_true, Bool.and_eq_true, Bool.and_eq_true, Bool.and_eq_true, decide_eq_true_iff, decide_eq_true_iff] at q
    obtain ⟨⟨q1, q2⟩, q3, q4⟩ := q
    obtain ⟨g, hg, rfl, e⟩ := pGi_t hw q1
    obtain ⟨n, -, hn, rfl⟩ := pIn_n (a := 1) (b := 99) rfl rfl (by omega) (by omega) q2
    show hI (pLend f (pGi f (nI g)) (nI n)) (c + 1)
    rw [e]
    obtain ⟨s1, s2⟩ := h.1.2.2.2.2.2.1.1
    obtain ⟨-, -, ⟨c1, c2⟩, -⟩ := h.1.2.2.2.1 g hg
    rw [s1] at q3
    have q3 := (nI_leI (by omega) (by omega)).mp q3
    rw [e, c1, nI_add] at q4
    have q4 := (nI_leI (b := 200) (by omega) (by omega)).mp q4
    exact hm (h.lend hg q3 (by omega))
  | 9 =>
    have q := pHolds_iff.mp h0
    rw [Bool.and_true, Bool.and_true, Bool.and_true] at q
    obtain ⟨n, -, hn, rfl⟩ := pIn_n (a := 1) (b := 999) rfl rfl (by omega) (by omega) q
    exact h.fund hc hn
  | 10 =>
    have q := pHolds_iff.mp h0
    rw [Bool.and_true, Bool.and_true, Bool.and_eq_true, decide_eq_true_iff] at q
    obtain ⟨n, -, hn, rfl⟩ := pIn_n (a := 1) (b := 999) rfl rfl (by omega) (by omega) q.1
    obtain ⟨s1, s2⟩ := h.1.2.2.2.2.2.1.1
    have q3 := q.2
    rw [s1] at q3
    have q3 := (nI_leI (by omega) (by omega)).mp q3
    exact hm (h.spend q3)
  | n + 11 => exact hm (h.waits _)
end INV
