/-! PURE: what holds of the numbers goes on to hold -/
set_option maxRecDepth 20000
section INV
variable {f f' : pF} {c d g w : Nat}
theorem nn_eq {j b : Nat} (h : f' j = f j) : nn f' j b ↔ nn f j b := by rw [nn, nn, pN, pN, h]
theorem pN_eq {j : Nat} (h : f' j = f j) : pN f' j = pN f j := by rw [pN, pN, h]
theorem nn_nI {j b n : Nat} (h : f j = nI n) (hn : n < 2 ^ 31) (hb : n ≤ b) : nn f j b := by
  have e : pN f j = n := by rw [pN, h, nI_clamp hn]
  exact ⟨by rw [e]; exact h, by rw [e]; exact hb⟩
theorem pN_nI {j n : Nat} (h : f j = nI n) (hn : n < 2 ^ 31) : pN f j = n := by rw [pN, h, nI_clamp hn]
theorem jA.eq (h : jA f c) (h8 : f' 8 = f 8) (h9 : f' 9 = f 9) (h10 : f' 10 = f 10) (h11 : f' 11 = f 11) : jA f' c :=
  ⟨(nn_eq h8).mpr h.1, (nn_eq h9).mpr h.2.1, (nn_eq h11).mpr h.2.2.1, (nn_eq h10).mpr h.2.2.2.1, h.2.2.2.2⟩
theorem jD.eq (h : jD f) (hd : ∀ j, 12 ≤ j → j < 18 → f' j = f j) : jD f' := fun j hj => (nn_eq (hd _ (by omega) (by omega))).mpr (h j hj)
theorem jB.eq (h : jB f) (h8 : f' 8 = f 8) (hb : nB f ≤ 4) (hd : ∀ j, 18 ≤ j → j < 26 → f' j = f j) : jB f' := fun k hk => by
  have e : nB f' = nB f := pN_eq h8
  rw [e] at hk
  exact ⟨(nn_eq (hd _ (by omega) (by omega))).mpr (h k hk).1, (nn_eq (hd _ (by omega) (by omega))).mpr (h k hk).2⟩
theorem jG.eq (h : jG f) (h9 : f' 9 = f 9) (hb : nG f ≤ 5) (hd : ∀ j, 26 ≤ j → j < 51 → (∀ k, j ≠ 29 + 5 * k) → f' j = f j) : jG f' := fun k hk => by
  have e : nG f' = nG f := pN_eq h9
  rw [e] at hk
  obtain ⟨a1, a2, a3, a4⟩ := h k hk
  exact ⟨(nn_eq (hd _ (by omega) (by omega) (fun k => by omega))).mpr a1, (nn_eq (hd _ (by omega) (by omega) (fun k => by omega))).mpr a2, (nn_eq (hd _ (by omega) (by omega) (fun k => by omega))).mpr a3, (nn_eq (hd _ (by omega) (by omega) (fun k => by omega))).mpr a4⟩
theorem jC.eq (h : jC f) (h9 : f' 9 = f 9) (h10 : f' 10 = f 10) (h11 : f' 11 = f 11) (hd : ∀ j, 51 ≤ j → f' j = f j) : jC f' := by
  have e9 : nG f' = nG f := pN_eq h9
  have e11 : nC f' = nC f := pN_eq h11
  have e10 : pN f' 10 = pN f 10 := pN_eq h10
  have eN : ∀ j, 51 ≤ j → pN f' j = pN f j := fun j hj => pN_eq (hd j hj)
  refine ⟨fun k hk => ?_, fun j k hj hk => ?_, fun j k hj hk => ?_⟩
  · rw [e11] at hk
    obtain ⟨⟨a1, a2⟩, ⟨a3, a4⟩, a5, a6, a7, a8⟩ := h.1 k hk
    rw [e9, e10, eN _ (by omega), eN _ (by omega), eN (55 + 5 * k) (by omega)]
    exact ⟨⟨(nn_eq (hd _ (by omega))).mpr a1, a2⟩, ⟨(nn_eq (hd _ (by omega))).mpr a3, a4⟩, (nn_eq (hd _ (by omega))).mpr a5, (nn_eq (hd _ (by omega))).mpr a6, (nn_eq (hd _ (by omega))).mpr a7, a8⟩
  · rw [e11] at hk
    rw [eN _ (by omega), eN _ (by omega)]
    exact h.2.1 j k hj hk
  · rw [e11] at hk
    rw [hd _ (by omega), hd (52 + 5 * k) (by omega), hd (53 + 5 * j) (by omega), hd (53 + 5 * k) (by omega)]
    exact h.2.2 j k hj hk
theorem pPu_eq (hd : ∀ k, k < 5 → f' (27 + 5 * k) = f (27 + 5 * k)) : ∀ n, n ≤ 5 → pPu f' n = pPu f n
  | 0, _ => rfl
  | n + 1, hn => by rw [pPu, pPu, pPu_eq hd n (by omega), pN_eq (hd n (by omega))]
theorem pPu_upd (hg : g < 5) : ∀ n, n ≤ 5 → g < n → ∀ x, pPu (upd f (27 + 5 * g) (nI x)) n + pN f (27 + 5 * g) = pPu f n + (nI x).toNatClampNeg
  | 0, _, h, _ => absurd h (by omega)
  | n + 1, hn, h, x => by
    rw [pPu, pPu]
    by_cases e : g = n
    · subst e
      have key : ∀ m, m ≤ g → pPu (upd f (27 + 5 * g) (nI x)) m = pPu f m := by
        intro m
        induction m with
        | zero => intro _; rfl
        | succ m ih => intro hm; rw [pPu, pPu, ih (by omega), pN_upd (by omega)]
      rw [key g (Nat.le_refl _), pN, upd_self]
      omega
    · have ih := pPu_upd hg n (by omega) (by omega) x
      rw [pN_upd (by omega)]
      omega
theorem jS.eq (h : jS f c) (hg : nG f ≤ 5) (h1 : f' 1 = f 1) (h2 : f' 2 = f 2) (h3 : f' 3 = f 3) (h9 : f' 9 = f 9) (hd : ∀ k, k < 5 → f' (27 + 5 * k) = f (27 + 5 * k)) : jS f' c := by
  have e9 : nG f' = nG f := pN_eq h9
  refine ⟨(nn_eq h1).mpr h.1, (nn_eq h2).mpr h.2.1, (nn_eq h3).mpr h.2.2.1, ?_⟩
  rw [e9, pN_eq h1, pN_eq h2, pN_eq h3, pPu_eq hd _ hg]
  exact h.2.2.2
theorem jN.eq (h : jN f c d) (h5 : f' 5 = f 5) (h10 : f' 10 = f 10) (h11 : f' 11 = f 11) : jN f' c d := by
  refine ⟨(nn_eq h5).mpr h.1, ?_⟩
  rw [pN_eq h5, pN_eq h10, nC, pN_eq h11]
  exact h.2
/-- only numbers that don't count have changed -/
theorem hJ.eq (h : hJ f c d) (hd : ∀ j, j ≠ 0 → j ≠ 4 → j ≠ 6 → j ≠ 7 → (∀ k, k < 5 → j ≠ 29 + 5 * k) → f' j = f j) : hJ f' c d := by
  have hb := h.w.1.2
  have hg := h.w.2.1.2
  obtain ⟨a1, a2, a3, a4, a5, a6, a7⟩ := h
  have e : ∀ j, j ≠ 0 → j ≠ 4 → j ≠ 6 → j ≠ 7 → j < 26 → f' j = f j := fun j h0 h4 h6 h7 h26 => hd j h0 h4 h6 h7 (fun k hk => by omega)
  refine ⟨a1.eq (e _ (by omega) (by omega) (by omega) (by omega) (by omega)) (e _ (by omega) (by omega) (by omega) (by omega) (by omega)) (e _ (by omega) (by omega) (by omega) (by omega) (by omega)) (e _ (by omega) (by omega) (by omega) (by omega) (by omega)), a2.eq (fun j h1 h2 => e j (by omega) (by omega) (by omega) (by omega) (by omega)), a3.eq (e _ (by omega) (by omega) (by omega) (by omega) (by omega)) hb (fun j h1 h2 => e j (by omega) (by omega) (by omega) (by omega) (by omega)), a4.eq (e _ (by omega) (by omega) (by omega) (by omega) (by omega)) hg (fun j h1 h2 h3 => hd j (by omega) (by omega) (by omega) (by omega) (fun k _ => h3 k)), a5.eq (e _ (by omega) (by omega) (by omega) (by omega) (by omega)) (e _ (by omega) (by omega) (by omega) (by omega) (by omega)) (e _ (by omega) (by omega) (by omega) (by omega) (by omega)) (fun j hj => hd j (by omega) (by omega) (by omega) (by omega) (fun k hk => by omega)), a6.eq hg (e _ (by omega) (by omega) (by omega) (by omega) (by omega)) (e _ (by omega) (by omega) (by omega) (by omega) (by omega)) (e _ (by omega) (by omega) (by omega) (by omega) (by omega)) (e _ (by omega) (by omega) (by omega) (by omega) (by omega)) (fun k hk => hd _ (by omega) (by omega) (by omega) (by omega) (fun k hk => by omega)), a7.eq (e _ (by omega) (by omega) (by omega) (by omega) (by omega)) (e _ (by omega) (by omega) (by omega) (by omega) (by omega)) (e _ (by omega) (by omega) (by omega) (by omega) (by omega))⟩
theorem hJ.irr (h : hJ f c d) {i : Nat} {v : Int32} (hi : i = 0 ∨ i = 4 ∨ i = 6 ∨ i = 7 ∨ ∃ k, k < 5 ∧ i = 29 + 5 * k) : hJ (upd f i v) c d :=
  h.eq fun j h0 h4 h6 h7 h29 => upd_ne (fun e => by
    rcases hi with z | z | z | z | ⟨k, hk, z⟩
    · omega
    · omega
    · omega
    · omega
    · exact h29 k hk (by omega))
/-- dust alone has changed -/
theorem hJ.dust (h : hJ f c d) (hd : ∀ j, (j < 12 ∨ 18 ≤ j) → f' j = f j) (h2 : jD f') : hJ f' c d := by
  have hb := h.w.1.2
  have hg := h.w.2.1.2
  obtain ⟨a1, a2, a3, a4, a5, a6, a7⟩ := h
  exact ⟨a1.eq (hd _ (by omega)) (hd _ (by omega)) (hd _ (by omega)) (hd _ (by omega)), h2, a3.eq (hd _ (by omega)) hb (fun j h1 h2 => hd j (by omega)), a4.eq (hd _ (by omega)) hg (fun j h1 h2 h3 => hd j (by omega)), a5.eq (hd _ (by omega)) (hd _ (by omega)) (hd _ (by omega)) (fun j hj => hd j (by omega)), a6.eq hg (hd _ (by omega)) (hd _ (by omega)) (hd _ (by omega)) (hd _ (by omega)) (fun k hk => hd _ (by omega)), a7.eq (hd _ (by omega)) (hd _ (by omega)) (hd _ (by omega))⟩
theorem hJ.dusty (h : hJ f c d) : hJ (pDusty f) c d := by
  refine h.dust (fun j hj => by simp only [pDusty]; rw [if_neg (by omega)]) fun j hj => ?_
  obtain ⟨e, hb⟩ := h.2.1 j hj
  have e2 : pDusty f (12 + j) = nI (min (pN f (12 + j) + 3) 99) := by
    simp only [pDusty]
    rw [if_pos (by omega), e, show (3 : Int32) = nI 3 from rfl, nI_add, show (99 : Int32) = nI 99 from rfl]
    exact min_nI (by omega) (by omega)
  exact nn_nI e2 (by omega) (by omega)
theorem pGreat_nI (h : jB f) (hb : nB f ≤ 4) : ∀ n, n ≤ nB f → ∃ x, x ≤ 20 ∧ pGreat f n = nI x
  | 0, _ => ⟨0, by omega, rfl⟩
  | n + 1, hn => by
    obtain ⟨x, hx, e⟩ := pGreat_nI h hb n (by omega)
    obtain ⟨⟨e1, h1⟩, -⟩ := h n (by omega)
    rw [pGreat]
    split
    · exact ⟨x, hx, e⟩
    · split
      · exact ⟨_, h1, e1⟩
      · exact ⟨x, hx, e⟩
theorem pUsed_nI (h : jB f) (hb : nB f ≤ 4) : ∀ n, n ≤ nB f → ∃ x, x ≤ n ∧ pUsed f n = nI x
  | 0, _ => ⟨0, by omega, rfl⟩
  | n + 1, hn => by
    obtain ⟨x, hx, e⟩ := pUsed_nI h hb n (by omega)
    obtain ⟨-, e1, h1⟩ := h n (by omega)
    rw [pUsed, e, e1, show (1 : Int32) = nI 1 from rfl, nI_sub h1, nI_add]
    exact ⟨_, by omega, rfl⟩
theorem pEnergy_nI (h : hJ f c d) (hg : g < nG f) : ∃ E, E < 60 ∧ pEnergy f g = nI E := by
  have hb := h.w.1.2
  obtain ⟨x, hx, e⟩ := pUsed_nI h.2.2.1 hb (nB f) (Nat.le_refl _)
  obtain ⟨⟨e1, h1⟩, -⟩ := h.2.2.2.1 g hg
  rw [pEnergy, e, e1, show (1 : Int32) = nI 1 from rfl, nI_add, nI_mul]
  refine ⟨_, ?_, rfl⟩
  have : pN f (26 + 5 * g) * (x + 1) ≤ 9 * 5 := Nat.mul_le_mul h1 (by omega)
  omega
theorem hJ.sweep (h : hJ f c d) {r : Nat} (hr : r < 6) {sw : Int32} {s : Nat} (hs : sw = nI s) (hs2 : s < 2 ^ 30) : hJ (pSweep f r sw) c d := by
  refine h.dust (fun j hj => by rw [pSweep, upd_ne (by omega)]) fun j hj => ?_
  obtain ⟨e, hb⟩ := h.2.1 j hj
  by_cases ej : j = r
  · subst ej
    have e2 : pSweep f j sw (12 + j) = nI (pN f (12 + j) - s) := by
      rw [pSweep, upd_self, e, hs]
      by_cases q : s ≤ pN f (12 + j)
      · rw [nI_sub q]
        by_cases q2 : pN f (12 + j) - s = 0
        · rw [q2]; rfl
        · rw [if_pos]
          exact nI_lt (a := 0) (by omega) (by omega)
      · rw [if_neg, show pN f (12 + j) - s = 0 by omega]
        · rfl
        · rw [Int32.not_lt]
          exact Int32.le_of_lt (pk_sneg hs2 (by omega))
    exact nn_nI e2 (by omega) (by omega)
  · rw [nn_eq (f := f) (by rw [pSweep, upd_ne (by omega)])]
    exact h.2.1 j hj
/-- crumbs go to and fro -/
theorem hJ.move (h : hJ f c d) (hg : g < nG f) {C P D : Nat} (h1 : f' 1 = nI C) (hP : f' (27 + 5 * g) = nI P) (hD : f' (28 + 5 * g) = nI D) (hD2 : D ≤ 999) (hs : C + P = pN f 1 + pN f (27 + 5 * g)) (ho : ∀ j, j ≠ 1 → j ≠ 27 + 5 * g → j ≠ 28 + 5 * g → j ≠ 6 → f' j = f j) : hJ f' c d := by
  have hb := h.w.1.2
  have hg5 := h.w.2.1.2
  obtain ⟨a1, a2, a3, a4, a5, ⟨s1, s2, s3, s4⟩, a7⟩ := h
  have hgl : g < 5 := by omega
  have eo : ∀ j, j ≠ 1 → j ≠ 6 → j < 26 → f' j = f j := fun j h1 h2 h3 => ho j h1 (by omega) (by omega) h2
  have hc := a1.2.2.2.2
  have hsum : C + P ≤ 1000100 := by
    have hp : ∀ n, n ≤ 5 → g < n → pN f (27 + 5 * g) ≤ pPu f n := by
      intro n
      induction n with
      | zero => intro _ h; omega
      | succ n ih =>
        intro h1 h2
        rw [pPu]
        by_cases e : g = n
        · subst e; omega
        · have := ih (by omega) (by omega); omega
    have := hp _ hg5 hg
    have := s2.2
    omega
  have hC : C < 2 ^ 31 := by omega
  have hP31 : P < 2 ^ 31 := by omega
  refine ⟨a1.eq (eo _ (by omega) (by omega) (by omega)) (eo _ (by omega) (by omega) (by omega)) (eo _ (by omega) (by omega) (by omega)) (eo _ (by omega) (by omega) (by omega)), a2.eq (fun j h1 h2 => eo j (by omega) (by omega) (by omega)), a3.eq (eo _ (by omega) (by omega) (by omega)) hb (fun j h1 h2 => eo j (by omega) (by omega) (by omega)), fun k hk => ?_, a5.eq (eo _ (by omega) (by omega) (by omega)) (eo _ (by omega) (by omega) (by omega)) (eo _ (by omega) (by omega) (by omega)) (fun j hj => ho j (by omega) (by omega) (by omega) (by omega)), ⟨nn_nI h1 hC (by omega), (nn_eq (eo _ (by omega) (by omega) (by omega))).mpr s2, (nn_eq (eo _ (by omega) (by omega) (by omega))).mpr s3, ?_⟩, a7.eq (eo _ (by omega) (by omega) (by omega)) (eo _ (by omega) (by omega) (by omega)) (eo _ (by omega) (by omega) (by omega))⟩
  · have e9 : nG f' = nG f := pN_eq (eo _ (by omega) (by omega) (by omega))
    rw [e9] at hk
    obtain ⟨b1, b2, b3, b4⟩ := a4 k hk
    by_cases ek : k = g
    · subst ek
      exact ⟨(nn_eq (ho _ (by omega) (by omega) (by omega) (by omega))).mpr b1, nn_nI hP hP31 (by omega), nn_nI hD (by omega) hD2, (nn_eq (ho _ (by omega) (by omega) (by omega) (by omega))).mpr b4⟩
    · exact ⟨(nn_eq (ho _ (by omega) (by omega) (by omega) (by omega))).mpr b1, (nn_eq (ho _ (by omega) (by omega) (by omega) (by omega))).mpr b2, (nn_eq (ho _ (by omega) (by omega) (by omega) (by omega))).mpr b3, (nn_eq (ho _ (by omega) (by omega) (by omega) (by omega))).mpr b4⟩
  · have e9 : nG f' = nG f := pN_eq (eo _ (by omega) (by omega) (by omega))
    have ep : ∀ n, n ≤ 5 → pPu f' n = pPu (upd f (27 + 5 * g) (nI P)) n := fun n hn => pPu_eq (fun k hk => by
      by_cases ek : k = g
      · subst ek; rw [hP, upd_self]
      · rw [ho _ (by omega) (by omega) (by omega) (by omega), upd_ne (by omega)]) n hn
    have := pPu_upd (f := f) hgl (nG f) hg5 hg P
    rw [nI_clamp hP31] at this
    rw [e9, ep _ hg5, pN_nI h1 hC, pN_eq (eo 3 (by omega) (by omega) (by omega)), pN_eq (eo 2 (by omega) (by omega) (by omega))]
    omega
theorem pPay_nat (h : hJ f c d) (hg : g < nG f) {wage : Int32} {W : Nat} (hW : wage = nI W) (hW2 : W ≤ 50) : ∃ p b, p = min (pN f 1) W ∧ b = min (pN f (28 + 5 * g)) p ∧ pMin (f 1) wage = nI p ∧ pMin (f (28 + 5 * g)) (pMin (f 1) wage) = nI b := by
  obtain ⟨e1, h1⟩ := h.2.2.2.2.2.1.1
  obtain ⟨-, -, ⟨e2, h2⟩, -⟩ := h.2.2.2.1 g hg
  have ep : pMin (f 1) wage = nI (min (pN f 1) W) := by rw [pMin, e1, hW]; exact min_nI (by omega) (by omega)
  refine ⟨_, _, rfl, rfl, ep, ?_⟩
  rw [ep, pMin, e2]
  exact min_nI (by omega) (by omega)
theorem hJ.pay (h : hJ f c d) (hg : g < nG f) {wage : Int32} {W : Nat} (hW : wage = nI W) (hW2 : W ≤ 50) : hJ (pPay f g wage) c d := by
  obtain ⟨p, b, hp, hb, e1, e2⟩ := pPay_nat h hg hW hW2
  obtain ⟨f1, h1⟩ := h.2.2.2.2.2.1.1
  obtain ⟨-, ⟨f27, h27⟩, ⟨f28, h28⟩, -⟩ := h.2.2.2.1 g hg
  have hg5 := h.w.2.1.2
  refine h.move hg (C := pN f 1 - p + b) (P := pN f (27 + 5 * g) + (p - b)) (D := pN f (28 + 5 * g) - b) ?_ ?_ ?_ (by omega) (by omega) fun j h1 h2 h3 h4 => ?_
  · rw [pPay, upd_ne (by omega), upd_ne (by omega), upd_ne (by omega), upd_self, e2, e1, f1]
    rw [← nI_add, ← nI_sub (by omega)]
    rw [Int32.sub_eq_add_neg, Int32.sub_eq_add_neg, Int32.add_assoc, Int32.add_comm (nI b)]
  · rw [pPay, upd_ne (by omega), upd_self, e2, e1, nI_sub (by omega), f27]
    rw [nI_add]
  · rw [pPay, upd_ne (by omega), upd_ne (by omega), upd_self, e2, f28]
    rw [nI_sub (by omega)]
  · rw [pPay, upd_ne h4, upd_ne h2, upd_ne h3, upd_ne h1]
theorem hJ.drop (h : hJ f c d) (hw : w < nC f) : hJ (pDrop f w) c (d + 1) := by
  have hb := h.w.1.2
  have hg5 := h.w.2.1.2
  have h8 := h.w.2.2.2
  obtain ⟨e1, e2⟩ := nC_drop h.w.2.2.1 h8 hw
  obtain ⟨a1, a2, a3, a4, ⟨c1, c2, c3⟩, a6, a7⟩ := h
  have lo : ∀ j, j ≠ 11 → j < 51 → pDrop f w j = f j := fun j h1 h2 => pDrop_lo h1 (by omega)
  have at' : ∀ i, i < 5 → ∀ j, j < nC f - 1 → pDrop f w (51 + i + 5 * j) = f (51 + i + 5 * (if j < w then j else j + 1)) := fun i hi j hj => pDrop_c h8 hi hj
  have hs : ∀ j, j < nC f - 1 → (if j < w then j else j + 1) < nC f := fun j hj => by split <;> omega
  have hs2 : ∀ j k, j < k → (if j < w then j else j + 1) < (if k < w then k else k + 1) := fun j k hj => by split <;> split <;> omega
  refine ⟨⟨(nn_eq (lo _ (by omega) (by omega))).mpr a1.1, (nn_eq (lo _ (by omega) (by omega))).mpr a1.2.1, nn_nI e2 (by omega) (by omega), (nn_eq (lo _ (by omega) (by omega))).mpr a1.2.2.2.1, a1.2.2.2.2⟩, a2.eq (fun j h1 h2 => lo j (by omega) (by omega)), a3.eq (lo _ (by omega) (by omega)) hb (fun j h1 h2 => lo j (by omega) (by omega)), a4.eq (lo _ (by omega) (by omega)) hg5 (fun j h1 h2 h3 => lo j (by omega) (by omega)), ⟨fun k hk => ?_, fun j k hj hk => ?_, fun j k hj hk => ?_⟩, a6.eq hg5 (lo _ (by omega) (by omega)) (lo _ (by omega) (by omega)) (lo _ (by omega) (by omega)) (lo _ (by omega) (by omega)) (fun k hk => lo _ (by omega) (by omega)), ⟨(nn_eq (lo _ (by omega) (by omega))).mpr a7.1, ?_⟩⟩
  · rw [e1] at hk
    have b0 := at' 0 (by omega) k hk
    have b1 := at' 1 (by omega) k hk
    have b2 := at' 2 (by omega) k hk
    have b3 := at' 3 (by omega) k hk
    have b4 := at' 4 (by omega) k hk
    have hh := c1 _ (hs k hk)
    generalize (if k < w then k else k + 1) = k' at *
    simp only [nn, pN, nG_drop] at hh ⊢
    simp only [Nat.add_zero, show 51 + 1 = 52 from rfl, show 51 + 2 = 53 from rfl, show 51 + 3 = 54 from rfl, show 51 + 4 = 55 from rfl] at b0 b1 b2 b3 b4
    rw [b0, b1, b2, b3, b4, lo 10 (by omega) (by omega)]
    exact hh
  · rw [e1] at hk
    have b0 := at' 0 (by omega) k hk
    have b1 := at' 0 (by omega) j (by omega)
    simp only [Nat.add_zero] at b0 b1
    rw [pN, pN, b0, b1]
    exact c2 _ _ (hs2 j k hj) (hs k hk)
  · rw [e1] at hk
    have b0 := at' 1 (by omega) k hk
    have b1 := at' 1 (by omega) j (by omega)
    have b2 := at' 2 (by omega) k hk
    have b3 := at' 2 (by omega) j (by omega)
    simp only [show 51 + 1 = 52 from rfl, show 51 + 2 = 53 from rfl] at b0 b1 b2 b3
    rw [b0, b1, b2, b3]
    exact c3 _ _ (hs2 j k hj) (hs k hk)
  · rw [pN_eq (lo 5 (by omega) (by omega)), pN_eq (lo 10 (by omega) (by omega)), e1]
    have := a7.2
    omega
theorem hJ.le (h : hJ f c d) {d' : Nat} (hd : d' ≤ d) : hJ f c d' := ⟨h.1, h.2.1, h.2.2.1, h.2.2.2.1, h.2.2.2.2.1, h.2.2.2.2.2.1, ⟨h.2.2.2.2.2.2.1, by have := h.2.2.2.2.2.2.2; omega⟩⟩
theorem hJ.step (h : hJ f c d) (hw : w < nC f) {sw : Int32} {s : Nat} (hs : sw = nI s) (hs2 : s < 2 ^ 30) : hJ (pStep f w sw) c (d + 1) := by
  obtain ⟨-, ⟨⟨g1, -⟩, g2⟩, ⟨r1, r2⟩, ⟨w1, w2⟩, -⟩ := h.2.2.2.2.1.1 w hw
  have a := h.sweep (r := pN f (53 + 5 * w)) (by omega) hs hs2
  have eN : nG (pSweep f (pN f (53 + 5 * w)) sw) = nG f := pN_eq (pSweep_hi (by omega) (by omega))
  have eC : nC (pSweep f (pN f (53 + 5 * w)) sw) = nC f := pN_eq (pSweep_hi (by omega) (by omega))
  have hg5 := h.w.2.1.2
  have b := a.pay (g := pN f (52 + 5 * w)) (by rw [eN]; exact g2) (wage := f (54 + 5 * w)) w1 w2
  refine b.drop ?_
  have : nC (pPay (pSweep f (pN f (53 + 5 * w)) sw) (pN f (52 + 5 * w)) (f (54 + 5 * w))) = nC f := (pN_eq (pPay_11 (by omega))).trans eC
  rw [this]; exact hw
theorem hJ.br (h : hJ f c d) (hw : w < nC f) : hJ (pBr f w) c d := by
  have a := h.drop hw
  have hb := a.w.1.2
  have hg5 := a.w.2.1.2
  obtain ⟨a1, a2, a3, a4, a5, a6, ⟨b1, b2⟩, b3⟩ := a
  have ne : ∀ j, j ≠ 5 → pBr f w j = pDrop f w j := fun j hj => by rw [pBr, upd_ne hj]
  have e5 : pDrop f w 5 = f 5 := pDrop_lo (by omega) (by omega)
  have h5 : pBr f w 5 = nI (pN (pDrop f w) 5 + 1) := by rw [pBr, upd_self, ← e5, b1, ← nI_succ]
  have hm := a1.2.2.2.1.2
  have hc := a1.2.2.2.2
  refine ⟨a1.eq (ne _ (by omega)) (ne _ (by omega)) (ne _ (by omega)) (ne _ (by omega)), a2.eq (fun j _ _ => ne _ (by omega)), a3.eq (ne _ (by omega)) hb (fun j _ _ => ne _ (by omega)), a4.eq (ne _ (by omega)) hg5 (fun j _ _ _ => ne _ (by omega)), a5.eq (ne _ (by omega)) (ne _ (by omega)) (ne _ (by omega)) (fun j _ => ne _ (by omega)), a6.eq hg5 (ne _ (by omega)) (ne _ (by omega)) (ne _ (by omega)) (ne _ (by omega)) (fun k _ => ne _ (by omega)), nn_nI h5 (by omega) (by omega), ?_⟩
  rw [pN_nI h5 (by omega), pN_eq (ne 10 (by omega)), nC, pN_eq (ne 11 (by omega))]
  have : pN (pDrop f w) 11 = nC (pDrop f w) := rfl
  omega
end INV
