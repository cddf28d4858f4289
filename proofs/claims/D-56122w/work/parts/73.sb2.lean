/-! PURE: numbers put behind; a builder's string; a new builder -/
set_option maxRecDepth 20000
section S2
variable {ad : Nat → Nat} {G : gS} {b v cap n : Nat} {l : List Int32} {X : Nat → gS → Prop}
theorem sp_stringSize {u : Nat} (hu : u < 10 ^ 9) {K : Int32 → gS → Prop} (k : K (nI (sb_dg u)) G) : wp_J20_stringSize ad G (nI u) X K := by
  unfold wp_J20_stringSize wp_J20_stringSize_11
  refine ⟨fun z => absurd z (nI_pos (by omega)), fun _ => ?_⟩
  have key := gLoop_up (bot := fun _ _ _ _ _ => False) (B := wp_J20_stringSize_16 ad X K) 10 (fun i (ff : gS → Int32 → Int32 → Int32 → Int32 → Prop) => 1 ≤ i → (i = 1 ∨ 10 ^ (i - 1) ≤ u) → ff G (-nI u) 0 (-nI (10 ^ i)) (nI i)) ?_ gFuel 1 (by omega) (gFuel_lt (by omega)) (by omega) (Or.inl rfl)
  · exact key
  · intro i ff hi hs h1 h2
    unfold wp_J20_stringSize_16
    have h9 : i ≤ 9 := by
      rcases h2 with h2 | h2
      · omega
      · by_cases q : i ≤ 9
        · exact q
        · have : 10 ^ 9 ≤ 10 ^ (i - 1) := Nat.pow_le_pow_right (by omega) (by omega)
          omega
    have hp : 10 ^ i ≤ 10 ^ 9 := Nat.pow_le_pow_right (by omega) h9
    refine ⟨fun z => absurd z ?_, fun _ => ⟨fun z => ?_, fun z => ?_⟩⟩
    · rw [show (10 : Int32) = nI 10 from rfl]
      exact nI_ge (by omega) (by omega)
    · rw [sb_nle (by omega) (by omega)] at z
      have e1 : (10 : Int32) * -nI (10 ^ i) = -nI (10 ^ (i + 1)) := by
        rw [Int32.mul_neg, show (10 : Int32) = nI 10 from rfl, nI_mul, Nat.pow_succ, Nat.mul_comm]
      rw [e1, nI_1]
      exact hs (by omega) (by omega) (Or.inr (by rw [Nat.add_sub_cancel]; exact z))
    · rw [sb_nle (by omega) (by omega)] at z
      rw [show nI i + (0 : Int32) = nI i from Int32.add_zero _]
      have hd : sb_dg u = i - 1 + 1 := by
        refine sb_dg_of hu ?_ fun j hj => ?_
        · have : u < 10 ^ (i - 1) * 10 := by rw [← Nat.pow_succ, Nat.succ_eq_add_one, Nat.sub_add_cancel h1]; omega
          have := Nat.div_lt_of_lt_mul this
          omega
        · have hu2 : 10 ^ (i - 1) ≤ u := by
            rcases h2 with h2 | h2
            · omega
            · exact h2
          have : 10 ^ (j + 1) ≤ 10 ^ (i - 1) := Nat.pow_le_pow_right (by omega) (by omega)
          have h10 : 10 * 10 ^ j ≤ u := by rw [Nat.mul_comm, ← Nat.pow_succ]; omega
          have : 10 ≤ u / 10 ^ j := (Nat.le_div_iff_mul_le (Nat.pow_pos (by omega))).mpr h10
          omega
      rw [Nat.sub_add_cancel h1] at hd
      rw [← hd]
      exact k
theorem sb_dg1 {w : Nat} (h : w < 10) : sb_dg w = 1 := sb_dg_of (k := 0) (by omega) (by simp; omega) (fun i hi => absurd hi (Nat.not_lt_zero i))
theorem sb_dg2 {w : Nat} (h : 10 ≤ w) (h2 : w < 100) : sb_dg w = 2 := sb_dg_of (k := 1) (by omega) (by omega) (fun i hi => by
  have : i = 0 := by omega
  subst this
  simp
  omega)
theorem sp_getChars (hb : bs ad G) {u : Nat} (hu : u < 10 ^ 9) {g : Nat → Int32} (hv : G.1 v = some (gAb true cap g)) (hn : n + sb_dg u ≤ cap) (hcap : cap ≤ 1000) {K : Int32 → gS → Prop} (k : ∀ r G' g', sC G v (gAb true cap g') G' → (∀ i, i < sb_dg u → g' (n + i) = nI (sb_dec u i)) → (∀ j, j < n → g' j = g j) → (∀ j, n + sb_dg u ≤ j → g' j = g j) → K r G') : wp_J20_getChars ad G (nI u) (nI (n + sb_dg u)) (some v) X K := by
  unfold wp_J20_getChars wp_J20_getChars_12
  refine ⟨fun _ => ⟨fun z => absurd rfl z, fun _ => ?_⟩, fun z => absurd (nI_pos' (by omega)) z⟩
  obtain ⟨-, -, -, ⟨go, ho, eo⟩, ⟨gt, ht, et⟩, -⟩ := hb
  have d1 := sb_dg_in u
  have key := gLoop_ms (bot := fun _ _ _ _ _ => False) (B := wp_J20_getChars_22 ad X K) (fun e (ff : gS → Int32 → Option Nat → Int32 → Int32 → Prop) => ∀ G' g' w, e = sb_dg w → w = u / 10 ^ (sb_dg u - e) → e ≤ sb_dg u → sC G v (gAb true cap g') G' → (∀ i, e ≤ i → i < sb_dg u → g' (n + i) = nI (sb_dec u i)) → (∀ j, j < n → g' j = g j) → (∀ j, n + sb_dg u ≤ j → g' j = g j) → ff G' (-nI w) (some v) (nI (n + e)) 0) ?_ gFuel (sb_dg u) (gFuel_lt (by omega)) G g u rfl (by rw [Nat.sub_self, Nat.pow_zero, Nat.div_one]) (Nat.le_refl _) ⟨hv, fun _ _ => rfl, rfl⟩ (fun i h1 h2 => absurd h2 (by omega)) (fun _ _ => rfl) (fun _ _ => rfl)
  · exact key
  · intro e ff hs G' g' w he hw hed s hg hlo hhi
    have hwu : w ≤ u := by rw [hw]; exact Nat.div_le_self _ _
    have d2 := sb_dg_in w
    have ho' : G'.1 (ad 3) = some (gAb false 100 go) := by
      rw [s.2.1 _ (fun z => by rw [← z, ho] at hv; cases hv)]; exact ho
    have ht' : G'.1 (ad 4) = some (gAb false 100 gt) := by
      rw [s.2.1 _ (fun z => by rw [← z, ht] at hv; cases hv)]; exact ht
    have hne3 : ad 3 ≠ v := fun z => by rw [← z, ho] at hv; cases hv
    have hne4 : ad 4 ≠ v := fun z => by rw [← z, ht] at hv; cases hv
    have dg : ∀ (i : Nat), i < sb_dg u → sb_dec u i = 48 + u / 10 ^ (sb_dg u - 1 - i) % 10 := fun i hi => rfl
    have one : 1 ≤ e → nI (48 + w % 10) = nI (sb_dec u (e - 1)) := fun h1 => by
      rw [dg _ (by omega), hw, show sb_dg u - 1 - (e - 1) = sb_dg u - e by omega]
    have ten : 2 ≤ e → nI (48 + w / 10 % 10) = nI (sb_dec u (e - 2)) := fun h1 => by
      rw [dg _ (by omega), hw, Nat.div_div_eq_div_mul, ← Nat.pow_succ, show sb_dg u - 1 - (e - 2) = sb_dg u - e + 1 by omega]
    have b1 : ∀ m, m < 10 → (nI (48 + m)).toInt8.toInt32 = nI (48 + m) := fun m hm => fit128 _ (by omega)
    unfold wp_J20_getChars_22
    refine ⟨fun z => ?_, fun z => ?_⟩
    · rw [show (-100 : Int32) = -nI 100 from rfl, sb_nlt (by omega) (by omega)] at z
      unfold wp_J20_getChars_72 wp_J20_getChars_104
      rw [Int32.neg_neg]
      refine wAldB_of ho' (vp_in_nI z (by omega)) (wNN_of ?_)
      rw [nI_clamp (by omega), eo w z, sb_m1 (by omega)]
      refine wAstB_sC rfl s.1 (by omega) (by omega) fun G3 t3 => ?_
      rw [b1 _ (Nat.mod_lt _ (by omega)), one (by omega)] at t3
      have s3 := s.trans t3
      refine ⟨fun y => ?_, fun y => ?_⟩
      · rw [show (-9 : Int32) = -nI 9 from rfl, sb_nle (by omega) (by omega)] at y
        have e1 : e = 1 := by rw [he]; exact sb_dg1 (by omega)
        refine ⟨fun _ => k _ G3 _ s3 (fun i hi => ?_) (fun j hj => ?_) (fun j hj => ?_), fun y => absurd rfl y⟩
        · by_cases q : i = 0
          · subst q
            rw [show n + 0 = n + e - 1 by omega, upd_self, e1]
          · rw [upd_ne (by omega)]; exact hg i (by omega) hi
        · rw [upd_ne (by omega)]; exact hlo j hj
        · rw [upd_ne (by omega)]; exact hhi j hj
      · rw [show (-9 : Int32) = -nI 9 from rfl, sb_nle (by omega) (by omega)] at y
        have e2 : e = 2 := by rw [he]; exact sb_dg2 (by omega) z
        refine wAldB_of ((t3.2.1 _ hne4).trans ht') (vp_in_nI z (by omega)) ?_
        rw [nI_clamp (by omega), et w z, sb_m1 (by omega)]
        refine wAstB_sC rfl t3.1 (by omega) (by omega) fun G5 t5 => ?_
        rw [b1 _ (by omega), show w / 10 = w / 10 % 10 by omega, ten (by omega)] at t5
        refine ⟨fun _ => k _ G5 _ (s3.trans t5) (fun i hi => ?_) (fun j hj => ?_) (fun j hj => ?_), fun y => absurd rfl y⟩
        · by_cases q : i = 0
          · subst q
            rw [show n + 0 = n + e - 1 - 1 by omega, upd_self, e2]
          · rw [upd_ne (by omega)]
            by_cases q2 : i = 1
            · subst q2
              rw [show n + 1 = n + e - 1 by omega, upd_self, e2]
            · rw [upd_ne (by omega)]; exact hg i (by omega) hi
        · rw [upd_ne (by omega), upd_ne (by omega)]; exact hlo j hj
        · rw [upd_ne (by omega), upd_ne (by omega)]; exact hhi j hj
    · rw [show (-100 : Int32) = -nI 100 from rfl, sb_nlt (by omega) (by omega)] at z
      have e3 : sb_dg w = sb_dg (w / 100) + 2 := sb_dg100 (by omega) (by omega)
      have d3 := sb_dg_in (w / 100)
      have hr : w % 100 < 100 := Nat.mod_lt _ (by omega)
      rw [sb_ndiv (by omega), sb_nrem (by omega)]
      refine wAldB_of ho' (vp_in_nI hr (by omega)) (wNN_of ?_)
      rw [nI_clamp (by omega), eo _ hr, sb_m1 (by omega)]
      refine wAstB_sC rfl s.1 (by omega) (by omega) fun G3 t3 => wAldB_of ((t3.2.1 _ hne4).trans ht') (vp_in_nI hr (by omega)) ?_
      rw [b1 _ (Nat.mod_lt _ (by omega)), show w % 100 % 10 = w % 10 by omega, one (by omega)] at t3
      rw [nI_clamp (by omega), et _ hr, sb_m1 (by omega)]
      refine wAstB_sC rfl t3.1 (by omega) (by omega) fun G5 t5 => ?_
      rw [b1 _ (by omega), show w % 100 / 10 = w / 10 % 10 by omega, ten (by omega)] at t5
      rw [show n + e - 1 - 1 = n + (e - 2) by omega]
      refine hs (e - 2) (by omega) G5 _ (w / 100) (by omega) ?_ (by omega) ((s.trans t3).trans t5) (fun i h1 h2 => ?_) (fun j hj => ?_) (fun j hj => ?_)
      · rw [hw, Nat.div_div_eq_div_mul, show (100 : Nat) = 10 ^ 2 from rfl, ← Nat.pow_add, show sb_dg u - e + 2 = sb_dg u - (e - 2) by omega]
      · by_cases q : i = e - 2
        · subst q
          rw [show n + (e - 2) = n + e - 1 - 1 by omega, upd_self]
        · rw [upd_ne (by omega)]
          by_cases q2 : i = e - 1
          · subst q2
            rw [show n + (e - 1) = n + e - 1 by omega, upd_self]
          · rw [upd_ne (by omega)]; exact hg i (by omega) h2
      · rw [upd_ne (by omega), upd_ne (by omega)]; exact hlo j hj
      · rw [upd_ne (by omega), upd_ne (by omega)]; exact hhi j hj
end S2
