/-! PURE: the model's best wages -/
set_option maxRecDepth 20000
theorem nI_dec (n : Nat) : nI (n + 1) + (-1 : Int32) = nI n := by
  rw [← Int32.sub_eq_add_neg]; exact nI_pred n
section MOD
variable {ad : Nat → Nat} {G0 G : gS} {m : Nat} {B : Nat → Nat} {I : Nat → Int32} {V : Nat → Nat → Int32} {X : Nat → gS → Prop} {f b : Nat → Int32}
theorem mLd9 (h : mSt G0 m B G I (mar (mar V 9 b) 0 f)) {i : Int32} {j : Nat} (hi : i = nI j) (hj : j < 60) {K : Int32 → Prop} (k : K (b j)) : wAldI G (B 9) i K := mLd h m9 hi hj (by rw [mar_ne (by decide), mar_self]; exact k)
theorem mSa9 (h : mSt G0 m B G I (mar (mar V 9 b) 0 f)) {i v : Int32} {j : Nat} (hi : i = nI j) (hj : j < 60) {K : gS → Prop} (k : ∀ G', mSt G0 m B G' I (mar (mar V 9 (upd b j v)) 0 f) → K G') : wAstI G (B 9) i v K :=
  mSa h m9 hi hj fun G' h' => k G' (by rw [mar_ne (by decide), mar_self, mar_comm (by decide), mar_mar] at h'; exact h')
theorem pBest_S {f : pF} {g : Int32} {k e : Nat} : pBest f g (k + 1) e = if f (52 + 5 * k) = g ∧ pN f (55 + 5 * k) ≤ e then (if pBest f g k e < f (54 + 5 * k) + pBest f g k (e - pN f (55 + 5 * k)) then f (54 + 5 * k) + pBest f g k (e - pN f (55 + 5 * k)) else pBest f g k e) else pBest f g k e := rfl
theorem sm_bestOf (h : mSt G0 m B G I (mar V 0 f)) (hw : hW f) (he : ∀ k, k < nC f → nn f (55 + 5 * k) 20 ∧ 1 ≤ pN f (55 + 5 * k)) (hE : ∀ g, g < nG f → ∃ E, E < 60 ∧ pEnergy f g = nI E) {x : Int32} {K : Int32 → gS → Prop} (k0 : pIn x 0 (f 9 - 1) = false → ∀ G', mSt G0 m B G' (upd I 14 1) (mar V 0 f) → K 0 G') (k : pIn x 0 (f 9 - 1) = true → ∀ G' V', mEq (mar V 0 f) V' → mSt G0 m B G' (upd I 14 0) V' → K (pBest f x (nC f) (pEnergy f (pGi f x)).toNatClampNeg) G') : wp_X3_bestOf ad G m x X K := by
  unfold wp_X3_bestOf
  refine ⟨h.is, sm_isGoblin h ⟨h.is, sm_goes3' h rfl k0 fun q G h => ⟨h.is, ?_⟩⟩⟩
  have k := k q
  have h8 := hw.2.2.2
  obtain ⟨g, hg, rfl, eg⟩ := pGi_t hw q
  rw [eg] at k
  obtain ⟨E, hE60, eE⟩ := hE g hg
  rw [eE, nI_clamp (by omega)] at k
  refine sm_energyOf h hw hg ?_
  rw [show pEnergy (mar V 0 f 0) g = nI E from eE]
  have k : ∀ (G' : gS) (b : Nat → Int32), mSt G0 m B G' (upd I 14 0) (mar (mar V 9 b) 0 f) → K (pBest f (nI g) (nC f) E) G' := fun G' b h' => k G' _ (fun a a2 a9 => by
    by_cases e0 : a = 0
    · subst e0; rw [mar_self, mar_self]
    · rw [mar_ne e0, mar_ne a9, mar_ne e0]) h'
  generalize upd I 14 0 = I at *
  -- contracts one by one
  have k40 : ∀ (G : gS) (b : Nat → Int32), mSt G0 m B G I (mar (mar V 9 b) 0 f) → (∀ e, e ≤ E → b e = 0) → wp_X3_bestOf_40 ad X K G m (nI g) (nI E) := by
    intro G b h hb
    unfold wp_X3_bestOf_40
    refine gLoop_up (nC f) (fun n (ff : gS → Nat → Int32 → Int32 → Int32 → Prop) => ∀ G b, mSt G0 m B G I (mar (mar V 9 b) 0 f) → (∀ e, e ≤ E → b e = pBest f (nI g) n e) → ff G m (nI g) (nI E) (nI n)) ?_ gFuel 0 (by omega) (gFuel_lt (by omega)) G b h hb
    intro n ff hn hs G b h hb
    unfold wp_X3_bestOf_42
    refine mRd0 h (i := 11) (j := 11) rfl (by decide) ?_
    rw [hw.2.2.1]
    by_cases en : n = nC f
    · subst en
      refine brT (Int32.le_refl _) ?_
      unfold wp_X3_bestOf_127
      refine mQ h m9 (wNN_of (mLd9 h rfl hE60 ?_))
      rw [hb E (Nat.le_refl _)]
      exact k G b h
    · have hs := hs (by omega)
      obtain ⟨⟨he1, he2⟩, he3⟩ := he n (by omega)
      generalize hef : pN f (55 + 5 * n) = ef at *
      refine brF (nI_ge (by omega) (by omega)) ?_
      refine gLoop_ms (fun mu (fg : gS → Nat → Int32 → Int32 → Int32 → Int32 → Prop) => ∀ G b, mSt G0 m B G I (mar (mar V 9 b) 0 f) → mu ≤ E → (∀ e, e ≤ mu → b e = pBest f (nI g) n e) → (∀ e, mu < e → e ≤ E → b e = pBest f (nI g) (n + 1) e) → fg G m (nI g) (nI E) (nI n) (nI mu)) ?_ gFuel E (gFuel_lt (by omega)) G b h (Nat.le_refl _) hb (fun e h1 h2 => absurd h1 (by omega))
      intro mu fg hs2 G b h hmu hb1 hb2
      unfold wp_X3_bestOf_56 wp_X3_bestOf_121
      refine ⟨h.is, sm_ofC0 h (n := n) (by omega) (j := 4) rfl (by omega) (t := 55 + 5 * n) (by omega) ?_⟩
      rw [he1]
      by_cases q1 : mu < ef
      · refine brT (nI_lt q1 (by omega)) ?_
        rw [← nI_succ]
        refine hs G b h fun e h1 => ?_
        by_cases q2 : e ≤ mu
        · rw [hb1 e q2, pBest_S, if_neg (fun z => by rw [hef] at z; omega)]
        · exact hb2 e (by omega) h1
      · refine brF (nI_nlt (by omega) (by omega)) ⟨h.is, sm_ofC0 h (n := n) (by omega) (j := 1) rfl (by omega) (t := 52 + 5 * n) (by omega) ⟨fun q => ?_, fun q => ?_⟩⟩
        · rw [← nI_succ]
          refine hs G b h fun e h1 => ?_
          by_cases q2 : e ≤ mu
          · rw [hb1 e q2, pBest_S, if_neg (fun z => q z.1)]
          · exact hb2 e (by omega) h1
        · refine mQ h m9 (mQ h m9 (wNN_of (mLd9 h rfl (by omega) (mQ h m9 ⟨h.is, sm_ofC0 h (n := n) (by omega) (j := 4) rfl (by omega) (t := 55 + 5 * n) (by omega) ?_⟩))))
          have e1 : nI mu - f (55 + 5 * n) = nI (mu - ef) := by rw [he1, nI_sub (by omega)]
          refine wNN_of (mLd9 h e1 (by omega) ⟨h.is, sm_ofC0 h (n := n) (by omega) (j := 3) rfl (by omega) (t := 54 + 5 * n) (by omega) (wNN_of (mSa9 h rfl (by omega) fun G2 h2 => ?_))⟩)
          obtain ⟨mu', rfl⟩ : ∃ mu', mu = mu' + 1 := ⟨mu - 1, by omega⟩
          rw [nI_dec]
          refine hs2 mu' (by omega) G2 _ h2 (by omega) (fun e h1 => ?_) (fun e h1 h3 => ?_)
          · rw [upd_ne (by omega)]; exact hb1 e (by omega)
          · by_cases q3 : e = mu' + 1
            · subst q3
              rw [upd_self, hb1 _ (Nat.le_refl _), hb1 _ (by omega), pBest_S, hef, Int32.add_comm (pBest f (nI g) n (mu' + 1 - ef))]
              exact (if_pos ⟨q, by omega⟩).symm
            · rw [upd_ne q3]; exact hb2 e (by omega) h3
  have e9 : mar V 0 f = mar (mar V 9 (V 9)) 0 f := by rw [mar_eq (V := V) rfl]
  rw [e9] at h
  refine gLoop_up (E + 1) (fun n (ff : gS → Nat → Int32 → Int32 → Int32 → Prop) => ∀ G b, mSt G0 m B G I (mar (mar V 9 b) 0 f) → (∀ e, e < n → b e = 0) → ff G m (nI g) (nI E) (nI n)) ?_ gFuel 0 (by omega) (gFuel_lt (by omega)) G (V 9) h (fun e h1 => absurd h1 (by omega))
  intro n ff hn hs G b h hb
  unfold wp_X3_bestOf_22
  by_cases en : n = E + 1
  · subst en
    exact brT (nI_lt (by omega) (by omega)) (k40 G b h (fun e h1 => hb e (by omega)))
  · refine brF (nI_nlt (by omega) (by omega)) (mQ h m9 (wNN_of (mSa9 h rfl (by omega) fun G2 h2 => ?_)))
    rw [← nI_succ]
    refine hs (by omega) G2 _ h2 fun e h1 => ?_
    by_cases q : e = n
    · rw [q, upd_self]
    · rw [upd_ne q]; exact hb e (by omega)
end MOD
