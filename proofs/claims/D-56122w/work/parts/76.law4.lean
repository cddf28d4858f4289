/-! PURE: texts of contracts; what is written (printed by gen/law4.py) -/
set_option maxRecDepth 20000
theorem bL.mono {G0 G : gS} {u s n u' s' n' b : Nat} {l : List Int32} (h : bL G0 u s n G b l) (h1 : u ≤ u') (h2 : s ≤ s') (h3 : n ≤ n') : bL G0 u' s' n' G b l := by
  obtain ⟨h0, v, cap, a1, a2, a3, a4⟩ := h
  exact ⟨by omega, v, cap, a1, a2, a3, a4.mono (fun b z => Or.inr z) h1 h2⟩
theorem pConText_len {f : pF} {k c : Nat} (h : hI f c) (hk : k < nC f) : (pConText f k).length ≤ 14 := by
  obtain ⟨⟨-, h51⟩, hlt, ⟨-, h53⟩, ⟨-, h54⟩, ⟨-, h55⟩, -⟩ := h.1.2.2.2.2.1.1 k hk |>.imp (fun q => q.1) id
  have h52 : pN f (52 + 5 * k) ≤ 4 := hlt.1.2
  have da : sb_dg (pN f (51 + 5 * k)) ≤ 4 := sb_dg_le (by omega) (by omega) (by omega)
  have db : sb_dg (pN f (52 + 5 * k)) ≤ 1 := sb_dg_le (by omega) (by omega) (by omega)
  have dc : sb_dg (pN f (53 + 5 * k)) ≤ 1 := sb_dg_le (by omega) (by omega) (by omega)
  have dd : sb_dg (pN f (54 + 5 * k)) ≤ 2 := sb_dg_le (by omega) (by omega) (by omega)
  have de : sb_dg (pN f (55 + 5 * k)) ≤ 2 := sb_dg_le (by omega) (by omega) (by omega)
  simp only [pConText, List.length_append, pNum_len, List.length_cons, List.length_nil]
  omega
section T2
variable {ad : Nat → Nat} {G0 G : gS} {u s n b t c : Nat} {l sl : List Int32} {X : Nat → gS → Prop} {f : pF}
theorem sp_X10_text (hb : bs ad G) {k : Nat} (ht : G.1 t = some (gO true 10 (hCf f k))) (hw : hI f c) (hk : k < nC f) (r1 : 20 ≤ G.2.1) (r2 : 2000 ≤ G.2.2) {K : Option Nat → gS → Prop} (kk : ∀ G' s0 sv, gTo (fun _ => False) 13 800 G G' → G.1 s0 = none → G.1 sv = none → sV G' s0 ((pConText f k).map nI) sv → K (some s0) G') : gIs G t 10 ∧ wp_X10_text ad G t X K := by
  obtain ⟨⟨⟨e51, h51⟩, -⟩, ⟨⟨e52, h52⟩, -⟩, ⟨e53, h53⟩, ⟨e54, h54⟩, ⟨e55, h55⟩, -⟩ := hw.1.2.2.2.2.1.1 k hk
  refine ⟨gIs_of ht, ?_⟩
  unfold wp_X10_text
  refine bL.new (by omega) (by omega) fun G1 b h1 => wGetI_of (h1.old ht) (x := f (51 + 5 * k)) rfl ?_
  refine h1.appI hb (by omega) (by omega) (by omega) e51 (by omega) fun G2 h2 => wNN_of ?_
  refine h2.appS (k := 1) (by omega) (by omega) (by omega) (hb.s106.s (ltb rfl)) (Nat.le_refl _) (by omega) (aOk_1 (m := 58) (by omega)) fun G3 h3 => wGetI_of (h3.old ht) (x := f (52 + 5 * k)) rfl (wNN_of ?_)
  refine h3.appI hb (by omega) (by omega) (by omega) e52 (by omega) fun G4 h4 => wNN_of ?_
  refine h4.appS (k := 1) (by omega) (by omega) (by omega) (hb.s107.s (ltb rfl)) (Nat.le_refl _) (by omega) (aOk_1 (m := 62) (by omega)) fun G5 h5 => wGetI_of (h5.old ht) (x := f (53 + 5 * k)) rfl (wNN_of ?_)
  refine h5.appI hb (by omega) (by omega) (by omega) e53 (by omega) fun G6 h6 => wNN_of ?_
  refine h6.appS (k := 1) (by omega) (by omega) (by omega) (hb.s108.s (ltb rfl)) (Nat.le_refl _) (by omega) (aOk_1 (m := 64) (by omega)) fun G7 h7 => wGetI_of (h7.old ht) (x := f (54 + 5 * k)) rfl (wNN_of ?_)
  refine h7.appI hb (by omega) (by omega) (by omega) e54 (by omega) fun G8 h8 => wNN_of ?_
  refine h8.appS (k := 1) (by omega) (by omega) (by omega) (hb.s109.s (ltb rfl)) (Nat.le_refl _) (by omega) (aOk_1 (m := 47) (by omega)) fun G9 h9 => wGetI_of (h9.old ht) (x := f (55 + 5 * k)) rfl (wNN_of ?_)
  refine h9.appI hb (by omega) (by omega) (by omega) e55 (by omega) fun G10 h10 => wNN_of (h10.toS (by omega) (by omega) (by omega) fun G' s0 sv t9 m1 m2 hs9 => kk G' s0 sv (t9.mono (fun b z => Or.inr z) (by omega) (by omega)) m1 m2 ?_)
  have e : (pConText f k).map nI = [] ++ (pNum (pN f (51 + 5 * k))).map nI ++ [58] ++ (pNum (pN f (52 + 5 * k))).map nI ++ [62] ++ (pNum (pN f (53 + 5 * k))).map nI ++ [64] ++ (pNum (pN f (54 + 5 * k))).map nI ++ [47] ++ (pNum (pN f (55 + 5 * k))).map nI := by
    simp only [pConText, List.map_append, List.nil_append]
    rfl
  rw [e]
  exact hs9
theorem aOk_con {k : Nat} : aOk ((pConText f k).map nI) := by
  have e : (pConText f k).map nI = (pNum (pN f (51 + 5 * k))).map nI ++ [58] ++ (pNum (pN f (52 + 5 * k))).map nI ++ [62] ++ (pNum (pN f (53 + 5 * k))).map nI ++ [64] ++ (pNum (pN f (54 + 5 * k))).map nI ++ [47] ++ (pNum (pN f (55 + 5 * k))).map nI := by
    simp only [pConText, List.map_append]
    rfl
  rw [e]
  exact aOk_app (aOk_app (aOk_app (aOk_app (aOk_app (aOk_app (aOk_app (aOk_app pNum_b (aOk_1 (m := 58) (by omega))) pNum_b) (aOk_1 (m := 62) (by omega))) pNum_b) (aOk_1 (m := 64) (by omega))) pNum_b) (aOk_1 (m := 47) (by omega))) pNum_b
theorem sp_contractsText (hb : bs ad G) {h : Nat} {A : hA} (hr : hRep ad G h A f) (hw : hI f c) (r1 : 300 ≤ G.2.1) (r2 : 20000 ≤ G.2.2) {K : Option Nat → gS → Prop} (kk : ∀ G' s0 sv, gTo (fun _ => False) 250 15000 G G' → G.1 s0 = none → G.1 sv = none → sV G' s0 ((pConsText f (nC f)).map nI) sv → (pConsText f (nC f)).length ≤ 120 → K (some s0) G') : gIs G h 2 ∧ wp_X2_contractsText ad G h X K := by
  refine ⟨hr.is, ?_⟩
  unfold wp_X2_contractsText
  refine bL.new (by omega) (by omega) fun G1 b h1 => ?_
  have hn8 := hr.w.2.2.2
  refine gLoop_up (B := wp_X2_contractsText_10 ad X K) (nC f) (fun k (ff : gS → Nat → Nat → Int32 → Prop) => ∀ G', bL G (2 + 20 * k) (20 + 1300 * k) (15 * k) G' b ((pConsText f k).map nI) → ff G' h b (nI k)) ?_ gFuel 0 (by omega) (gFuel_lt (by omega)) G1 (h1.mono (by omega) (by omega) (by omega))
  intro k ff hk hs G2 h2
  have hr2 : hRep ad G2 h A f := hr.to2 fun x d hx _ => h2.old hx
  unfold wp_X2_contractsText_10
  refine hSizeC hr2 ⟨fun z => ?_, fun z => ?_⟩
  · have z2 : k = nC f := by
      have : nC f ≤ k := Nat.le_of_not_lt fun y => absurd z (nI_ge y (by omega))
      omega
    subst z2
    unfold wp_X2_contractsText_66
    refine h2.toS (by omega) (by omega) (by omega) fun G' s0 sv t9 m1 m2 hs9 => kk G' s0 sv (t9.mono (fun b z => Or.inr z) (by omega) (by omega)) m1 m2 hs9 ?_
    have := h2.1
    rw [List.length_map] at this
    omega
  · have z2 : k < nC f := Nat.lt_of_not_le fun y => z (nI_le y (by omega))
    have hlen := pConText_len hw z2
    -- the part that is alike
    have part : ∀ (G3 : gS) (q2 : Nat) (sep : List Int32), bL G (2 + 20 * k + 1) (20 + 1300 * k + 2 * (15 * k + 1)) (15 * k + 1) G3 b ((pConsText f k).map nI ++ sep) → (pConsText f (k + 1)).map nI = (pConsText f k).map nI ++ sep ++ (pConText f k).map nI → wGetQ G3 h 2 3 fun q3 => wNN q3 fun c4 => (gIs G3 c4 3 ∧ wp_J2_get ad G3 c4 (nI k) X (fun q6 G5 => wCast G5 q6 [10] (wNN q6 fun c7 => (gIs G5 c7 10 ∧ wp_X10_text ad G5 c7 X (fun q9 G8 => wNN (some b) fun c10 => (gIs G8 c10 6 ∧ wp_J6_append ad G8 c10 q9 X (fun q12 G11 => ff G11 h b (nI k + (1 : Int32))))))))) := by
      intro G3 q2 sep h3 e
      have hr3 : hRep ad G3 h A f := hr.to2 fun x d hx _ => h3.old hx
      have x3 := h3.to
      refine hElC hr3 rfl z2 (wNN_of ?_)
      refine sp_X10_text (hb.to (x3.kO fun b z => z.elim)) (hr3.2.2.2.2.2.2.1 k z2) hw z2 (by have := x3.2.2.1; omega) (by have := x3.2.2.2; omega) fun G4 s0 sv t4 m1 m2 hs4 => wNN_of ?_
      refine h3.appN t4 (by omega) (by omega) (by omega) hs4 m1 m2 (k := 14) (by rw [List.length_map]; exact hlen) (by omega) aOk_con fun G5 h5 => ?_
      rw [nI_1]
      refine hs z2 G5 ?_
      rw [e]
      exact h5.mono (by omega) (by omega) (by omega)
    refine ⟨fun y => ?_, fun y => ?_⟩
    · have k0 : k = 0 := Nat.eq_zero_of_not_pos fun q => absurd y (nI_nle q (by omega))
      unfold wp_X2_contractsText_37
      refine (h2.appS (k := 0) (by omega) (by omega) (by omega) (hb.s105.s (Nat.zero_le _)) (Nat.le_refl _) (by omega) aOk_nil fun G3 h3 => part G3 0 [] (h3.mono (by omega) (by omega) (by omega)) ?_)
      rw [pConsText, if_pos k0, k0]
      rfl
    · have k0 : k ≠ 0 := fun q => y (by rw [q]; decide)
      unfold wp_X2_contractsText_37
      refine (h2.appS (k := 1) (by omega) (by omega) (by omega) (hb.s104.s (ltb rfl)) (Nat.le_refl _) (by omega) (aOk_1 (m := 32) (by omega)) fun G3 h3 => part G3 0 [32] (h3.mono (by omega) (by omega) (by omega)) ?_)
      rw [pConsText, if_neg k0, List.map_append, List.map_append]
      rfl
theorem aOk_cons : ∀ k, aOk ((pConsText f k).map nI)
  | 0 => aOk_nil
  | k + 1 => by
    rw [pConsText, List.map_append]
    refine aOk_app ?_ aOk_con
    split
    · exact aOk_nil
    · rw [List.map_append]
      exact aOk_app (aOk_cons k) (aOk_1 (m := 32) (by omega))
theorem aOk_gob {g : Nat} : aOk ((pGobText f g).map nI) := by
  simp only [pGobText, List.map_append]
  refine aOk_app (aOk_app (aOk_app (aOk_app (aOk_app (aOk_app pNum_b (aOk_1 (m := 115) (by omega))) pNum_b) (aOk_1 (m := 112) (by omega))) pNum_b) ?_) ?_
  · split
    · exact aOk_nil
    · rw [List.map_append]
      exact aOk_app (aOk_1 (m := 100) (by omega)) pNum_b
  · split
    · exact aOk_1 (m := 122) (by omega)
    · exact aOk_nil
end T2
