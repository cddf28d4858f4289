/-! PURE: lists: made, added to, taken from -/
set_option maxRecDepth 20000
/-- one cell has changed -/
def sC (G : gS) (a : Nat) (c : gC) (G' : gS) : Prop := G'.1 a = some c ∧ (∀ b, b ≠ a → G'.1 b = G.1 b) ∧ G'.2 = G.2
theorem sC_set {G : gS} {a : Nat} {c : gC} : sC G a c (gSet G a c) := ⟨gSet_self, fun _ h => gSet_ne h, rfl⟩
theorem sC.trans {G G' G'' : gS} {a : Nat} {c c' : gC} (h : sC G a c G') (h' : sC G' a c' G'') : sC G a c' G'' := ⟨h'.1, fun b hb => (h'.2.1 b hb).trans (h.2.1 b hb), h'.2.2.trans h.2.2⟩
theorem sC.to {G G' : gS} {a : Nat} {c c0 : gC} {T : Nat → Prop} (h : sC G a c G') (h0 : G.1 a = some c0) (hT : T a) : gTo T 0 0 G G' := by
  refine ⟨fun b d hb hn => ?_, fun b hb => ?_, by rw [h.2.2]; exact Nat.le_refl _, by rw [h.2.2]; exact Nat.le_refl _⟩
  · rw [h.2.1 b (fun e => hn (by rw [e]; exact hT))]; exact hb
  · by_cases e : b = a
    · rw [e, h.1]; intro q; cases q
    · rw [h.2.1 b e]; exact hb
theorem wPut_sC {G : gS} {a ci k : Nat} {v : Value} {K : gS → Prop} {fs fs' : List Value} (h : G.1 a = some (gO true ci fs)) (hk : k < fs.length) (he : fs.set k v = fs') (hK : ∀ G', sC G a (gO true ci fs') G' → K G') : wPut G a ci k v K := wPut_of h hk (by rw [he]; exact hK _ sC_set)
/-- a new cell -/
def nC' (G : gS) (a : Nat) (c : gC) (n : Nat) (G' : gS) : Prop := G.1 a = none ∧ G'.1 a = some c ∧ (∀ b, b ≠ a → G'.1 b = G.1 b) ∧ 1 ≤ G.2.1 ∧ n ≤ G.2.2 ∧ G'.2 = (G.2.1 - 1, G.2.2 - n)
theorem nC'_new {G : gS} {a n : Nat} {c : gC} (h : G.1 a = none) (h1 : 1 ≤ G.2.1) (h2 : n ≤ G.2.2) : nC' G a c n (gNew G a c n) := ⟨h, gNew_self, fun _ hb => gNew_ne hb, h1, h2, rfl⟩
theorem wNew_nC {G : gS} {ci n : Nat} {fs : List Value} {K : Nat → gS → Prop} (h1 : 1 ≤ G.2.1) (h2 : n ≤ G.2.2) (k : ∀ a G', nC' G a (gO true ci fs) n G' → K a G') : wNew G ci n fs K := ⟨h1, h2, fun a ha => k a _ (nC'_new ha h1 h2)⟩
theorem nC'.to {G G' : gS} {a n : Nat} {c : gC} {T : Nat → Prop} (h : nC' G a c n G') : gTo T 1 n G G' := by
  obtain ⟨h0, h1, h2, h3, h4, h5⟩ := h
  refine ⟨fun b d hb _ => ?_, fun b hb => ?_, by rw [h5]; show _ ≤ _ - 1 + 1; omega, by rw [h5]; show _ ≤ _ - n + n; omega⟩
  · rw [h2 b (fun e => by rw [e, h0] at hb; cases hb)]; exact hb
  · by_cases e : b = a
    · rw [e, h1]; intro q; cases q
    · rw [h2 b e]; exact hb
theorem nC'.old {G G' : gS} {a n b : Nat} {c d : gC} (h : nC' G a c n G') (hb : G.1 b = some d) : G'.1 b = some d := by
  rw [h.2.2.1 b (fun e => by rw [e, h.1] at hb; cases hb)]; exact hb
theorem nC'.ne {G G' : gS} {a n b : Nat} {c d : gC} (h : nC' G a c n G') (hb : G.1 b = some d) : b ≠ a := fun e => by rw [e, h.1] at hb; cases hb
theorem nC'.set {G G' G'' : gS} {a n : Nat} {c c' : gC} (h : nC' G a c n G') (h' : sC G' a c' G'') : nC' G a c' n G'' := ⟨h.1, h'.1, fun b hb => (h'.2.1 b hb).trans (h.2.2.1 b hb), h.2.2.2.1, h.2.2.2.2.1, h'.2.2.trans h.2.2.2.2.2⟩
section JL
variable {ad : Nat → Nat} {G : gS} {l e n K : Nat} {a : Nat → Nat} {X : Nat → gS → Prop}
theorem sp_J2_init {i0 i2 : Int32} {v : Value} (h : G.1 l = some (gO true 3 [.int i0, v, .int i2])) {K : gS → Prop} (k : ∀ G', sC G l (gO true 3 [.int 0, va_rf (some (ad 2)), .int i2]) G' → K G') : wp_J2_init ad G l X K := by
  unfold wp_J2_init wp_J1_init_at3 wp_J0_init
  refine wPut_sC h (by simp) rfl fun G1 h1 => wPut_sC h1.1 (by simp) rfl fun G2 h2 => k G2 (h1.trans h2)
theorem EL.new {i0 : Int32} (h : G.1 l = some (gO true 3 [.int i0, va_rf (some (ad 2)), .int 0])) {w : Bool} {g : Nat → Option Nat} (h2 : G.1 (ad 2) = some (gAq w 0 g)) : EL ad G l (ad 2) 0 0 a :=
  ⟨⟨g, ⟨i0, w, h, h2, Nat.le_refl _, by omega, Or.inr ⟨rfl, rfl⟩⟩, fun k hk => absurd hk (by omega)⟩, Or.inl rfl, fun j k hj => absurd hj (by omega)⟩
theorem EL.le (h : EL ad G l e n K a) : n ≤ K := by
  obtain ⟨⟨g, ⟨mc, wa, h1, h2, h3, -⟩, -⟩, -⟩ := h
  exact h3
theorem EL.is (h : EL ad G l e n K a) : gIs G l 3 := by
  obtain ⟨⟨g, h1, -⟩, -⟩ := h
  exact h1.al.is
theorem EL.size (h : EL ad G l e n K a) {K' : Int32 → gS → Prop} (k : K' (nI n) G) : gIs G l 3 ∧ wp_J2_size ad G l X K' := by
  obtain ⟨⟨g, h1, -⟩, -⟩ := h
  exact ⟨h1.al.is, sp_size h1.al k⟩
theorem EL.get (h : EL ad G l e n K a) {i : Int32} {j : Nat} (hi : i = nI j) (hj : j < n) {K' : Option Nat → gS → Prop} (k : K' (some (a j)) G) : gIs G l 3 ∧ wp_J2_get ad G l i X K' := by
  obtain ⟨⟨g, h1, h2⟩, -⟩ := h
  subst hi
  exact ⟨h1.al.is, sp_get h1.al hj (by rw [h2 j hj]; exact k)⟩
theorem EL.add (h : EL ad G l e n K a) (hn : n < 10) {q : Nat} (hq : ∀ k, k < n → a k ≠ q) (ho : gIsO G q) (hb : 1 ≤ G.2.1) (hb2 : 10 ≤ G.2.2) {K' : Int32 → gS → Prop}
    (kx : ∀ G' e' C', gTo (fun b => b = l ∨ (b = e ∧ 0 < K)) 1 10 G G' → EL ad G' l e' (n + 1) C' (fun k => if k = n then q else a k) → 0 < C' → ((e' = e ∧ C' = K) ∨ G.1 e' = none) → K' 1 G') : gIs G l 3 ∧ wp_J2_add ad G l (some q) X K' := by
  have hle := h.le
  obtain ⟨⟨g, h1, h2⟩, h3, h4⟩ := h
  refine ⟨h1.al.is, sp_add h1 (gOkQ_some ho) (by rcases h3 with z | z <;> omega) fun G' ar' cap' f' t1 aw e1 e2 e3 e4 => kx G' ar' cap' (t1.mono (fun b q => Or.inr q) (by split <;> omega) (by split <;> omega)) ⟨⟨f', aw, fun k hk => ?_⟩, ?_, fun j k hj hk => ?_⟩ ?_ ?_⟩
  · show f' k = some (if k = n then q else a k)
    by_cases ek : k = n
    · subst ek; rw [if_pos rfl]; exact e2
    · rw [if_neg ek, e1 k (by omega)]; exact h2 k (by omega)
  · rcases h3 with z | z
    · exact Or.inr (e3 z).1
    · exact Or.inr (by rw [(e4 (by omega)).1]; exact z)
  · by_cases ej : j = n
    · by_cases ek : k = n
      · intro _; omega
      · subst ej
        simp only [if_pos rfl, if_neg ek]
        intro z
        exact absurd z.symm (hq k (by omega))
    · by_cases ek : k = n
      · subst ek
        simp only [if_pos rfl, if_neg ej]
        intro z
        exact absurd z (hq j (by omega))
      · simp only [if_neg ek, if_neg ej]
        exact h4 j k (by omega) (by omega)
  · rcases h3 with z | z
    · rw [(e3 z).1]; omega
    · rw [(e4 (by omega)).1]; omega
  · rcases h3 with z | z
    · exact Or.inr (e3 z).2
    · exact Or.inl ⟨(e4 (by omega)).2, (e4 (by omega)).1⟩
theorem EL.remove (h : EL ad G l e n K a) (ho : ∀ k, k < n → gIs G (a k) 10) {w : Nat} (hw : w < n) {K' : Int32 → gS → Prop}
    (kx : ∀ G', gTo (fun b => b = l ∨ b = e) 0 0 G G' → EL ad G' l e (n - 1) K (fun k => if k < w then a k else a (k + 1)) → K' 1 G') : gIs G l 3 ∧ wp_J2_remove ad G l (some (a w)) X K' := by
  have hle := h.le
  have his := h.is
  obtain ⟨⟨g, ⟨mc, wa, h1, h2, -, h65, h5⟩, hg⟩, h3, h4⟩ := h
  obtain ⟨rfl, hK, hne2⟩ : wa = true ∧ 0 < K ∧ e ≠ ad 2 := by
    rcases h5 with z | z
    · exact z
    · omega
  have hK10 : K = 10 := by rcases h3 with z | z <;> omega
  have hne : e ≠ l := fun z => by rw [z, h1] at h2; cases h2
  refine ⟨his, ?_⟩
  unfold wp_J2_remove
  refine wGetQ_of h1 rfl (wGetI_of h1 rfl (oS ?_))
  refine gLoop_up w (fun i (ff : gS → Nat → Nat → Option Nat → Int32 → Int32 → Prop) => ff G l (a w) (some e) (nI n) (nI i)) ?_ gFuel 0 (by omega) (gFuel_lt (by omega))
  intro i ff hi hs
  unfold wp_J2_remove_39
  refine brF (nI_ge (by omega) (by omega)) (wNN_of (wAldQ_of h2 (vp_in_nI (by omega) (by omega)) ?_))
  rw [nI_clamp (by omega), hg i (by omega)]
  refine ⟨ho w hw, ?_⟩
  unfold wp_J30_equals
  by_cases ei : i = w
  · subst ei
    refine brT' rfl (brF (by decide) ?_)
    unfold wp_J2_remove_56 wp_J2_remove_67
    refine ⟨his, ?_⟩
    unfold wp_J2_fastRemove
    refine wGetI_of h1 rfl (wPut_sC h1 (by simp) rfl fun G1 s1 => wGetI_of s1.1 rfl ?_)
    have g2 : G1.1 e = some (gAq true K g) := by rw [s1.2.1 e hne]; exact h2
    have t1 := s1.to (T := fun b => b = l ∨ b = e) h1 (Or.inl rfl)
    have hn1 : nI n - 1 = nI (n - 1) := nI_sub (b := 1) (by omega)
    rw [hn1]
    -- the end: size, and the last place
    have fin : ∀ (G2 : gS) (g' : Nat → Option Nat), gTo (fun b => b = l ∨ b = e) 0 0 G G2 → G2.1 l = some (gO true 3 [.int (mc + 1), va_rf (some e), .int (nI n)]) → G2.1 e = some (gAq true K g') → (∀ k, k < n - 1 → g' k = some (if k < i then a k else a (k + 1))) → wp_J2_fastRemove_34 ad X (fun G1 => K' 1 G1) G2 l (some e) (nI (n - 1)) := by
      intro G2 g' t2 l2 e2 hg'
      unfold wp_J2_fastRemove_34
      refine wPut_sC l2 (by simp) rfl fun G3 s3 => wNN_of ?_
      have e3 : G3.1 e = some (gAq true K g') := by rw [s3.2.1 e hne]; exact e2
      refine wAstQ_of e3 (vp_in_nI (by omega) (by omega)) gOkQ_none ?_
      rw [nI_clamp (by omega)]
      refine kx _ ?_ ⟨⟨va_up g' (n - 1) none, ⟨mc + 1, true, ?_, gSet_self, by omega, h65, Or.inl ⟨rfl, hK, hne2⟩⟩, fun k hk => ?_⟩, h3, fun j k hj hk => ?_⟩
      · exact (t2.trans (T := fun b => b = l ∨ b = e) (s3.to (T := fun b => b = l ∨ b = e) l2 (Or.inl rfl)) (fun b q => Or.inr q) (fun b q => Or.inr q) (Nat.le_refl _) (Nat.le_refl _)).trans (gTo_set (T := fun b => b = l ∨ b = e) e3 (Or.inr rfl)) (fun b q => Or.inr q) (fun b q => Or.inr q) (Nat.le_refl _) (Nat.le_refl _)
      · rw [gSet_ne (Ne.symm hne)]; exact s3.1
      · simp only [va_up]
        rw [if_neg (by omega)]
        exact hg' k hk
      · intro z
        have key := h4 (if j < i then j else j + 1) (if k < i then k else k + 1) (by split <;> omega) (by split <;> omega) (by
          by_cases q1 : j < i <;> by_cases q2 : k < i <;> simp only [q1, q2, if_true, if_false] at z ⊢ <;> exact z)
        by_cases q1 : j < i <;> by_cases q2 : k < i <;> simp only [q1, q2, if_true, if_false] at key <;> omega
    by_cases el : n - 1 ≤ i
    · refine brT (nI_le el (by omega)) (fin G1 g t1 s1.1 g2 fun k hk => ?_)
      rw [if_pos (by omega)]; exact hg k (by omega)
    · refine brF (nI_ge (by omega) (by omega)) (wNN_of ?_)
      have hlen : nI (n - 1) - nI i = nI (n - 1 - i) := nI_sub (by omega)
      rw [← nI_succ, hlen]
      refine ⟨true, K, K, g, g, g2, g2, nI_pos (by omega), nI_pos (by omega), nI_pos (by omega), ?_, ?_, ?_, ?_⟩
      · rw [nI_clamp (by omega), nI_clamp (by omega)]; omega
      · rw [nI_clamp (by omega), nI_clamp (by omega)]; omega
      · intro j hj
        rw [nI_clamp (by omega)] at hj
        rw [nI_clamp (by omega), hg _ (by omega)]
        obtain ⟨w9, f9, c9⟩ := ho (i + 1 + j) (by omega)
        refine gOkQ_some ?_
        refine ⟨w9, 10, f9, ?_⟩
        rw [s1.2.1 _ (fun z => by rw [z, h1] at c9; cases c9)]
        exact c9
      · rw [nI_clamp (by omega), nI_clamp (by omega), nI_clamp (by omega)]
        refine fin _ (va_cpy g g (i + 1) i (n - 1 - i)) (t1.trans (T := fun b => b = l ∨ b = e) (gTo_set (T := fun b => b = l ∨ b = e) g2 (Or.inr rfl)) (fun b q => Or.inr q) (fun b q => Or.inr q) (Nat.le_refl _) (Nat.le_refl _)) ?_ gSet_self fun k hk => ?_
        · rw [gSet_ne (Ne.symm hne)]; exact s1.1
        · simp only [va_cpy]
          by_cases q : k < i
          · rw [if_neg (by omega), if_pos q]; exact hg k (by omega)
          · rw [if_pos (by omega), if_neg q, show i + 1 + (k - i) = k + 1 by omega]; exact hg _ (by omega)
  · refine brF' (fun z => ei (h4 i w (by omega) hw (Option.some.inj z).symm)) (brT rfl ?_)
    rw [← nI_succ]
    exact hs (by omega)
end JL
