/-! PURE: texts made by builders -/
set_option maxRecDepth 20000
/-- a new builder, since G0 -/
def bL (G0 : gS) (u s n : Nat) (G : gS) (b : Nat) (l : List Int32) : Prop := l.length ≤ n ∧ ∃ v cap, sbV G b l v cap ∧ G0.1 b = none ∧ G0.1 v = none ∧ gTo (fun _ => False) u s G0 G
def aOk (l : List Int32) : Prop := ∀ c, c ∈ l → ∃ m, m < 128 ∧ c = nI m
theorem aOk_app {l l' : List Int32} (h : aOk l) (h' : aOk l') : aOk (l ++ l') := fun c hc => by
  rcases List.mem_append.mp hc with q | q
  · exact h c q
  · exact h' c q
theorem aOk_1 {m : Nat} (h : m < 128) : aOk [nI m] := fun c hc => ⟨m, h, by simpa using hc⟩
theorem aOk_nil : aOk [] := fun c hc => by cases hc
section TX
variable {ad : Nat → Nat} {G0 G : gS} {u s n b t a0 b0 : Nat} {l sl : List Int32} {X : Nat → gS → Prop} {f : pF}
theorem bL.is (h : bL G0 u s n G b l) : gIs G b 6 := by
  obtain ⟨-, v, cap, h1, -⟩ := h
  exact h1.is
theorem bL.old (h : bL G0 u s n G b l) {x : Nat} {c : gC} (hx : G0.1 x = some c) : G.1 x = some c := by
  obtain ⟨-, v, cap, h1, h2, h3, h4⟩ := h
  exact h4.1 x c hx fun z => z
theorem bL.to (h : bL G0 u s n G b l) : gTo (fun _ => False) u s G0 G := by
  obtain ⟨-, v, cap, h1, h2, h3, h4⟩ := h
  exact h4
theorem bL.step (h : bL G0 u s n G b l) {G' : gS} {u' s' : Nat} (t : gTo (fun _ => False) u' s' G G') : bL G0 (u + u') (s + s') n G' b l := by
  obtain ⟨h0, v, cap, h1, h2, h3, h4⟩ := h
  exact ⟨h0, v, cap, h1.to fun x c hx _ => t.1 x c hx fun z => z, h2, h3, h4.trans t (fun b z => z.elim) (fun b z => z.elim) (Nat.le_refl _) (Nat.le_refl _)⟩
theorem bL.new (r1 : 2 ≤ G.2.1) (r2 : 20 ≤ G.2.2) {K : Nat → gS → Prop} (k : ∀ G' b, bL G 2 20 0 G' b [] → K b G') : wNew G 6 4 [.null, .int 0, .int 0, .int 0] fun c2 G1 => wp_J6_init ad G1 c2 X (fun G2 => K c2 G2) :=
  sp_sbNew r1 r2 fun G' b v t h1 h2 h3 => k G' b ⟨Nat.le_refl _, v, 16, h3, h1, h2, t⟩
theorem bL.bT (h2 : G0.1 b = none) {v : Nat} (h3 : G0.1 v = none) : ∀ x, bT b v x → G0.1 x = none ∨ False := fun x z => by
  rcases z with z | z
  · subst z; exact Or.inl h2
  · subst z; exact Or.inl h3
theorem bL.nul (h4 : gTo (fun _ => False) u s G0 G) {v v' : Nat} (h3 : G0.1 v = none) (hv : v' = v ∨ G.1 v' = none) : G0.1 v' = none := by
  rcases hv with q | q
  · rw [q]; exact h3
  · cases e : G0.1 v' with
    | none => rfl
    | some c =>
      rw [h4.1 v' c e fun z => z] at q
      cases q
theorem bL.appS (h : bL G0 u s n G b l) (hn : n ≤ 200) (r1 : u + 1 ≤ G0.2.1) (r2 : s + 1000 ≤ G0.2.2) {s0 k : Nat} (hs : sR G0 s0 sl) (hk : sl.length ≤ k) (hk2 : k ≤ 200) (hc : aOk sl) {K : Option Nat → gS → Prop} (kk : ∀ G', bL G0 (u + 1) (s + 2 * (n + k)) (n + k) G' b (l ++ sl) → K (some b) G') : gIs G b 6 ∧ wp_J6_append ad G b (some s0) X K := by
  obtain ⟨sv, hs⟩ := hs.v
  obtain ⟨h0, v, cap, h1, h2, h3, h4⟩ := h
  have hS : sV G s0 sl sv := hs.to fun x c hx _ => h4.1 x c hx fun z => z
  have hne : sv ≠ v := fun z => by
    obtain ⟨w, hh, z2, w2, g9, e1, e2, -⟩ := hs
    rw [z, h3] at e2
    cases e2
  have hsb : s0 ≠ b := fun z => by
    obtain ⟨w, hh, z2, w2, g9, e1, -⟩ := hs
    rw [z, h2] at e1
    cases e1
  have q1 := h4.2.2.1
  have q2 := h4.2.2.2
  refine sp_appendS h1 (by omega) (by omega) (by omega) hS hne hsb (by omega) hc fun G' v' cap' t hv' s' => kk G' ⟨?_, v', cap', s', h2, bL.nul h4 h3 hv', ?_⟩
  · rw [List.length_append]; omega
  · exact h4.trans t (fun x z => z.elim) (bL.bT h2 h3) (by omega) (by omega)
/-- a string made while the builder was there -/
theorem bL.appN {G3 : gS} {u' s' : Nat} (h : bL G0 u s n G3 b l) (t : gTo (fun _ => False) u' s' G3 G) (hn : n ≤ 200) (r1 : u + u' + 1 ≤ G0.2.1) (r2 : s + s' + 1000 ≤ G0.2.2) {s0 sv k : Nat} (hs : sV G s0 sl sv) (n1 : G3.1 s0 = none) (n2 : G3.1 sv = none) (hk : sl.length ≤ k) (hk2 : k ≤ 200) (hc : aOk sl) {K : Option Nat → gS → Prop} (kk : ∀ G', bL G0 (u + u' + 1) (s + s' + 2 * (n + k)) (n + k) G' b (l ++ sl) → K (some b) G') : gIs G b 6 ∧ wp_J6_append ad G b (some s0) X K := by
  have h5 := h.step t
  obtain ⟨-, v0, cap0, a1, -⟩ := h
  have hav : G3.1 v0 ≠ none ∧ G3.1 b ≠ none := by
    obtain ⟨g, x2, e1, e2, -⟩ := a1
    exact ⟨(by rw [e2]; intro z; cases z), (by rw [e1]; intro z; cases z)⟩
  have a1' := a1.to (G' := G) fun x c hx _ => t.1 x c hx fun z => z
  obtain ⟨h0, v, cap, h1, h2, h3, h4⟩ := h5
  have ev : v = v0 := by
    obtain ⟨g, x2, e1, -⟩ := h1
    obtain ⟨g', x2', e1', -⟩ := a1'
    rw [e1] at e1'
    injection e1' with e
    injection e with _ e
    injection e with e
    injection e with e
    injection e with _ e
    injection e with e
    injection e with e
  have hne : sv ≠ v := fun z => by
    rw [ev] at z
    exact hav.1 (by rw [← z]; exact n2)
  have hsb : s0 ≠ b := fun z => hav.2 (by rw [← z]; exact n1)
  have q1 := h4.2.2.1
  have q2 := h4.2.2.2
  refine sp_appendS h1 (by omega) (by omega) (by omega) hs hne hsb (by omega) hc fun G' v' cap' t hv' s' => kk G' ⟨?_, v', cap', s', h2, bL.nul h4 h3 hv', ?_⟩
  · rw [List.length_append]; omega
  · exact h4.trans t (fun x z => z.elim) (bL.bT h2 h3) (by omega) (by omega)
theorem bL.appI (hb : bs ad G0) (h : bL G0 u s n G b l) (hn : n ≤ 200) (r1 : u + 1 ≤ G0.2.1) (r2 : s + 1000 ≤ G0.2.2) {w : Nat} {x : Int32} (hx : x = nI w) (hw : w < 10 ^ 9) {K : Option Nat → gS → Prop} (kk : ∀ G', bL G0 (u + 1) (s + 2 * (n + 10)) (n + 10) G' b (l ++ (pNum w).map nI) → K (some b) G') : gIs G b 6 ∧ wp_J6_append_2 ad G b x X K := by
  subst hx
  obtain ⟨h0, v, cap, h1, h2, h3, h4⟩ := h
  have q1 := h4.2.2.1
  have q2 := h4.2.2.2
  have d := sb_dg_in w
  refine sp_appendI (hb.to (h4.kO fun b z => z.elim)) h1 (by omega) (by omega) (by omega) hw fun G' v' cap' t hv' s' => kk G' ⟨?_, v', cap', s', h2, bL.nul h4 h3 hv', ?_⟩
  · rw [List.length_append, List.length_map, pNum_len]; omega
  · exact h4.trans t (fun x z => z.elim) (bL.bT h2 h3) (by omega) (by omega)
theorem bL.appC (h : bL G0 u s n G b l) (hn : n ≤ 200) (r1 : u + 1 ≤ G0.2.1) (r2 : s + 1000 ≤ G0.2.2) {m : Nat} (hm : m < 128) {x : Int32} (hx : x = nI m) {K : Option Nat → gS → Prop} (kk : ∀ G', bL G0 (u + 1) (s + 2 * (n + 1)) (n + 1) G' b (l ++ [nI m]) → K (some b) G') : gIs G b 6 ∧ wp_J6_append_3 ad G b x X K := by
  subst hx
  obtain ⟨h0, v, cap, h1, h2, h3, h4⟩ := h
  have q1 := h4.2.2.1
  have q2 := h4.2.2.2
  refine sp_appendC h1 (by omega) (by omega) (by omega) hm fun G' v' cap' t hv' s' => kk G' ⟨?_, v', cap', s', h2, bL.nul h4 h3 hv', ?_⟩
  · rw [List.length_append]; exact Nat.succ_le_succ h0
  · exact h4.trans t (fun x z => z.elim) (bL.bT h2 h3) (by omega) (by omega)
theorem bL.toS (h : bL G0 u s n G b l) (hn : n ≤ 400) (r1 : u + 2 ≤ G0.2.1) (r2 : s + 1010 ≤ G0.2.2) {K : Option Nat → gS → Prop} (kk : ∀ G' s0 sv, gTo (fun _ => False) (u + 2) (s + 4 + n) G0 G' → G0.1 s0 = none → G0.1 sv = none → sV G' s0 l sv → K (some s0) G') : gIs G b 6 ∧ wp_J6_toString ad G b X K := by
  obtain ⟨h0, v, cap, h1, h2, h3, h4⟩ := h
  have q1 := h4.2.2.1
  have q2 := h4.2.2.2
  refine sp_toString h1 (by omega) (by omega) (by omega) fun G' s0 sv t n1 n2 hs => kk G' s0 sv (h4.trans t (fun b z => z.elim) (fun b z => z.elim) (by omega) (by omega)) ?_ ?_ hs
  · exact bL.nul h4 h3 (Or.inr n1)
  · exact bL.nul h4 h3 (Or.inr n2)
/-- a being's text -/
theorem sp_X6_text (hb : bs ad G) {fs : List Value} {i : Nat} (ht : G.1 t = some (gO true 9 fs)) (hi : fs[0]? = some (.int (nI i))) (hi9 : i < 10 ^ 9) (r1 : 10 ≤ G.2.1) (r2 : 1200 ≤ G.2.2) {K : Option Nat → gS → Prop} (kk : ∀ G' s0 sv, gTo (fun _ => False) 6 100 G G' → G.1 s0 = none → G.1 sv = none → sV G' s0 ((pNum i).map nI) sv → K (some s0) G') : gIs G t 9 ∧ wp_X6_text ad G t X K := by
  refine ⟨gIs_of ht, ?_⟩
  unfold wp_X6_text
  refine bL.new (by omega) (by omega) fun G1 b h1 => ?_
  refine h1.appS (k := 0) (by omega) (by omega) (by omega) (hb.s120.s (Nat.zero_le _)) (Nat.le_refl _) (by omega) aOk_nil fun G2 h2 => wGetI_of (h2.old ht) hi (wNN_of ?_)
  refine h2.appI hb (by omega) (by omega) (by omega) rfl hi9 fun G3 h3 => wNN_of ?_
  exact h3.toS (by omega) (by omega) (by omega) fun G' s0 sv t n1 n2 hs => kk G' s0 sv (t.mono (fun b z => Or.inr z) (by omega) (by omega)) n1 n2 hs
/-- what a goblin's text needs of its numbers -/
theorem sp_X8_text (hb : bs ad G) {g : Nat} (ht : G.1 t = some (gO true 9 (hGf f g))) (hg : g < 5) (hw : hI f n) (hgn : g < nG f) (r1 : 60 ≤ G.2.1) (r2 : 9000 ≤ G.2.2) {K : Option Nat → gS → Prop} (kk : ∀ G' s0 sv, gTo (fun _ => False) 60 9000 G G' → G.1 s0 = none → G.1 sv = none → sV G' s0 ((pGobText f g).map nI) sv → K (some s0) G') : gIs G t 9 ∧ wp_X8_text ad G t X K := by
  obtain ⟨⟨e26, h26⟩, ⟨e27, h27⟩, ⟨e28, h28⟩, ⟨e30, h30⟩⟩ := hw.1.2.2.2.1 g hgn
  have hi := gIs_of ht
  refine ⟨hi, ?_⟩
  unfold wp_X8_text wp_X7_purse wp_X7_debt
  refine bL.new (by omega) (by omega) fun G1 c h1 => ?_
  have x1 := h1.to
  refine sp_X6_text (hb.to (x1.kO fun b z => z.elim)) (h1.old ht) (i := g) rfl (by omega) (by have := x1.2.2.1; omega) (by have := x1.2.2.2; omega) fun G2 s0 sv t2 n1 n2 hs2 => ?_
  have i2 := gIs_of ((h1.step t2).old ht)
  have d1 := sb_dg_in g
  refine h1.appN t2 (by omega) (by omega) (by omega) hs2 n1 n2 (k := 10) (by rw [List.length_map, pNum_len]; omega) (by omega) pNum_b fun G3 h3 => wNN_of ?_
  refine h3.appS (k := 1) (by omega) (by omega) (by omega) (hb.s121.s (ltb rfl)) (Nat.le_refl _) (by omega) (aOk_1 (m := 115) (by omega)) fun G4 h4 => wGetI_of (h4.old ht) (x := f (26 + 5 * g)) rfl (wNN_of ?_)
  refine h4.appI hb (by omega) (by omega) (by omega) e26 (by omega) fun G5 h5 => wNN_of ?_
  refine h5.appS (k := 1) (by omega) (by omega) (by omega) (hb.s122.s (ltb rfl)) (Nat.le_refl _) (by omega) (aOk_1 (m := 112) (by omega)) fun G6 h6 => ⟨gIs_of (h6.old ht), wGetI_of (h6.old ht) (x := f (27 + 5 * g)) rfl (wNN_of ?_)⟩
  refine h6.appI hb (by omega) (by omega) (by omega) e27 (by omega) fun G7 h7 => ⟨gIs_of (h7.old ht), wGetI_of (h7.old ht) (x := f (28 + 5 * g)) rfl ?_⟩
  -- the end: z or nothing
  have fin : ∀ (G8 : gS) (u s : Nat) (L : List Int32), bL G u s 100 G8 c L → u ≤ 50 → s ≤ 7000 → L ++ (if f (30 + 5 * g) = 1 then [122] else []) = (pGobText f g).map nI → wGetI G8 t 9 4 fun i4 => (i4 = (0 : Int32) → wp_X8_text_89 ad X K G8 (ad 123) (some c)) ∧ (¬ i4 = (0 : Int32) → wp_X8_text_89 ad X K G8 (ad 125) (some c)) := by
    intro G8 u s L h8 hu hs hL
    refine wGetI_of (h8.old ht) (x := f (30 + 5 * g)) rfl ?_
    unfold wp_X8_text_89
    have h01 : f (30 + 5 * g) = 0 ∨ f (30 + 5 * g) = 1 := by
      rw [e30]
      have : pN f (30 + 5 * g) = 0 ∨ pN f (30 + 5 * g) = 1 := by omega
      rcases this with q | q
      · rw [q]; exact Or.inl rfl
      · rw [q]; exact Or.inr rfl
    rcases h01 with q | q
    · rw [q] at hL ⊢
      refine brT rfl (wNN_of ?_)
      refine h8.appS (k := 0) (by omega) (by omega) (by omega) (hb.s123.s (Nat.zero_le _)) (Nat.le_refl _) (by omega) aOk_nil fun G9 h9 => wNN_of (h9.toS (by omega) (by omega) (by omega) fun G' s1 sv1 t9 m1 m2 hs9 => ?_)
      refine kk G' s1 sv1 (t9.mono (fun b z => Or.inr z) (by omega) (by omega)) m1 m2 ?_
      rw [← hL]
      exact hs9
    · rw [q] at hL ⊢
      refine brF (by decide) (wNN_of ?_)
      refine h8.appS (k := 1) (by omega) (by omega) (by omega) (hb.s125.s (ltb rfl)) (Nat.le_refl _) (by omega) (aOk_1 (m := 122) (by omega)) fun G9 h9 => wNN_of (h9.toS (by omega) (by omega) (by omega) fun G' s1 sv1 t9 m1 m2 hs9 => ?_)
      refine kk G' s1 sv1 (t9.mono (fun b z => Or.inr z) (by omega) (by omega)) m1 m2 ?_
      rw [← hL]
      exact hs9
  refine ⟨fun z => ?_, fun z => ?_⟩
  · have x7 := h7.to
    have q1 := x7.2.2.1
    have q2 := x7.2.2.2
    have hb7 := hb.to (x7.kO fun b z => z.elim)
    refine bL.new (by omega) (by omega) fun G8 c2 h8 => ?_
    refine h8.appS (k := 1) (by omega) (by omega) (by omega) (hb7.s124.s (ltb rfl)) (Nat.le_refl _) (by omega) (aOk_1 (m := 100) (by omega)) fun G9 h9 => ⟨gIs_of (h9.old (h7.old ht)), wGetI_of (h9.old (h7.old ht)) (x := f (28 + 5 * g)) rfl (wNN_of ?_)⟩
    refine h9.appI hb7 (by omega) (by omega) (by omega) e28 (by omega) fun G10 h10 => wNN_of ?_
    refine h10.toS (by omega) (by omega) (by omega) fun G11 s1 sv1 t11 m1 m2 hs11 => ?_
    unfold wp_X8_text_72
    have d2 := sb_dg_in (pN f (28 + 5 * g))
    refine wNN_of (h7.appN t11 (by omega) (by omega) (by omega) hs11 m1 m2 (k := 11) (by rw [List.length_append, List.length_append, List.length_map, pNum_len]; simp only [List.length_nil, List.length_cons]; omega) (by omega) (aOk_app (aOk_app aOk_nil (aOk_1 (m := 100) (by omega))) pNum_b) fun G12 h12 => ?_)
    refine fin G12 _ _ _ ⟨by have := h12.1; omega, h12.2⟩ (by omega) (by omega) ?_
    rw [pGobText, if_neg z]
    simp only [List.map_append, List.nil_append, List.append_assoc]
    split <;> rfl
  · unfold wp_X8_text_72
    refine wNN_of (h7.appS (k := 0) (by omega) (by omega) (by omega) (hb.s123.s (Nat.zero_le _)) (Nat.le_refl _) (by omega) aOk_nil fun G12 h12 => ?_)
    refine fin G12 _ _ _ ⟨by have := h12.1; omega, h12.2⟩ (by omega) (by omega) ?_
    rw [pGobText, if_pos z]
    simp only [List.map_append, List.nil_append, List.append_assoc]
    split <;> rfl
end TX
