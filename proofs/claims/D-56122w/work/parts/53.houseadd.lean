/-! PURE: a household's lists grow and shrink -/
set_option maxRecDepth 20000
section HA
variable {ad : Nat → Nat} {G0 G : gS} {u h : Nat} {A : hA} {f : Nat → Int32} {X : Nat → gS → Prop}
theorem gTo.nul {T : Nat → Prop} {n m : Nat} {G G' : gS} (t : gTo T n m G G') {b : Nat} (h : G'.1 b = none) : G.1 b = none := by
  cases q : G.1 b with
  | none => rfl
  | some c => exact absurd h (t.2.1 b (by rw [q]; intro z; cases z))
theorem gTo.all {n m n' m' n'' m'' : Nat} {G G1 G2 : gS} {T : Nat → Prop} (a : gTo (fun _ => False) n m G G1) (b : gTo T n' m' G1 G2) (hT : ∀ b, T b → G.1 b = none) (hn : n + n' ≤ n'') (hm : m + m' ≤ m'') : gTo (fun _ => False) n'' m'' G G2 :=
  a.trans b (fun _ q => Or.inr q) (fun b q => Or.inl (hT b q)) hn hm
/-- something new beside it -/
theorem HC.new (hc : HC ad G0 u G h A f) {q n : Nat} {c : gC} {G' : gS} (s : nC' G q c n G') (hn : n ≤ 10) : HC ad G0 (u + 1) G' h A f ∧ G0.1 q = none :=
  ⟨⟨hc.1.to fun b d hb _ => s.old hb, hc.2.1, hc.2.2.all s.to (fun b q => False.elim q) (Nat.le_refl _) (by omega)⟩, hc.2.2.nul s.1⟩
theorem HC.old (hc : HC ad G0 u G h A f) {b : Nat} {c : gC} (hb : G0.1 b = some c) : G.1 b = some c := hc.2.2.1 b c hb (fun z => z)
/-- something that isn't a part of it has changed -/
theorem HC.oth (hc : HC ad G0 u G h A f) {q : Nat} {c c0 : gC} {G' : gS} (s : sC G q c G') (h0 : G.1 q = some c0) (hn : ¬ hCls c0) (hq : G0.1 q = none) : HC ad G0 u G' h A f :=
  ⟨hc.1.to fun b d hb hd => by rw [s.2.1 b (fun e => hn (by rw [e, h0] at hb; cases hb; exact hd))]; exact hb, hc.2.1, hc.2.2.all (s.to (T := fun b => b = q) h0 rfl) (fun b e => by rw [e]; exact hq) (Nat.le_refl _) (Nat.le_refl _)⟩
theorem HC.room (hc : HC ad G0 u G h A f) {v : Nat} (h1 : u + v ≤ G0.2.1) (h2 : 10 * (u + v) ≤ G0.2.2) : v ≤ G.2.1 ∧ 10 * v ≤ G.2.2 := by
  have := hc.2.2.2.2
  omega
theorem hAddG (hc : HC ad G0 u G h A f) {f' : Nat → Int32} {q : Nat} (h0 : G0.1 q = none) (hq : G.1 q = some (gO true 9 (hGf f' (nG f)))) (hN : nG f < 5)
    (hf : ∀ j, (j ≠ 9 ∧ (j < 26 + 5 * nG f ∨ 31 + 5 * nG f ≤ j)) → f' j = f j) (hf2 : f' 9 = f 9 + 1) (hf3 : f' (30 + 5 * nG f) = 0 ∨ f' (30 + 5 * nG f) = 1) {G' : gS} {e' C' : Nat} (t : gTo (fun b => b = hLg A ∨ (b = hEg A ∧ 0 < hKg A)) 1 10 G G') (el : EL ad G' (hLg A) e' (nG f + 1) C' (fun k => if k = nG f then q else hGa A k)) (hC : 0 < C') (he : (e' = hEg A ∧ C' = hKg A) ∨ G.1 e' = none) :
    HC ad G0 (u + 1) G' h (((hD A, hLb A, hLg A, hLc A), (hEb A, e', hEc A), (hKb A, C', hKc A), (hBa A, fun k => if k = nG f then q else hGa A k, hCa A))) f' ∧ nG f' = nG f + 1 := by
  obtain ⟨hr, ho, ht⟩ := hc
  obtain ⟨h1, ⟨g, h2, h2'⟩, h3, ⟨h4, h5, h6⟩, h7, h8, h9, hl, hE⟩ := hr
  have w3 := h3
  obtain ⟨⟨w8, w8'⟩, ⟨w9, w9'⟩, w11, w11'⟩ := h3
  have eN : f' 9 = nI (nG f + 1) := by rw [hf2, nI_succ]; congr 1
  have nN : nG f' = nG f + 1 := by
    show (f' 9).toNatClampNeg = _
    rw [eN, nI_clamp (by omega)]
  have e0 : nB f' = nB f := by show (f' 8).toNatClampNeg = _; rw [hf _ (by omega)]; rfl
  have e1 : nC f' = nC f := by show (f' 11).toNatClampNeg = _; rw [hf _ (by omega)]; rfl
  have ne : ∀ {b c}, G.1 b = some c → b ≠ hLg A → (b = hEg A → hKg A = 0) → G'.1 b = some c := fun hb n1 n2 => t.1 _ _ hb (fun z => by
    rcases z with z | ⟨z, z2⟩
    · exact n1 z
    · have := n2 z; omega)
  obtain ⟨⟨fsl, cl⟩, wae, ne', fe, ce⟩ := h5.cells
  have kz : ∀ {e}, e = hEg A → hEg A = ad 2 → hKg A = 0 := fun _ z => by
    obtain ⟨⟨g9, ⟨mc, wa, b1, b2, b3, b4, b5⟩, -⟩, -⟩ := h5
    rcases b5 with ⟨-, -, b6⟩ | b6
    · exact absurd z b6
    · exact b6.2
  have tr : ∀ {l e n K : Nat} {a : Nat → Nat}, EL ad G l e n K a → l ≠ hLg A → (e = hEg A → hEg A = ad 2) → EL ad G' l e n K a := fun hh n1 n2 => by
    obtain ⟨⟨fs, e1⟩, wa, n, ff, e2⟩ := hh.cells
    exact hh.to (by rw [e1]; exact ne e1 n1 (fun z => by rw [z, ce] at e1; cases e1)) (by rw [e2]; exact ne e2 (fun z => by rw [z, cl] at e2; cases e2) (fun z => kz z (n2 z)))
  have nO : ∀ {b c}, G.1 b = some c → (∀ fs, c ≠ gO true 3 fs) → (∀ w n ff, c ≠ gAq w n ff) → G'.1 b = some c := fun hb n1 n2 => ne hb (fun z => by rw [z, cl] at hb; cases hb; exact n1 _ rfl) (fun z => by rw [z, ce] at hb; cases hb; exact absurd rfl (n2 _ _ _))
  have he2 : ∀ e, (∃ wa n ff, G.1 e = some (gAq wa n ff)) → (e = hEg A → e = ad 2) → e = e' → e = ad 2 := fun e hx hy z => by
    rcases he with ⟨z2, -⟩ | z2
    · exact hy (z.trans z2)
    · obtain ⟨wa, n, ff, z3⟩ := hx
      rw [z, z2] at z3; cases z3
  refine ⟨⟨?_, fun b hb => ?_, ht.all t (fun b z => ?_) (Nat.le_refl _) (by omega)⟩, nN⟩
  · rw [hRep]
    refine ⟨?_, ⟨g, nO h2 (fun _ z => by cases z) (fun _ _ _ z => by cases z), fun j hj => by rw [hf _ (by omega)]; exact h2' j hj⟩, ⟨⟨by rw [e0, hf _ (by omega)]; exact w8, by rw [e0]; exact w8'⟩, ⟨by rw [nN]; exact eN, by rw [nN]; omega⟩, ⟨by rw [e1, hf _ (by omega)]; exact w11, by rw [e1]; exact w11'⟩⟩, ?_, fun k hk => ?_, fun k hk => ?_, fun k hk => ?_, hl, ?_⟩
    · have e : hFs (((hD A, hLb A, hLg A, hLc A), (hEb A, e', hEc A), (hKb A, C', hKc A), (hBa A, fun k => if k = nG f then q else hGa A k, hCa A))) f' = hFs A f := by
        simp only [hFs]
        rw [hf 10 (by omega), hf 1 (by omega), hf 0 (by omega), hf 2 (by omega), hf 3 (by omega), hf 4 (by omega), hf 5 (by omega), hf 6 (by omega), hf 7 (by omega)]
      rw [e]
      exact nO h1 (fun _ z => by cases z) (fun _ _ _ z => by cases z)
    · rw [nN, e0, e1]
      exact ⟨tr h4 hl.1 (fun z => by rw [← z]; exact hE.1 z), el, tr h6 (Ne.symm hl.2.2) (fun z => hE.2.2 z.symm)⟩
    · rw [e0] at hk
      have e : hBf ad f' k = hBf ad f k := by rw [hBf, hBf, hf _ (by omega), hf (19 + 2 * k) (by omega)]
      rw [e, hf _ (by omega)]
      exact ⟨nO (h7 k hk).1 (fun _ z => by cases z) (fun _ _ _ z => by cases z), (h7 k hk).2⟩
    · rw [nN] at hk
      by_cases ek : k = nG f
      · subst ek
        show G'.1 (if nG f = nG f then q else hGa A (nG f)) = _ ∧ _
        rw [if_pos rfl]
        exact ⟨nO hq (fun _ z => by cases z) (fun _ _ _ z => by cases z), hf3⟩
      · have hk2 : k < nG f := by omega
        show G'.1 (if k = nG f then q else hGa A k) = _ ∧ _
        rw [if_neg ek]
        have e : hGf f' k = hGf f k := by rw [hGf, hGf, hf _ (by omega), hf (28 + 5 * k) (by omega), hf (26 + 5 * k) (by omega), hf (30 + 5 * k) (by omega), hf (29 + 5 * k) (by omega)]
        rw [e, hf _ (by omega)]
        exact ⟨nO (h8 k hk2).1 (fun _ z => by cases z) (fun _ _ _ z => by cases z), (h8 k hk2).2⟩
    · rw [e1] at hk
      have e : hCf f' k = hCf f k := by rw [hCf, hCf, hf _ (by omega), hf (52 + 5 * k) (by omega), hf (53 + 5 * k) (by omega), hf (54 + 5 * k) (by omega), hf (55 + 5 * k) (by omega)]
      rw [e]
      exact nO (h9 k hk) (fun _ z => by cases z) (fun _ _ _ z => by cases z)
    · exact ⟨he2 _ h4.cells.2 hE.1, hE.2.1, fun z => by have := he2 _ h6.cells.2 (fun z2 => by rw [z2]; exact hE.2.2 z2.symm) z.symm; rw [← this]; exact z⟩
  · rw [hOwn, nN, e0] at hb
    rcases hb with z | z | z | (z | ⟨z, z2⟩ | z) | z | ⟨k, hk, z⟩
    · exact ho b (Or.inl z)
    · exact ho b (Or.inr (Or.inl z))
    · exact ho b (Or.inr (Or.inr (Or.inl z)))
    · exact ho b (Or.inr (Or.inr (Or.inr (Or.inl (Or.inl z)))))
    · rcases he with ⟨z3, z4⟩ | z3
      · exact ho b (Or.inr (Or.inr (Or.inr (Or.inl (Or.inr (Or.inl ⟨z.trans z3, by rw [← z4]; exact z2⟩))))))
      · rw [z]; exact ht.nul z3
    · exact ho b (Or.inr (Or.inr (Or.inr (Or.inl (Or.inr (Or.inr z))))))
    · exact ho b (Or.inr (Or.inr (Or.inr (Or.inr (Or.inl z)))))
    · by_cases ek : k = nG f
      · rw [z]; show G0.1 (if k = nG f then q else hGa A k) = none; rw [if_pos ek]; exact h0
      · refine ho b (Or.inr (Or.inr (Or.inr (Or.inr (Or.inr ⟨k, by omega, ?_⟩)))))
        rw [z]; show (if k = nG f then q else hGa A k) = _; rw [if_neg ek]
  · rcases z with z | ⟨z, z2⟩
    · rw [z]; exact ho _ (Or.inr (Or.inr (Or.inl (Or.inr (Or.inl rfl)))))
    · rw [z]; exact ho _ (Or.inr (Or.inr (Or.inr (Or.inl (Or.inr (Or.inl ⟨rfl, z2⟩))))))
theorem hAddB (hc : HC ad G0 u G h A f) {f' : Nat → Int32} {q : Nat} (h0 : G0.1 q = none) (hq : G.1 q = some (gO true 8 (hBf ad f' (nB f)))) (hN : nB f < 4)
    (hf : ∀ j, (j ≠ 8 ∧ (j < 18 + 2 * nB f ∨ 20 + 2 * nB f ≤ j)) → f' j = f j) (hf2 : f' 8 = f 8 + 1) (hf3 : f' (19 + 2 * nB f) = 0 ∨ f' (19 + 2 * nB f) = 1) {G' : gS} {e' C' : Nat} (t : gTo (fun b => b = hLb A ∨ (b = hEb A ∧ 0 < hKb A)) 1 10 G G') (el : EL ad G' (hLb A) e' (nB f + 1) C' (fun k => if k = nB f then q else hBa A k)) (hC : 0 < C') (he : (e' = hEb A ∧ C' = hKb A) ∨ G.1 e' = none) :
    HC ad G0 (u + 1) G' h (((hD A, hLb A, hLg A, hLc A), (e', hEg A, hEc A), (C', hKg A, hKc A), (fun k => if k = nB f then q else hBa A k, hGa A, hCa A))) f' ∧ nB f' = nB f + 1 := by
  obtain ⟨hr, ho, ht⟩ := hc
  obtain ⟨h1, ⟨g, h2, h2'⟩, h3, ⟨h4, h5, h6⟩, h7, h8, h9, hl, hE⟩ := hr
  have w3 := h3
  obtain ⟨⟨w8, w8'⟩, ⟨w9, w9'⟩, w11, w11'⟩ := h3
  have eN : f' 8 = nI (nB f + 1) := by rw [hf2, nI_succ]; congr 1
  have nN : nB f' = nB f + 1 := by
    show (f' 8).toNatClampNeg = _
    rw [eN, nI_clamp (by omega)]
  have e0 : nG f' = nG f := by show (f' 9).toNatClampNeg = _; rw [hf _ (by omega)]; rfl
  have e1 : nC f' = nC f := by show (f' 11).toNatClampNeg = _; rw [hf _ (by omega)]; rfl
  have ne : ∀ {b c}, G.1 b = some c → b ≠ hLb A → (b = hEb A → hKb A = 0) → G'.1 b = some c := fun hb n1 n2 => t.1 _ _ hb (fun z => by
    rcases z with z | ⟨z, z2⟩
    · exact n1 z
    · have := n2 z; omega)
  obtain ⟨⟨fsl, cl⟩, wae, ne', fe, ce⟩ := h4.cells
  have kz : ∀ {e}, e = hEb A → hEb A = ad 2 → hKb A = 0 := fun _ z => by
    obtain ⟨⟨g9, ⟨mc, wa, b1, b2, b3, b4, b5⟩, -⟩, -⟩ := h4
    rcases b5 with ⟨-, -, b6⟩ | b6
    · exact absurd z b6
    · exact b6.2
  have tr : ∀ {l e n K : Nat} {a : Nat → Nat}, EL ad G l e n K a → l ≠ hLb A → (e = hEb A → hEb A = ad 2) → EL ad G' l e n K a := fun hh n1 n2 => by
    obtain ⟨⟨fs, e1⟩, wa, n, ff, e2⟩ := hh.cells
    exact hh.to (by rw [e1]; exact ne e1 n1 (fun z => by rw [z, ce] at e1; cases e1)) (by rw [e2]; exact ne e2 (fun z => by rw [z, cl] at e2; cases e2) (fun z => kz z (n2 z)))
  have nO : ∀ {b c}, G.1 b = some c → (∀ fs, c ≠ gO true 3 fs) → (∀ w n ff, c ≠ gAq w n ff) → G'.1 b = some c := fun hb n1 n2 => ne hb (fun z => by rw [z, cl] at hb; cases hb; exact n1 _ rfl) (fun z => by rw [z, ce] at hb; cases hb; exact absurd rfl (n2 _ _ _))
  have he2 : ∀ e, (∃ wa n ff, G.1 e = some (gAq wa n ff)) → (e = hEb A → e = ad 2) → e = e' → e = ad 2 := fun e hx hy z => by
    rcases he with ⟨z2, -⟩ | z2
    · exact hy (z.trans z2)
    · obtain ⟨wa, n, ff, z3⟩ := hx
      rw [z, z2] at z3; cases z3
  refine ⟨⟨?_, fun b hb => ?_, ht.all t (fun b z => ?_) (Nat.le_refl _) (by omega)⟩, nN⟩
  · rw [hRep]
    refine ⟨?_, ⟨g, nO h2 (fun _ z => by cases z) (fun _ _ _ z => by cases z), fun j hj => by rw [hf _ (by omega)]; exact h2' j hj⟩, ⟨⟨by rw [nN]; exact eN, by rw [nN]; omega⟩, ⟨by rw [e0, hf _ (by omega)]; exact w9, by rw [e0]; exact w9'⟩, ⟨by rw [e1, hf _ (by omega)]; exact w11, by rw [e1]; exact w11'⟩⟩, ?_, fun k hk => ?_, fun k hk => ?_, fun k hk => ?_, hl, ?_⟩
    · have e : hFs (((hD A, hLb A, hLg A, hLc A), (e', hEg A, hEc A), (C', hKg A, hKc A), (fun k => if k = nB f then q else hBa A k, hGa A, hCa A))) f' = hFs A f := by
        simp only [hFs]
        rw [hf 10 (by omega), hf 1 (by omega), hf 0 (by omega), hf 2 (by omega), hf 3 (by omega), hf 4 (by omega), hf 5 (by omega), hf 6 (by omega), hf 7 (by omega)]
      rw [e]
      exact nO h1 (fun _ z => by cases z) (fun _ _ _ z => by cases z)
    · rw [nN, e0, e1]
      exact ⟨el, tr h5 (Ne.symm hl.1) (fun z => hE.1 z.symm), tr h6 (Ne.symm hl.2.1) (fun z => hE.2.1 z.symm)⟩
    · rw [nN] at hk
      by_cases ek : k = nB f
      · subst ek
        show G'.1 (if nB f = nB f then q else hBa A (nB f)) = _ ∧ _
        rw [if_pos rfl]
        exact ⟨nO hq (fun _ z => by cases z) (fun _ _ _ z => by cases z), hf3⟩
      · have hk2 : k < nB f := by omega
        show G'.1 (if k = nB f then q else hBa A k) = _ ∧ _
        rw [if_neg ek]
        have e : hBf ad f' k = hBf ad f k := by rw [hBf, hBf, hf _ (by omega), hf (19 + 2 * k) (by omega)]
        rw [e, hf _ (by omega)]
        exact ⟨nO (h7 k hk2).1 (fun _ z => by cases z) (fun _ _ _ z => by cases z), (h7 k hk2).2⟩
    · rw [e0] at hk
      have e : hGf f' k = hGf f k := by rw [hGf, hGf, hf _ (by omega), hf (28 + 5 * k) (by omega), hf (26 + 5 * k) (by omega), hf (30 + 5 * k) (by omega), hf (29 + 5 * k) (by omega)]
      rw [e, hf _ (by omega)]
      exact ⟨nO (h8 k hk).1 (fun _ z => by cases z) (fun _ _ _ z => by cases z), (h8 k hk).2⟩
    · rw [e1] at hk
      have e : hCf f' k = hCf f k := by rw [hCf, hCf, hf _ (by omega), hf (52 + 5 * k) (by omega), hf (53 + 5 * k) (by omega), hf (54 + 5 * k) (by omega), hf (55 + 5 * k) (by omega)]
      rw [e]
      exact nO (h9 k hk) (fun _ z => by cases z) (fun _ _ _ z => by cases z)
    · exact ⟨fun z => by have := he2 _ h5.cells.2 (fun z2 => by rw [z2]; exact hE.1 z2.symm) z.symm; rw [← this]; exact z, fun z => by have := he2 _ h6.cells.2 (fun z2 => by rw [z2]; exact hE.2.1 z2.symm) z.symm; rw [← this]; exact z, hE.2.2⟩
  · rw [hOwn, nN, e0] at hb
    rcases hb with z | z | z | (⟨z, z2⟩ | z) | ⟨k, hk, z⟩ | z
    · exact ho b (Or.inl z)
    · exact ho b (Or.inr (Or.inl z))
    · exact ho b (Or.inr (Or.inr (Or.inl z)))
    · rcases he with ⟨z3, z4⟩ | z3
      · exact ho b (Or.inr (Or.inr (Or.inr (Or.inl (Or.inl ⟨z.trans z3, by rw [← z4]; exact z2⟩)))))
      · rw [z]; exact ht.nul z3
    · exact ho b (Or.inr (Or.inr (Or.inr (Or.inl (Or.inr z)))))
    · by_cases ek : k = nB f
      · rw [z]; show G0.1 (if k = nB f then q else hBa A k) = none; rw [if_pos ek]; exact h0
      · refine ho b (Or.inr (Or.inr (Or.inr (Or.inr (Or.inl ⟨k, by omega, ?_⟩)))))
        rw [z]; show (if k = nB f then q else hBa A k) = _; rw [if_neg ek]
    · exact ho b (Or.inr (Or.inr (Or.inr (Or.inr (Or.inr z)))))
  · rcases z with z | ⟨z, z2⟩
    · rw [z]; exact ho _ (Or.inr (Or.inr (Or.inl (Or.inl rfl))))
    · rw [z]; exact ho _ (Or.inr (Or.inr (Or.inr (Or.inl (Or.inl ⟨rfl, z2⟩)))))
theorem hAddC (hc : HC ad G0 u G h A f) {f' : Nat → Int32} {q : Nat} (hq : G.1 q = some (gO true 10 (hCf f' (nC f)))) (hN : nC f < 8)
    (hf : ∀ j, (j ≠ 11 ∧ (j < 51 + 5 * nC f ∨ 56 + 5 * nC f ≤ j)) → f' j = f j) (hf2 : f' 11 = f 11 + 1) {G' : gS} {e' C' : Nat} (t : gTo (fun b => b = hLc A ∨ (b = hEc A ∧ 0 < hKc A)) 1 10 G G') (el : EL ad G' (hLc A) e' (nC f + 1) C' (fun k => if k = nC f then q else hCa A k)) (hC : 0 < C') (he : (e' = hEc A ∧ C' = hKc A) ∨ G.1 e' = none) :
    HC ad G0 (u + 1) G' h (((hD A, hLb A, hLg A, hLc A), (hEb A, hEg A, e'), (hKb A, hKg A, C'), (hBa A, hGa A, fun k => if k = nC f then q else hCa A k))) f' ∧ nC f' = nC f + 1 := by
  obtain ⟨hr, ho, ht⟩ := hc
  obtain ⟨h1, ⟨g, h2, h2'⟩, h3, ⟨h4, h5, h6⟩, h7, h8, h9, hl, hE⟩ := hr
  have w3 := h3
  obtain ⟨⟨w8, w8'⟩, ⟨w9, w9'⟩, w11, w11'⟩ := h3
  have eN : f' 11 = nI (nC f + 1) := by rw [hf2, nI_succ]; congr 1
  have nN : nC f' = nC f + 1 := by
    show (f' 11).toNatClampNeg = _
    rw [eN, nI_clamp (by omega)]
  have e0 : nB f' = nB f := by show (f' 8).toNatClampNeg = _; rw [hf _ (by omega)]; rfl
  have e1 : nG f' = nG f := by show (f' 9).toNatClampNeg = _; rw [hf _ (by omega)]; rfl
  have ne : ∀ {b c}, G.1 b = some c → b ≠ hLc A → (b = hEc A → hKc A = 0) → G'.1 b = some c := fun hb n1 n2 => t.1 _ _ hb (fun z => by
    rcases z with z | ⟨z, z2⟩
    · exact n1 z
    · have := n2 z; omega)
  obtain ⟨⟨fsl, cl⟩, wae, ne', fe, ce⟩ := h6.cells
  have kz : ∀ {e}, e = hEc A → hEc A = ad 2 → hKc A = 0 := fun _ z => by
    obtain ⟨⟨g9, ⟨mc, wa, b1, b2, b3, b4, b5⟩, -⟩, -⟩ := h6
    rcases b5 with ⟨-, -, b6⟩ | b6
    · exact absurd z b6
    · exact b6.2
  have tr : ∀ {l e n K : Nat} {a : Nat → Nat}, EL ad G l e n K a → l ≠ hLc A → (e = hEc A → hEc A = ad 2) → EL ad G' l e n K a := fun hh n1 n2 => by
    obtain ⟨⟨fs, e1⟩, wa, n, ff, e2⟩ := hh.cells
    exact hh.to (by rw [e1]; exact ne e1 n1 (fun z => by rw [z, ce] at e1; cases e1)) (by rw [e2]; exact ne e2 (fun z => by rw [z, cl] at e2; cases e2) (fun z => kz z (n2 z)))
  have nO : ∀ {b c}, G.1 b = some c → (∀ fs, c ≠ gO true 3 fs) → (∀ w n ff, c ≠ gAq w n ff) → G'.1 b = some c := fun hb n1 n2 => ne hb (fun z => by rw [z, cl] at hb; cases hb; exact n1 _ rfl) (fun z => by rw [z, ce] at hb; cases hb; exact absurd rfl (n2 _ _ _))
  have he2 : ∀ e, (∃ wa n ff, G.1 e = some (gAq wa n ff)) → (e = hEc A → e = ad 2) → e = e' → e = ad 2 := fun e hx hy z => by
    rcases he with ⟨z2, -⟩ | z2
    · exact hy (z.trans z2)
    · obtain ⟨wa, n, ff, z3⟩ := hx
      rw [z, z2] at z3; cases z3
  refine ⟨⟨?_, fun b hb => ?_, ht.all t (fun b z => ?_) (Nat.le_refl _) (by omega)⟩, nN⟩
  · rw [hRep]
    refine ⟨?_, ⟨g, nO h2 (fun _ z => by cases z) (fun _ _ _ z => by cases z), fun j hj => by rw [hf _ (by omega)]; exact h2' j hj⟩, ⟨⟨by rw [e0, hf _ (by omega)]; exact w8, by rw [e0]; exact w8'⟩, ⟨by rw [e1, hf _ (by omega)]; exact w9, by rw [e1]; exact w9'⟩, ⟨by rw [nN]; exact eN, by rw [nN]; omega⟩⟩, ?_, fun k hk => ?_, fun k hk => ?_, fun k hk => ?_, hl, ?_⟩
    · have e : hFs (((hD A, hLb A, hLg A, hLc A), (hEb A, hEg A, e'), (hKb A, hKg A, C'), (hBa A, hGa A, fun k => if k = nC f then q else hCa A k))) f' = hFs A f := by
        simp only [hFs]
        rw [hf 10 (by omega), hf 1 (by omega), hf 0 (by omega), hf 2 (by omega), hf 3 (by omega), hf 4 (by omega), hf 5 (by omega), hf 6 (by omega), hf 7 (by omega)]
      rw [e]
      exact nO h1 (fun _ z => by cases z) (fun _ _ _ z => by cases z)
    · rw [nN, e0, e1]
      exact ⟨tr h4 hl.2.1 (fun z => by rw [← z]; exact hE.2.1 z), tr h5 hl.2.2 (fun z => by rw [← z]; exact hE.2.2 z), el⟩
    · rw [e0] at hk
      have e : hBf ad f' k = hBf ad f k := by rw [hBf, hBf, hf _ (by omega), hf (19 + 2 * k) (by omega)]
      rw [e, hf _ (by omega)]
      exact ⟨nO (h7 k hk).1 (fun _ z => by cases z) (fun _ _ _ z => by cases z), (h7 k hk).2⟩
    · rw [e1] at hk
      have e : hGf f' k = hGf f k := by rw [hGf, hGf, hf _ (by omega), hf (28 + 5 * k) (by omega), hf (26 + 5 * k) (by omega), hf (30 + 5 * k) (by omega), hf (29 + 5 * k) (by omega)]
      rw [e, hf _ (by omega)]
      exact ⟨nO (h8 k hk).1 (fun _ z => by cases z) (fun _ _ _ z => by cases z), (h8 k hk).2⟩
    · rw [nN] at hk
      by_cases ek : k = nC f
      · subst ek
        show G'.1 (if nC f = nC f then q else hCa A (nC f)) = _
        rw [if_pos rfl]
        exact nO hq (fun _ z => by cases z) (fun _ _ _ z => by cases z)
      · have hk2 : k < nC f := by omega
        show G'.1 (if k = nC f then q else hCa A k) = _
        rw [if_neg ek]
        have e : hCf f' k = hCf f k := by rw [hCf, hCf, hf _ (by omega), hf (52 + 5 * k) (by omega), hf (53 + 5 * k) (by omega), hf (54 + 5 * k) (by omega), hf (55 + 5 * k) (by omega)]
        rw [e]
        exact nO (h9 k hk2) (fun _ z => by cases z) (fun _ _ _ z => by cases z)
    · exact ⟨hE.1, he2 _ h4.cells.2 hE.2.1, he2 _ h5.cells.2 hE.2.2⟩
  · rw [hOwn, e0, e1] at hb
    rcases hb with z | z | z | (z | z | ⟨z, z2⟩) | z
    · exact ho b (Or.inl z)
    · exact ho b (Or.inr (Or.inl z))
    · exact ho b (Or.inr (Or.inr (Or.inl z)))
    · exact ho b (Or.inr (Or.inr (Or.inr (Or.inl (Or.inl z)))))
    · exact ho b (Or.inr (Or.inr (Or.inr (Or.inl (Or.inr (Or.inl z))))))
    · rcases he with ⟨z3, z4⟩ | z3
      · exact ho b (Or.inr (Or.inr (Or.inr (Or.inl (Or.inr (Or.inr ⟨z.trans z3, by rw [← z4]; exact z2⟩))))))
      · rw [z]; exact ht.nul z3
    · exact ho b (Or.inr (Or.inr (Or.inr (Or.inr z))))
  · rcases z with z | ⟨z, z2⟩
    · rw [z]; exact ho _ (Or.inr (Or.inr (Or.inl (Or.inr (Or.inr rfl)))))
    · rw [z]; exact ho _ (Or.inr (Or.inr (Or.inr (Or.inl (Or.inr (Or.inr ⟨rfl, z2⟩))))))
theorem hRemC (hc : HC ad G0 u G h A f) {w : Nat} (hw : w < nC f) {K : Int32 → gS → Prop} (k : ∀ G', kp G G' → HC ad G0 u G' h ((hD A, hLb A, hLg A, hLc A), (hEb A, hEg A, hEc A), (hKb A, hKg A, hKc A), (hBa A, hGa A, fun k => if k < w then hCa A k else hCa A (k + 1))) (pDrop f w) → K 1 G') : gIs G (hLc A) 3 ∧ wp_J2_remove ad G (hLc A) (some (hCa A w)) X K := by
  obtain ⟨hr, ho, ht⟩ := hc
  have hr0 := hr
  obtain ⟨h1, ⟨g, h2, h2'⟩, h3, ⟨h4, h5, h6⟩, h7, h8, h9, hl, hE⟩ := hr
  refine h6.remove (fun k hk => gIs_of (h9 k hk)) hw fun G' t el => k G' (fun b w ci fs h10 hb => t.1 _ _ hb (fun z => ?_)) ?_
  · rcases z with z | z
    · obtain ⟨⟨fsl, cl⟩, -⟩ := h6.cells
      rw [z, cl] at hb; cases hb; omega
    · obtain ⟨-, wae, ne', fe, ce⟩ := h6.cells
      rw [z, ce] at hb; cases hb
  have hKc0 : 0 < hKc A := by have := h6.le; omega
  obtain ⟨⟨fsl, cl⟩, wae, ne', fe, ce⟩ := h6.cells
  have kz : hEc A ≠ ad 2 := by
    obtain ⟨⟨g9, ⟨mc, wa, b1, b2, b3, b4, b5⟩, -⟩, -⟩ := h6
    rcases b5 with b6 | b6
    · exact b6.2.2
    · omega
  have ne : ∀ {b c}, G.1 b = some c → b ≠ hLc A → b ≠ hEc A → G'.1 b = some c := fun hb n1 n2 => t.1 _ _ hb (fun z => z.elim n1 n2)
  have tr : ∀ {l e n K : Nat} {a : Nat → Nat}, EL ad G l e n K a → l ≠ hLc A → e ≠ hEc A → EL ad G' l e n K a := fun hh n1 n2 => by
    obtain ⟨⟨fs, e1⟩, wa, n, ff, e2⟩ := hh.cells
    exact hh.to (by rw [e1]; exact ne e1 n1 (fun z => by rw [z, ce] at e1; cases e1)) (by rw [e2]; exact ne e2 (fun z => by rw [z, cl] at e2; cases e2) n2)
  have nO : ∀ {b c}, G.1 b = some c → (∀ fs, c ≠ gO true 3 fs) → (∀ w n ff, c ≠ gAq w n ff) → G'.1 b = some c := fun hb n1 n2 => ne hb (fun z => by rw [z, cl] at hb; cases hb; exact n1 _ rfl) (fun z => by rw [z, ce] at hb; cases hb; exact n2 _ _ _ rfl)
  have h88 := h3.2.2.2
  obtain ⟨nN, -⟩ := nC_drop h3.2.2.1 h88 hw
  have hb4 := h3.1.2
  have hg5 := h3.2.1.2
  have lo : ∀ j, j ≠ 11 → j < 51 + 5 * w → pDrop f w j = f j := fun j => pDrop_lo
  refine ⟨?_, fun b hb => ho b ?_, ht.all t (fun b z => ?_) (Nat.le_refl _) (Nat.le_refl _)⟩
  · rw [hRep, nN, nB_drop, nG_drop]
    refine ⟨?_, ⟨g, nO h2 (fun _ z => by cases z) (fun _ _ _ z => by cases z), fun j hj => by rw [lo _ (by omega) (by omega)]; exact h2' j hj⟩, h3.drop hw, ⟨tr h4 hl.2.1 (fun z => kz (by rw [← z]; exact hE.2.1 z)), tr h5 hl.2.2 (fun z => kz (by rw [← z]; exact hE.2.2 z)), el⟩, fun k hk => ?_, fun k hk => ?_, fun k hk => ?_, hl, hE⟩
    · have e : hFs ((hD A, hLb A, hLg A, hLc A), (hEb A, hEg A, hEc A), (hKb A, hKg A, hKc A), (hBa A, hGa A, fun k => if k < w then hCa A k else hCa A (k + 1))) (pDrop f w) = hFs A f := by
        simp only [hFs]
        rw [lo 10 (by omega) (by omega), lo 1 (by omega) (by omega), lo 0 (by omega) (by omega), lo 2 (by omega) (by omega), lo 3 (by omega) (by omega), lo 4 (by omega) (by omega), lo 5 (by omega) (by omega), lo 6 (by omega) (by omega), lo 7 (by omega) (by omega)]
      rw [e]
      exact nO h1 (fun _ z => by cases z) (fun _ _ _ z => by cases z)
    · have e : hBf ad (pDrop f w) k = hBf ad f k := by rw [hBf, hBf, lo _ (by omega) (by omega), lo (19 + 2 * k) (by omega) (by omega)]
      rw [e, lo _ (by omega) (by omega)]
      exact ⟨nO (h7 k hk).1 (fun _ z => by cases z) (fun _ _ _ z => by cases z), (h7 k hk).2⟩
    · have e : hGf (pDrop f w) k = hGf f k := by rw [hGf, hGf, lo _ (by omega) (by omega), lo (28 + 5 * k) (by omega) (by omega), lo (26 + 5 * k) (by omega) (by omega), lo (30 + 5 * k) (by omega) (by omega), lo (29 + 5 * k) (by omega) (by omega)]
      rw [e, lo _ (by omega) (by omega)]
      exact ⟨nO (h8 k hk).1 (fun _ z => by cases z) (fun _ _ _ z => by cases z), (h8 k hk).2⟩
    · have e : hCf (pDrop f w) k = hCf f (if k < w then k else k + 1) := by
        have a0 := pDrop_c (f := f) (w := w) h88 (i := 0) (by omega) hk
        have a1 := pDrop_c (f := f) (w := w) h88 (i := 1) (by omega) hk
        have a2 := pDrop_c (f := f) (w := w) h88 (i := 2) (by omega) hk
        have a3 := pDrop_c (f := f) (w := w) h88 (i := 3) (by omega) hk
        have a4 := pDrop_c (f := f) (w := w) h88 (i := 4) (by omega) hk
        simp only [Nat.add_zero, show 51 + 1 = 52 from rfl, show 51 + 2 = 53 from rfl, show 51 + 3 = 54 from rfl, show 51 + 4 = 55 from rfl] at a0 a1 a2 a3 a4
        rw [hCf, hCf, a0, a1, a2, a3, a4]
      rw [e]
      have : ∀ x, x = (if k < w then k else k + 1) → G'.1 (if k < w then hCa A k else hCa A (k + 1)) = some (gO true 10 (hCf f x)) := by
        intro x hx
        by_cases q : k < w
        · rw [if_pos q] at hx ⊢
          rw [hx]
          exact nO (h9 k (by omega)) (fun _ z => by cases z) (fun _ _ _ z => by cases z)
        · rw [if_neg q] at hx ⊢
          rw [hx]
          exact nO (h9 (k + 1) (by omega)) (fun _ z => by cases z) (fun _ _ _ z => by cases z)
      exact this _ rfl
  · rw [hOwn, nB_drop, nG_drop] at hb
    exact hb
  · rcases z with z | z
    · rw [z]; exact ho _ (Or.inr (Or.inr (Or.inl (Or.inr (Or.inr rfl)))))
    · rw [z]; exact ho _ (Or.inr (Or.inr (Or.inr (Or.inl (Or.inr (Or.inr ⟨rfl, hKc0⟩))))))
end HA
