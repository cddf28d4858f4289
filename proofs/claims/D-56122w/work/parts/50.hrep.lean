/-! PURE: a household's cells, and the numbers they stand for -/
set_option maxRecDepth 20000
/-- a household's addresses: dust; lists of brooms, goblins, contracts; their arrays; the arrays' places; the elements -/
abbrev hA : Type := (Nat × Nat × Nat × Nat) × (Nat × Nat × Nat) × (Nat × Nat × Nat) × ((Nat → Nat) × (Nat → Nat) × (Nat → Nat))
abbrev hD (A : hA) : Nat := A.1.1
abbrev hLb (A : hA) : Nat := A.1.2.1
abbrev hLg (A : hA) : Nat := A.1.2.2.1
abbrev hLc (A : hA) : Nat := A.1.2.2.2
abbrev hEb (A : hA) : Nat := A.2.1.1
abbrev hEg (A : hA) : Nat := A.2.1.2.1
abbrev hEc (A : hA) : Nat := A.2.1.2.2
abbrev hKb (A : hA) : Nat := A.2.2.1.1
abbrev hKg (A : hA) : Nat := A.2.2.1.2.1
abbrev hKc (A : hA) : Nat := A.2.2.1.2.2
abbrev hBa (A : hA) : Nat → Nat := A.2.2.2.1
abbrev hGa (A : hA) : Nat → Nat := A.2.2.2.2.1
abbrev hCa (A : hA) : Nat → Nat := A.2.2.2.2.2
/-- a list of n elements at a, in the array e of K places -/
def EL (ad : Nat → Nat) (G : gS) (l e n K : Nat) (a : Nat → Nat) : Prop := (∃ g, AW ad G l e n K g ∧ ∀ k, k < n → g k = some (a k)) ∧ (K = 0 ∨ K = 10) ∧ (∀ j k, j < n → k < n → a j = a k → j = k)
def hFs (A : hA) (f : Nat → Int32) : List Value := [va_rf (some (hD A)), va_rf (some (hLb A)), va_rf (some (hLg A)), va_rf (some (hLc A)), .int (f 10), .int (f 1), .int (f 0), .int (f 2), .int (f 3), .int (f 4), .int (f 5), .int (f 6), .int (f 7)]
def hBf (ad : Nat → Nat) (f : Nat → Int32) (k : Nat) : List Value := [.int (f (18 + 2 * k)), va_rf (some (if f (19 + 2 * k) = 1 then ad 1 else ad 0))]
def hGf (f : Nat → Int32) (k : Nat) : List Value := [.int (nI k), .int (f (27 + 5 * k)), .int (f (28 + 5 * k)), .int (f (26 + 5 * k)), .int (f (30 + 5 * k)), .int (f (29 + 5 * k))]
def hCf (f : Nat → Int32) (k : Nat) : List Value := [.int (f (51 + 5 * k)), .int (f (52 + 5 * k)), .int (f (53 + 5 * k)), .int (f (54 + 5 * k)), .int (f (55 + 5 * k))]
def hRep (ad : Nat → Nat) (G : gS) (h : Nat) (A : hA) (f : Nat → Int32) : Prop :=
  G.1 h = some (gO true 2 (hFs A f)) ∧ (∃ g : Nat → Int32, G.1 (hD A) = some (gAi true 6 g) ∧ ∀ j, j < 6 → g j = f (12 + j)) ∧ hW f ∧
  (EL ad G (hLb A) (hEb A) (nB f) (hKb A) (hBa A) ∧ EL ad G (hLg A) (hEg A) (nG f) (hKg A) (hGa A) ∧ EL ad G (hLc A) (hEc A) (nC f) (hKc A) (hCa A)) ∧
  (∀ k, k < nB f → G.1 (hBa A k) = some (gO true 8 (hBf ad f k)) ∧ (f (19 + 2 * k) = 0 ∨ f (19 + 2 * k) = 1)) ∧
  (∀ k, k < nG f → G.1 (hGa A k) = some (gO true 9 (hGf f k)) ∧ (f (30 + 5 * k) = 0 ∨ f (30 + 5 * k) = 1)) ∧
  (∀ k, k < nC f → G.1 (hCa A k) = some (gO true 10 (hCf f k))) ∧
  (hLb A ≠ hLg A ∧ hLb A ≠ hLc A ∧ hLg A ≠ hLc A) ∧ ((hEb A = hEg A → hEb A = ad 2) ∧ (hEb A = hEc A → hEb A = ad 2) ∧ (hEg A = hEc A → hEg A = ad 2))
/-- the cells that are the household's own (contracts are shared) -/
def hOwn (h : Nat) (A : hA) (f : Nat → Int32) (b : Nat) : Prop := b = h ∨ b = hD A ∨ (b = hLb A ∨ b = hLg A ∨ b = hLc A) ∨ ((b = hEb A ∧ 0 < hKb A) ∨ (b = hEg A ∧ 0 < hKg A) ∨ (b = hEc A ∧ 0 < hKc A)) ∨ (∃ k, k < nB f ∧ b = hBa A k) ∨ (∃ k, k < nG f ∧ b = hGa A k)
theorem AW.to {ad : Nat → Nat} {G G' : gS} {a ar n cap : Nat} {f : Nat → Option Nat} (h : AW ad G a ar n cap f) (h1 : G'.1 a = G.1 a) (h2 : G'.1 ar = G.1 ar) : AW ad G' a ar n cap f := by
  obtain ⟨mc, wa, e1, e2, e3⟩ := h
  exact ⟨mc, wa, by rw [h1]; exact e1, by rw [h2]; exact e2, e3⟩
theorem AW.cells {ad : Nat → Nat} {G : gS} {a ar n cap : Nat} {f : Nat → Option Nat} (h : AW ad G a ar n cap f) : (∃ fs, G.1 a = some (gO true 3 fs)) ∧ ∃ wa n f, G.1 ar = some (gAq wa n f) := by
  obtain ⟨mc, wa, e1, e2, -⟩ := h
  exact ⟨⟨_, e1⟩, _, _, _, e2⟩
/-- what a household is made of -/
def hCls (c : gC) : Prop := (∃ w n f, c = gAi w n f) ∨ (∃ w n f, c = gAq w n f) ∨ (∃ w ci fs, c = gO w ci fs ∧ (ci = 2 ∨ ci = 3 ∨ ci = 8 ∨ ci = 9 ∨ ci = 10))
theorem EL.to {ad : Nat → Nat} {G G' : gS} {l e n K : Nat} {a : Nat → Nat} (h : EL ad G l e n K a) (h1 : G'.1 l = G.1 l) (h2 : G'.1 e = G.1 e) : EL ad G' l e n K a := by
  obtain ⟨⟨g, h3, h4⟩, h5⟩ := h
  exact ⟨⟨g, h3.to h1 h2, h4⟩, h5⟩
theorem EL.cells {ad : Nat → Nat} {G : gS} {l e n K : Nat} {a : Nat → Nat} (h : EL ad G l e n K a) : (∃ fs, G.1 l = some (gO true 3 fs)) ∧ ∃ wa n f, G.1 e = some (gAq wa n f) := by
  obtain ⟨⟨g, h3, -⟩, -⟩ := h
  exact h3.cells
/-- nothing of it has changed -/
theorem hRep.to {ad : Nat → Nat} {G G' : gS} {h : Nat} {A : hA} {f : Nat → Int32} (hr : hRep ad G h A f) (hf : ∀ b c, G.1 b = some c → hCls c → G'.1 b = some c) : hRep ad G' h A f := by
  obtain ⟨h1, ⟨g, h2, h2'⟩, h3, ⟨h4, h5, h6⟩, h7, h8, h9, h10, h11⟩ := hr
  have el : ∀ {l e n K : Nat} {a : Nat → Nat}, EL ad G l e n K a → EL ad G' l e n K a := fun hh => by
    obtain ⟨⟨fs, e1⟩, wa, n, f, e2⟩ := hh.cells
    exact hh.to (by rw [e1]; exact hf _ _ e1 (Or.inr (Or.inr ⟨_, _, _, rfl, by omega⟩))) (by rw [e2]; exact hf _ _ e2 (Or.inr (Or.inl ⟨_, _, _, rfl⟩)))
  refine ⟨hf _ _ h1 (Or.inr (Or.inr ⟨_, _, _, rfl, by omega⟩)), ⟨g, hf _ _ h2 (Or.inl ⟨_, _, _, rfl⟩), h2'⟩, h3, ⟨el h4, el h5, el h6⟩, fun k hk => ⟨hf _ _ (h7 k hk).1 (Or.inr (Or.inr ⟨_, _, _, rfl, by omega⟩)), (h7 k hk).2⟩, fun k hk => ⟨hf _ _ (h8 k hk).1 (Or.inr (Or.inr ⟨_, _, _, rfl, by omega⟩)), (h8 k hk).2⟩, fun k hk => hf _ _ (h9 k hk) (Or.inr (Or.inr ⟨_, _, _, rfl, by omega⟩)), h10, h11⟩
