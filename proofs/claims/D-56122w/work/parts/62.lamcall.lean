/-! PURE: a change by its number, asked of a household (printed by gen/lamcall.py) -/
set_option maxRecDepth 20000
def wOp (ad : Nat → Nat) (G : gS) (o : Nat) (a b c d : Int32) (h : Nat) (X : Nat → gS → Prop) (K : Int32 → gS → Prop) : Prop := match o with
  | 0 => wp_X2_addGoblin ad G h a X K
  | 1 => wp_X2_addBroom ad G h a X K
  | 2 => wp_X2_banish ad G h a X K
  | 3 => wp_X2_recall ad G h a X K
  | 4 => wp_X2_hire ad G h a b c d X K
  | 5 => wp_X2_cancel ad G h a X K
  | 6 => wp_X2_setResting ad G h a (1 : Int32) X K
  | 7 => wp_X2_setResting ad G h a (0 : Int32) X K
  | 8 => wp_X2_lend ad G h a b X K
  | 9 => wp_X2_fund ad G h a X K
  | 10 => wp_X2_spend ad G h a X K
  | _ => wp_X2_passNights ad G h a X K
def lS1 (o : Nat) : Nat := o + 1
def lS2 (o : Nat) : Nat := [20, 21, 22, 23, 17, 24, 25, 26, 18, 27, 28, 19].getD o 0
def lAr (o : Nat) (a b c d : Int32) : List Int32 := match o with
  | 4 => [a, b, c, d]
  | 8 => [a, b]
  | _ => [a]
def lR (G : gS) (p o : Nat) (a b c d : Int32) : Prop := o < 12 ∧ (gIsL G p (lS1 o) ((lAr o a b c d).map Value.int) ∨ gIsL G p (lS2 o) ((lAr o a b c d).map Value.int))
theorem lR.to {G G' : gS} {p o : Nat} {a b c d : Int32} (h : lR G p o a b c d) (t : ∀ c, G.1 p = some c → G'.1 p = some c) : lR G' p o a b c d := by
  obtain ⟨ho, ⟨w, h⟩ | ⟨w, h⟩⟩ := h
  · exact ⟨ho, Or.inl ⟨w, t _ h⟩⟩
  · exact ⟨ho, Or.inr ⟨w, t _ h⟩⟩
theorem lR.call {ad : Nat → Nat} {G : gS} {p o h : Nat} {a b c d : Int32} {X : Nat → gS → Prop} {K : Int32 → gS → Prop} (hl : lR G p o a b c d) (hi : gIs G h 2) (w : wOp ad G o a b c d h X K) : wL_Change ad G p (some h) X K := by
  obtain ⟨ho, hl⟩ := hl
  unfold wL_Change
  match o, ho, hl, w with
  | 0, _, .inl hl, w => exact Or.inl ⟨a, hl, h, rfl, hi, w⟩
  | 0, _, .inr hl, w => exact Or.inr (Or.inr (Or.inr (Or.inr (Or.inr (Or.inr (Or.inr (Or.inr (Or.inr (Or.inr (Or.inr (Or.inr (Or.inr (Or.inr (Or.inr (Or.inl ⟨a, hl, h, rfl, hi, w⟩)))))))))))))))
  | 1, _, .inl hl, w => exact Or.inr (Or.inl ⟨a, hl, h, rfl, hi, w⟩)
  | 1, _, .inr hl, w => exact Or.inr (Or.inr (Or.inr (Or.inr (Or.inr (Or.inr (Or.inr (Or.inr (Or.inr (Or.inr (Or.inr (Or.inr (Or.inr (Or.inr (Or.inr (Or.inr (Or.inl ⟨a, hl, h, rfl, hi, w⟩))))))))))))))))
  | 2, _, .inl hl, w => exact Or.inr (Or.inr (Or.inl ⟨a, hl, h, rfl, hi, w⟩))
  | 2, _, .inr hl, w => exact Or.inr (Or.inr (Or.inr (Or.inr (Or.inr (Or.inr (Or.inr (Or.inr (Or.inr (Or.inr (Or.inr (Or.inr (Or.inr (Or.inr (Or.inr (Or.inr (Or.inr (Or.inl ⟨a, hl, h, rfl, hi, w⟩)))))))))))))))))
  | 3, _, .inl hl, w => exact Or.inr (Or.inr (Or.inr (Or.inl ⟨a, hl, h, rfl, hi, w⟩)))
  | 3, _, .inr hl, w => exact Or.inr (Or.inr (Or.inr (Or.inr (Or.inr (Or.inr (Or.inr (Or.inr (Or.inr (Or.inr (Or.inr (Or.inr (Or.inr (Or.inr (Or.inr (Or.inr (Or.inr (Or.inr (Or.inl ⟨a, hl, h, rfl, hi, w⟩))))))))))))))))))
  | 4, _, .inl hl, w => exact Or.inr (Or.inr (Or.inr (Or.inr (Or.inl ⟨a, b, c, d, hl, h, rfl, hi, w⟩))))
  | 4, _, .inr hl, w => exact Or.inr (Or.inr (Or.inr (Or.inr (Or.inr (Or.inr (Or.inr (Or.inr (Or.inr (Or.inr (Or.inr (Or.inr (Or.inl ⟨a, b, c, d, hl, h, rfl, hi, w⟩))))))))))))
  | 5, _, .inl hl, w => exact Or.inr (Or.inr (Or.inr (Or.inr (Or.inr (Or.inl ⟨a, hl, h, rfl, hi, w⟩)))))
  | 5, _, .inr hl, w => exact Or.inr (Or.inr (Or.inr (Or.inr (Or.inr (Or.inr (Or.inr (Or.inr (Or.inr (Or.inr (Or.inr (Or.inr (Or.inr (Or.inr (Or.inr (Or.inr (Or.inr (Or.inr (Or.inr (Or.inl ⟨a, hl, h, rfl, hi, w⟩)))))))))))))))))))
  | 6, _, .inl hl, w => exact Or.inr (Or.inr (Or.inr (Or.inr (Or.inr (Or.inr (Or.inl ⟨a, hl, h, rfl, hi, w⟩))))))
  | 6, _, .inr hl, w => exact Or.inr (Or.inr (Or.inr (Or.inr (Or.inr (Or.inr (Or.inr (Or.inr (Or.inr (Or.inr (Or.inr (Or.inr (Or.inr (Or.inr (Or.inr (Or.inr (Or.inr (Or.inr (Or.inr (Or.inr (Or.inl ⟨a, hl, h, rfl, hi, w⟩))))))))))))))))))))
  | 7, _, .inl hl, w => exact Or.inr (Or.inr (Or.inr (Or.inr (Or.inr (Or.inr (Or.inr (Or.inl ⟨a, hl, h, rfl, hi, w⟩)))))))
  | 7, _, .inr hl, w => exact Or.inr (Or.inr (Or.inr (Or.inr (Or.inr (Or.inr (Or.inr (Or.inr (Or.inr (Or.inr (Or.inr (Or.inr (Or.inr (Or.inr (Or.inr (Or.inr (Or.inr (Or.inr (Or.inr (Or.inr (Or.inr (Or.inl ⟨a, hl, h, rfl, hi, w⟩)))))))))))))))))))))
  | 8, _, .inl hl, w => exact Or.inr (Or.inr (Or.inr (Or.inr (Or.inr (Or.inr (Or.inr (Or.inr (Or.inl ⟨a, b, hl, h, rfl, hi, w⟩))))))))
  | 8, _, .inr hl, w => exact Or.inr (Or.inr (Or.inr (Or.inr (Or.inr (Or.inr (Or.inr (Or.inr (Or.inr (Or.inr (Or.inr (Or.inr (Or.inr (Or.inl ⟨a, b, hl, h, rfl, hi, w⟩)))))))))))))
  | 9, _, .inl hl, w => exact Or.inr (Or.inr (Or.inr (Or.inr (Or.inr (Or.inr (Or.inr (Or.inr (Or.inr (Or.inl ⟨a, hl, h, rfl, hi, w⟩)))))))))
  | 9, _, .inr hl, w => exact Or.inr (Or.inr (Or.inr (Or.inr (Or.inr (Or.inr (Or.inr (Or.inr (Or.inr (Or.inr (Or.inr (Or.inr (Or.inr (Or.inr (Or.inr (Or.inr (Or.inr (Or.inr (Or.inr (Or.inr (Or.inr (Or.inr (Or.inl ⟨a, hl, h, rfl, hi, w⟩))))))))))))))))))))))
  | 10, _, .inl hl, w => exact Or.inr (Or.inr (Or.inr (Or.inr (Or.inr (Or.inr (Or.inr (Or.inr (Or.inr (Or.inr (Or.inl ⟨a, hl, h, rfl, hi, w⟩))))))))))
  | 10, _, .inr hl, w => exact Or.inr (Or.inr (Or.inr (Or.inr (Or.inr (Or.inr (Or.inr (Or.inr (Or.inr (Or.inr (Or.inr (Or.inr (Or.inr (Or.inr (Or.inr (Or.inr (Or.inr (Or.inr (Or.inr (Or.inr (Or.inr (Or.inr (Or.inr (⟨a, hl, h, rfl, hi, w⟩)))))))))))))))))))))))
  | 11, _, .inl hl, w => exact Or.inr (Or.inr (Or.inr (Or.inr (Or.inr (Or.inr (Or.inr (Or.inr (Or.inr (Or.inr (Or.inr (Or.inl ⟨a, hl, h, rfl, hi, w⟩)))))))))))
  | 11, _, .inr hl, w => exact Or.inr (Or.inr (Or.inr (Or.inr (Or.inr (Or.inr (Or.inr (Or.inr (Or.inr (Or.inr (Or.inr (Or.inr (Or.inr (Or.inr (Or.inl ⟨a, hl, h, rfl, hi, w⟩))))))))))))))
section OP
variable {ad : Nat → Nat} {G0 G : gS} {u h : Nat} {A : hA} {f : Nat → Int32} {X : Nat → gS → Prop}
theorem oK0.le {u' o : Nat} {r : pR} (hu : u ≤ u') (k : oK0 ad G0 u' o r X) : oK0 ad G0 u o r X := fun q p G' e => k q p G' ⟨e.1.mono (fun b q => Or.inr q) hu (by omega), e.2⟩
theorem oK1.le {u' : Nat} {r : pR} {K : Int32 → gS → Prop} (hu : u ≤ u') (k : oK1 ad G0 u' h A r K) : oK1 ad G0 u h A r K := fun q G' A' e => k q G' A' (e.mono hu)
theorem sp_op (hc : HC ad G0 u G h A f) (hb : gB4 ad G0) {ci : Nat} (hi : hI f ci) (hR : rm G0 (u + 12)) {o : Nat} (ho : o < 12) {a b c d : Int32} {K : Int32 → gS → Prop} (k0 : oK0 ad G0 (u + 1) o (pOp o a b c d f) X) (k : oK1 ad G0 (u + 8) h A (pOp o a b c d f) K) : wOp ad G o a b c d h X K := by
  have k2 : oK1 ad G0 (u + 2) h A (pOp o a b c d f) K := oK1.le (by omega) k
  have hR4 := hR.le (n' := u + 4) (by omega)
  have hne := hb.ne
  match o, ho, k0, k, k2 with
  | 0, _, k0, _, k2 => exact sp_addGoblin hc hR4 k0 k2
  | 1, _, k0, _, k2 => exact sp_addBroom hc hR4 k0 k2
  | 2, _, k0, _, k2 => exact ⟨hc.1.is, sp_setStanding hc hne hR4 (o := 2) (Or.inl rfl) (x := 1) (Or.inr rfl) k0 k2⟩
  | 3, _, k0, _, k2 => exact ⟨hc.1.is, sp_setStanding hc hne hR4 (o := 3) (Or.inr rfl) (x := 0) (Or.inl rfl) k0 k2⟩
  | 4, _, k0, _, k2 => exact sp_hire hc hR4 k0 k2
  | 5, _, k0, _, k2 => exact sp_cancel hc hi.1.k hR4 k0 k2
  | 6, _, k0, _, k2 => exact sp_setResting hc hR4 (o := 6) (Or.inl rfl) (x := 1) (Or.inr rfl) k0 k2
  | 7, _, k0, _, k2 => exact sp_setResting hc hR4 (o := 7) (Or.inr rfl) (x := 0) (Or.inl rfl) k0 k2
  | 8, _, k0, _, k2 => exact sp_lend hc hR4 k0 k2
  | 9, _, k0, _, k2 => exact sp_fund hc hR4 k0 k2
  | 10, _, k0, _, k2 => exact sp_spend hc hR4 k0 k2
  | 11, _, k0, k, _ => exact sp_passNights hc hb hi hR k0 k
theorem sp_change (hc : HC ad G0 u G h A f) (hb : gB4 ad G0) {ci : Nat} (hi : hI f ci) (hR : rm G0 (u + 12)) {p o : Nat} {a b c d : Int32} {K : Int32 → gS → Prop} (hl : lR G p o a b c d) (k0 : oK0 ad G0 (u + 1) o (pOp o a b c d f) X) (k : oK1 ad G0 (u + 8) h A (pOp o a b c d f) K) : wL_Change ad G p (some h) X K :=
  hl.call hc.1.is (sp_op hc hb hi hR hl.1 k0 k)
end OP
