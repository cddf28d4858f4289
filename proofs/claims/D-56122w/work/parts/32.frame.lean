/-! PURE: what changes and what stays -/
set_option maxRecDepth 20000
/-- of the cells that were there only those of T may have changed; so many new cells and slots at most -/
def gTo (T : Nat → Prop) (n m : Nat) (G G' : gS) : Prop := (∀ b c, G.1 b = some c → ¬ T b → G'.1 b = some c) ∧ (∀ b, G.1 b ≠ none → G'.1 b ≠ none) ∧ G.2.1 ≤ G'.2.1 + n ∧ G.2.2 ≤ G'.2.2 + m
theorem gTo.refl {T : Nat → Prop} {G : gS} : gTo T 0 0 G G := ⟨fun _ _ h _ => h, fun _ h => h, Nat.le_refl _, Nat.le_refl _⟩
theorem gTo.trans {T T1 T2 : Nat → Prop} {n1 m1 n2 m2 n m : Nat} {G G1 G2 : gS} (h1 : gTo T1 n1 m1 G G1) (h2 : gTo T2 n2 m2 G1 G2) (ht1 : ∀ b, T1 b → G.1 b = none ∨ T b) (ht2 : ∀ b, T2 b → G.1 b = none ∨ T b) (hn : n1 + n2 ≤ n) (hm : m1 + m2 ≤ m) : gTo T n m G G2 := by
  obtain ⟨a1, b1, c1, d1⟩ := h1
  obtain ⟨a2, b2, c2, d2⟩ := h2
  refine ⟨fun b c h hT => a2 b c (a1 b c h fun q => ?_) fun q => ?_, fun b h => b2 b (b1 b h), by omega, by omega⟩
  · rcases ht1 b q with e | e
    · rw [h] at e; cases e
    · exact hT e
  · rcases ht2 b q with e | e
    · rw [h] at e; cases e
    · exact hT e
theorem gTo.mono {T T' : Nat → Prop} {n m n' m' : Nat} {G G' : gS} (h : gTo T n m G G') (ht : ∀ b, T b → G.1 b = none ∨ T' b) (hn : n ≤ n') (hm : m ≤ m') : gTo T' n' m' G G' :=
  (gTo.refl (T := T')).trans h (fun b q => Or.inr q) ht (by omega) (by omega)
theorem gTo_set {G : gS} {a : Nat} {c c0 : gC} {T : Nat → Prop} (h : G.1 a = some c0) (hT : T a) : gTo T 0 0 G (gSet G a c) := by
  refine ⟨fun b d hb hn => ?_, fun b hb => ?_, Nat.le_refl _, Nat.le_refl _⟩
  · rw [gSet_ne (fun e : b = a => hn (by rw [e]; exact hT))]; exact hb
  · by_cases e : b = a
    · subst e; rw [gSet_self]; intro q; cases q
    · rw [gSet_ne e]; exact hb
theorem gTo_new {G : gS} {a n : Nat} {c : gC} {T : Nat → Prop} (h : G.1 a = none) (h1 : 1 ≤ G.2.1) (h2 : n ≤ G.2.2) : gTo T 1 n G (gNew G a c n) := by
  refine ⟨fun b d hb hn => ?_, fun b hb => ?_, ?_, ?_⟩
  · rw [gNew_ne (fun e => by rw [e, h] at hb; cases hb)]; exact hb
  · by_cases e : b = a
    · subst e; exact absurd h hb
    · rw [gNew_ne e]; exact hb
  · show G.2.1 ≤ G.2.1 - 1 + 1; omega
  · show G.2.2 ≤ G.2.2 - n + n; omega
