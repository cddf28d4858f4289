/-! PURE: ArrayList, reading -/
set_option maxRecDepth 20000
/-- an ArrayList: n elements, in an array of cap places -/
def AL (G : gS) (w : Bool) (a ar n cap : Nat) (f : Nat → Option Nat) : Prop := ∃ (mc : Int32) (wa : Bool), G.1 a = some (gO w 3 [.int mc, va_rf (some ar), .int (nI n)]) ∧ G.1 ar = some (gAq wa cap f) ∧ n ≤ cap ∧ cap < 65536
section AL
variable {ad : Nat → Nat} {G : gS} {w : Bool} {a ar n cap : Nat} {f : Nat → Option Nat} {X : Nat → gS → Prop}
theorem AL.is (h : AL G w a ar n cap f) : gIs G a 3 := by
  obtain ⟨mc, wa, h1, -⟩ := h
  exact gIs_of h1
theorem sp_size (h : AL G w a ar n cap f) {K : Int32 → gS → Prop} (k : K (nI n) G) : wp_J2_size ad G a X K := by
  obtain ⟨mc, wa, h1, -⟩ := h
  exact wGetI_of h1 rfl k
theorem sp_get (h : AL G w a ar n cap f) {i : Nat} (hi : i < n) {K : Option Nat → gS → Prop} (k : K (f i) G) : wp_J2_get ad G a (nI i) X K := by
  have his := h.is
  obtain ⟨mc, wa, h1, h2, h3, h4⟩ := h
  refine wGetI_of h1 rfl ?_
  refine ⟨fun q => absurd q (nI_pos (by omega)), fun _ => ⟨fun _ => ⟨his, ?_⟩, fun q => absurd (nI_lt hi (by omega)) q⟩⟩
  refine wGetQ_of h1 rfl (wNN_of (wAldQ_of h2 (vp_in_nI (by omega) (by omega)) ?_))
  rw [nI_clamp (by omega)]
  exact k
end AL
