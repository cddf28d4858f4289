/-! PURE: branches, loops, numbers -/
set_option maxRecDepth 20000
/-- a loop that counts up to n -/
theorem gLoop_up {β : Type} {bot : β} {B : β → β} (n : Nat) (P : Nat → β → Prop) (hs : ∀ k f, k ≤ n → (k < n → P (k + 1) f) → P k (B f)) : ∀ fuel k, k ≤ n → n - k < fuel → P k (gLoop bot B fuel)
  | 0, _, _, h => absurd h (by omega)
  | fuel + 1, k, hk, h => hs k _ hk (fun hlt => gLoop_up n P hs fuel (k + 1) hlt (by omega))
/-- a loop with a measure that falls -/
theorem gLoop_ms {β : Type} {bot : β} {B : β → β} (P : Nat → β → Prop) (hs : ∀ m f, (∀ m', m' < m → P m' f) → P m (B f)) : ∀ fuel m, m < fuel → P m (gLoop bot B fuel)
  | 0, _, h => absurd h (by omega)
  | fuel + 1, m, h => hs m _ (fun m' hm => gLoop_ms P hs fuel m' (by omega))
theorem gFuel_lt {n : Nat} (h : n < 10000) : n < gFuel := Nat.lt_of_lt_of_le h (Nat.le_of_ble_eq_true rfl)
theorem ltb {a b : Nat} (h : Nat.ble (a + 1) b = true) : a < b := Nat.le_of_ble_eq_true h
section BR
variable {p A B : Prop} {b : Bool}
theorem brT (hp : p) (h : A) : (p → A) ∧ (¬ p → B) := ⟨fun _ => h, fun q => absurd hp q⟩
theorem brF (hp : ¬ p) (h : B) : (p → A) ∧ (¬ p → B) := ⟨fun q => absurd q hp, fun _ => h⟩
theorem brT' (hp : p) (h : A) : (¬ p → B) ∧ (p → A) := ⟨fun q => absurd hp q, fun _ => h⟩
theorem brF' (hp : ¬ p) (h : B) : (¬ p → B) ∧ (p → A) := ⟨fun _ => h, fun q => absurd q hp⟩
def bI (b : Bool) : Int32 := if b then 1 else 0
theorem bI_t : bI true = 1 := rfl
theorem bI_f : bI false = 0 := rfl
theorem bI_0 : bI b = 0 ↔ b = false := by cases b <;> decide
theorem bI_1 : bI b = 1 ↔ b = true := by cases b <;> decide
theorem bI_n0 : ¬ bI b = 0 ↔ b = true := by cases b <;> decide
theorem bI_n1 : ¬ bI b = 1 ↔ b = false := by cases b <;> decide
theorem bI_br (h0 : b = false → A) (h1 : b = true → B) : (bI b = 0 → A) ∧ (¬ bI b = 0 → B) := ⟨fun q => h0 (bI_0.mp q), fun q => h1 (bI_n0.mp q)⟩
theorem bI_br' (h1 : b = true → B) (h0 : b = false → A) : (¬ bI b = 0 → B) ∧ (bI b = 0 → A) := ⟨fun q => h1 (bI_n0.mp q), fun q => h0 (bI_0.mp q)⟩
theorem bI_nar : gNar .boolean (bI b) := by cases b <;> rfl
theorem bI_nf : gNF .boolean (bI b) := by cases b <;> exact ⟨rfl, rfl⟩
/-- both ways come to one thing, told by a truth value -/
theorem bI_get {P : Int32 → Prop} (k : P (bI b)) (hb : b = true) : P 1 := by subst hb; exact k
theorem bI_get0 {P : Int32 → Prop} (k : P (bI b)) (hb : b = false) : P 0 := by subst hb; exact k
theorem oN {A : Prop} {B : Nat → Prop} (h : A) : ((none : Option Nat) = none → A) ∧ (∀ c, (none : Option Nat) = some c → B c) := ⟨fun _ => h, fun c q => (by cases q)⟩
theorem oS {A : Prop} {a : Nat} {B : Nat → Prop} (h : B a) : (some a = none → A) ∧ (∀ c, some a = some c → B c) := ⟨fun q => (by cases q), fun c q => (by cases q; exact h)⟩
end BR
def pIn (v lo hi : Int32) : Bool := decide (lo ≤ v ∧ v ≤ hi)
theorem pIn_lo {v lo hi : Int32} (h : v < lo) : pIn v lo hi = false := by
  rw [pIn, decide_eq_false_iff_not]
  exact fun q => absurd q.1 (Int32.not_le.mpr h)
theorem pIn_hi {v lo hi : Int32} (h : hi < v) : pIn v lo hi = false := by
  rw [pIn, decide_eq_false_iff_not]
  exact fun q => absurd q.2 (Int32.not_le.mpr h)
theorem pIn_in {v lo hi : Int32} (h : ¬ v < lo) (h2 : ¬ hi < v) : pIn v lo hi = true := by
  rw [pIn, decide_eq_true_iff]
  exact ⟨Int32.not_lt.mp h, Int32.not_lt.mp h2⟩
theorem pIn_t {v lo hi : Int32} (h : pIn v lo hi = true) : lo ≤ v ∧ v ≤ hi := by
  rw [pIn, decide_eq_true_iff] at h
  exact h
/-- a number between 0 and n - 1 -/
theorem pIn_nI {v : Int32} {n : Nat} (hn : n < 2 ^ 31) : pIn v 0 (nI n - 1) = true ↔ ∃ k, k < n ∧ v = nI k := by
  constructor
  · intro h
    obtain ⟨h1, h2⟩ := pIn_t h
    obtain ⟨k, hk, rfl⟩ := nI_of (Int32.not_lt.mpr h1)
    refine ⟨k, ?_, rfl⟩
    cases n with
    | zero =>
      have h3 : (nI 0 - 1 : Int32) < 0 := by decide
      exact absurd (Int32.le_trans h1 h2) (Int32.not_le.mpr h3)
    | succ n =>
      rw [nI_pred] at h2
      have := (nI_leI hk (by omega)).mp h2
      omega
  · rintro ⟨k, hk, rfl⟩
    cases n with
    | zero => omega
    | succ n =>
      rw [nI_pred]
      exact pIn_in (nI_pos (by omega)) (nI_nlt (by omega) (by omega))
theorem pIn_n {v lo hi : Int32} {a b : Nat} (ha : lo = nI a) (hb : hi = nI b) (h1 : a < 2 ^ 31) (h2 : b < 2 ^ 31) (h : pIn v lo hi = true) : ∃ n, a ≤ n ∧ n ≤ b ∧ v = nI n := by
  obtain ⟨h3, h4⟩ := pIn_t h
  have h5 : ¬ v < 0 := by
    rw [Int32.not_lt]
    exact Int32.le_trans (by rw [ha]; exact nI_pos' h1) h3
  obtain ⟨n, hn, rfl⟩ := nI_of h5
  rw [ha] at h3
  rw [hb] at h4
  exact ⟨n, (nI_leI h1 hn).mp h3, (nI_leI hn h2).mp h4, rfl⟩
theorem nI_mul (a b : Nat) : nI a * nI b = nI (a * b) := (Int32.ofNat_mul a b).symm
theorem nI_sub {a b : Nat} (h : b ≤ a) : nI a - nI b = nI (a - b) := by
  obtain ⟨c, rfl⟩ := Nat.exists_eq_add_of_le h
  rw [← nI_add, Nat.add_sub_cancel_left]
  rw [Int32.sub_eq_add_neg, Int32.add_comm (nI b), Int32.add_assoc, Int32.add_right_neg, Int32.add_zero]
/-- the least of two -/
theorem min_nI {a b : Nat} (ha : a < 2 ^ 31) (hb : b < 2 ^ 31) : (if nI a < nI b then nI a else nI b) = nI (min a b) := by
  by_cases h : a < b
  · rw [if_pos ((nI_ltI ha hb).mpr h), Nat.min_eq_left (by omega)]
  · rw [if_neg (fun q => h ((nI_ltI ha hb).mp q)), Nat.min_eq_right (by omega)]
theorem min_nI' {a b : Nat} (ha : a < 2 ^ 31) (hb : b < 2 ^ 31) : (if nI b < nI a then nI b else nI a) = nI (min a b) := by
  rw [min_nI hb ha, Nat.min_comm]
/-- the least, the greatest, told the other way round -/
theorem min_comm32 (a b : Int32) : (if a < b then a else b) = (if b < a then b else a) := by
  by_cases h : a < b
  · rw [if_pos h, if_neg (fun q => absurd (Int32.lt_trans h q) (Int32.lt_irrefl (a := a)))]
  · by_cases h2 : b < a
    · rw [if_neg h, if_pos h2]
    · rw [if_neg h, if_neg h2]
      exact Int32.le_antisymm (Int32.not_lt.mp h) (Int32.not_lt.mp h2)
theorem wNN_some {a : Nat} {K : Nat → Prop} (hK : K a) : wNN (some a) K := ⟨a, rfl, hK⟩
theorem upd_self {f : Nat → Int32} {k : Nat} {x : Int32} : upd f k x k = x := by simp [upd]
theorem upd_ne {f : Nat → Int32} {k j : Nat} {x : Int32} (h : j ≠ k) : upd f k x j = f j := by simp [upd, h]
theorem upd_upd {f : Nat → Int32} {k : Nat} {x y : Int32} : upd (upd f k x) k y = upd f k y := by
  funext j; simp only [upd]; split <;> rfl
theorem upd_same {f : Nat → Int32} {k : Nat} {x : Int32} (h : f k = x) : upd f k x = f := by
  funext j; simp only [upd]; split
  · rename_i e; rw [e, h]
  · rfl
theorem upd_comm {f : Nat → Int32} {i k : Nat} {x y : Int32} (h : i ≠ k) : upd (upd f i x) k y = upd (upd f k y) i x := by
  funext j; simp only [upd]
  by_cases h1 : j = k
  · subst h1; rw [if_pos rfl, if_neg (Ne.symm h), if_pos rfl]
  · by_cases h2 : j = i
    · subst h2; rw [if_neg h1, if_pos rfl, if_pos rfl]
    · rw [if_neg h1, if_neg h2, if_neg h2, if_neg h1]
