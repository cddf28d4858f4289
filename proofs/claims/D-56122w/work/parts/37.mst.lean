/-! PURE: the model's cells -/
set_option maxRecDepth 20000
def mFs (B : Nat → Nat) (I : Nat → Int32) : List Value := [va_rf (some (B 0)), va_rf (some (B 1)), va_rf (some (B 2)), va_rf (some (B 3)), va_rf (some (B 4)), .int (I 5), .int (I 6), .int (I 7), .int (I 8), va_rf (some (B 9)), va_rf (some (B 10)), .int (I 11), va_rf (some (B 12)), .int (I 13), .int (I 14), .int (I 15), .int (I 16), .int (I 17), .int (I 18), va_rf (some (B 19))]
def mLn (a : Nat) : Nat := match a with
  | 0 => 91
  | 1 => 91
  | 2 => 91
  | 3 => 91
  | 4 => 728
  | 9 => 60
  | 10 => 60
  | 12 => 240
  | 19 => 150
  | _ => 0
def mAr : List Nat := [0, 1, 2, 3, 4, 9, 10, 12, 19]
def mIn : List Nat := [5, 6, 7, 8, 11, 13, 14, 15, 16, 17, 18]
/-- the model's object at m, its arrays at B, its numbers I, its rows V; since G0 nothing else has changed -/
def mSt (G0 : gS) (m : Nat) (B : Nat → Nat) (G : gS) (I : Nat → Int32) (V : Nat → Nat → Int32) : Prop :=
  G.1 m = some (gO true 0 (mFs B I)) ∧ (∀ a ∈ mAr, G.1 (B a) = some (gAi true (mLn a) (V a))) ∧ (∀ a ∈ mAr, ∀ b ∈ mAr, B a = B b → a = b) ∧ (∀ a ∈ mAr, ∀ j, mLn a ≤ j → V a j = 0) ∧ (∀ b, b ≠ m → (∀ a ∈ mAr, b ≠ B a) → G.1 b = G0.1 b) ∧ G.2 = G0.2
def mar (V : Nat → Nat → Int32) (a : Nat) (g : Nat → Int32) : Nat → Nat → Int32 := fun b => if b = a then g else V b
section MAR
variable {V : Nat → Nat → Int32} {a b : Nat} {g g' : Nat → Int32}
theorem mar_self : mar V a g a = g := by simp [mar]
theorem mar_ne (h : b ≠ a) : mar V a g b = V b := by simp [mar, h]
theorem mar_mar : mar (mar V a g) a g' = mar V a g' := by funext b; simp only [mar]; split <;> rfl
theorem mar_eq (h : V a = g) : mar V a g = V := by
  funext b; simp only [mar]; split
  · rename_i e; rw [e, h]
  · rfl
theorem mar_comm (h : a ≠ b) : mar (mar V a g) b g' = mar (mar V b g') a g := by
  funext c; simp only [mar]
  by_cases h1 : c = b
  · subst h1; rw [if_pos rfl, if_neg (Ne.symm h), if_pos rfl]
  · by_cases h2 : c = a
    · subst h2; rw [if_neg h1, if_pos rfl, if_pos rfl]
    · rw [if_neg h1, if_neg h2, if_neg h2, if_neg h1]
end MAR
theorem mFs_set {B : Nat → Nat} {I : Nat → Int32} {k : Nat} (hk : k ∈ mIn) (v : Int32) : (mFs B I).set k (.int v) = mFs B (upd I k v) := by
  simp only [mIn, List.mem_cons, List.not_mem_nil, or_false] at hk
  rcases hk with rfl | rfl | rfl | rfl | rfl | rfl | rfl | rfl | rfl | rfl | rfl <;> rfl
theorem mFs_int {B : Nat → Nat} {I : Nat → Int32} {k : Nat} (hk : k ∈ mIn) : (mFs B I)[k]? = some (.int (I k)) := by
  simp only [mIn, List.mem_cons, List.not_mem_nil, or_false] at hk
  rcases hk with rfl | rfl | rfl | rfl | rfl | rfl | rfl | rfl | rfl | rfl | rfl <;> rfl
theorem mFs_ref {B : Nat → Nat} {I : Nat → Int32} {a : Nat} (ha : a ∈ mAr) : (mFs B I)[a]? = some (va_rf (some (B a))) := by
  simp only [mAr, List.mem_cons, List.not_mem_nil, or_false] at ha
  rcases ha with rfl | rfl | rfl | rfl | rfl | rfl | rfl | rfl | rfl <;> rfl
theorem mLn_lt {a : Nat} (ha : a ∈ mAr) : mLn a < 1000 := by
  simp only [mAr, List.mem_cons, List.not_mem_nil, or_false] at ha
  rcases ha with rfl | rfl | rfl | rfl | rfl | rfl | rfl | rfl | rfl <;> decide
section MST
variable {G0 G : gS} {m : Nat} {B : Nat → Nat} {I : Nat → Int32} {V : Nat → Nat → Int32}
theorem mSt.is (h : mSt G0 m B G I V) : gIs G m 0 := gIs_of h.1
theorem mSt.ne (h : mSt G0 m B G I V) {a : Nat} (ha : a ∈ mAr) : B a ≠ m := fun e => by
  have h1 := h.1
  have h2 := h.2.1 a ha
  rw [e, h1] at h2
  cases h2
theorem mQ (h : mSt G0 m B G I V) {a : Nat} (ha : a ∈ mAr) {K : Option Nat → Prop} (k : K (some (B a))) : wGetQ G m 0 a K := wGetQ_of h.1 (mFs_ref ha) k
theorem mI (h : mSt G0 m B G I V) {a : Nat} (ha : a ∈ mIn) {K : Int32 → Prop} (k : K (I a)) : wGetI G m 0 a K := wGetI_of h.1 (mFs_int ha) k
theorem mPut (h : mSt G0 m B G I V) {a : Nat} (ha : a ∈ mIn) {v : Int32} {K : gS → Prop} (k : ∀ G', mSt G0 m B G' (upd I a v) V → K G') : wPut G m 0 a (.int v) K := by
  refine wPut_of h.1 ?_ (k _ ?_)
  · simp only [mIn, List.mem_cons, List.not_mem_nil, or_false] at ha
    rcases ha with rfl | rfl | rfl | rfl | rfl | rfl | rfl | rfl | rfl | rfl | rfl <;> exact ltb rfl
  · obtain ⟨h1, h2, h3, h4, h5, h6⟩ := h
    refine ⟨?_, fun a' ha' => ?_, h3, h4, fun b hb hb2 => ?_, h6⟩
    · rw [gSet_self, mFs_set ha]
    · rw [gSet_ne]
      · exact h2 a' ha'
      · intro e; have := h2 a' ha'; rw [e, h1] at this; cases this
    · rw [gSet_ne hb]; exact h5 b hb hb2
theorem mLd (h : mSt G0 m B G I V) {a : Nat} (ha : a ∈ mAr) {i : Int32} {j : Nat} (hi : i = nI j) (hj : j < mLn a) {K : Int32 → Prop} (k : K (V a j)) : wAldI G (B a) i K := by
  have hl := mLn_lt ha
  refine wAldI_of (h.2.1 a ha) (by rw [hi]; exact vp_in_nI hj (by omega)) ?_
  rw [hi, nI_clamp (by omega)]
  exact k
theorem mSa (h : mSt G0 m B G I V) {a : Nat} (ha : a ∈ mAr) {i v : Int32} {j : Nat} (hi : i = nI j) (hj : j < mLn a) {K : gS → Prop} (k : ∀ G', mSt G0 m B G' I (mar V a (upd (V a) j v)) → K G') : wAstI G (B a) i v K := by
  have hl := mLn_lt ha
  refine wAstI_of (h.2.1 a ha) (by rw [hi]; exact vp_in_nI hj (by omega)) ?_
  rw [hi, nI_clamp (by omega)]
  refine k _ ?_
  have hne := h.ne ha
  obtain ⟨h1, h2, h3, h4, h5, h6⟩ := h
  refine ⟨?_, fun a' ha' => ?_, h3, fun a' ha' j' hj' => ?_, fun b hb hb2 => ?_, h6⟩
  · rw [gSet_ne (Ne.symm hne)]; exact h1
  · by_cases e : a' = a
    · subst e; rw [gSet_self, mar_self]
    · rw [gSet_ne (fun q => e (h3 a' ha' a ha q)), mar_ne e]; exact h2 a' ha'
  · by_cases e : a' = a
    · subst e; rw [mar_self, upd_ne (by omega)]; exact h4 _ ha' _ hj'
    · rw [mar_ne e]; exact h4 _ ha' _ hj'
  · rw [gSet_ne (hb2 a ha)]; exact h5 b hb hb2
/-- a field, its array, a place: read, written -/
theorem mRd (h : mSt G0 m B G I V) {a : Nat} (ha : a ∈ mAr) {i : Int32} {j : Nat} (hi : i = nI j) (hj : j < mLn a) {K : Int32 → Prop} (k : K (V a j)) : wGetQ G m 0 a fun q => wNN q fun c => wAldI G c i K := mQ h ha (wNN_of (mLd h ha hi hj k))
theorem mWr (h : mSt G0 m B G I V) {a : Nat} (ha : a ∈ mAr) {i v : Int32} {j : Nat} (hi : i = nI j) (hj : j < mLn a) {K : gS → Prop} (k : ∀ G', mSt G0 m B G' I (mar V a (upd (V a) j v)) → K G') : wGetQ G m 0 a fun q => wNN q fun c => wAstI G c i v K := mQ h ha (wNN_of (mSa h ha hi hj k))
end MST
theorem m0 : 0 ∈ mAr := by decide
theorem m1 : 1 ∈ mAr := by decide
theorem m2 : 2 ∈ mAr := by decide
theorem m3 : 3 ∈ mAr := by decide
theorem m4 : 4 ∈ mAr := by decide
theorem m9 : 9 ∈ mAr := by decide
theorem m10 : 10 ∈ mAr := by decide
theorem m12 : 12 ∈ mAr := by decide
theorem m19 : 19 ∈ mAr := by decide
/-- indices told as natural numbers -/
theorem ixc {k j : Nat} {x : Int32} (h : x = nI j) : ((51 : Int32) + (5 : Int32) * nI k) + x = nI (51 + 5 * k + j) := by
  rw [h, show (51 : Int32) = nI 51 from rfl, show (5 : Int32) = nI 5 from rfl, nI_mul, nI_add, nI_add]
theorem ixg {k j : Nat} {x : Int32} (h : x = nI j) : ((26 : Int32) + (5 : Int32) * nI k) + x = nI (26 + 5 * k + j) := by
  rw [h, show (26 : Int32) = nI 26 from rfl, show (5 : Int32) = nI 5 from rfl, nI_mul, nI_add, nI_add]
theorem ixb {k j : Nat} {x : Int32} (h : x = nI j) : ((18 : Int32) + (2 : Int32) * nI k) + x = nI (18 + 2 * k + j) := by
  rw [h, show (18 : Int32) = nI 18 from rfl, show (2 : Int32) = nI 2 from rfl, nI_mul, nI_add, nI_add]
theorem ixa {k j : Nat} {x y : Int32} (hx : x = nI k) (hy : y = nI j) : x + y = nI (k + j) := by
  rw [hx, hy, nI_add]
