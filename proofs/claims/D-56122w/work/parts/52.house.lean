/-! PURE: a household read and written -/
set_option maxRecDepth 20000
/-- a household being changed: it has come since G0, and nothing older has changed; so much room is used up -/
def HC (ad : Nat → Nat) (G0 : gS) (u : Nat) (G : gS) (h : Nat) (A : hA) (f : Nat → Int32) : Prop :=
  hRep ad G h A f ∧ (∀ b, hOwn h A f b → G0.1 b = none) ∧ gTo (fun _ => False) u (10 * u) G0 G
theorem hW.eq {f f' : pF} (h : hW f) (h8 : f' 8 = f 8) (h9 : f' 9 = f 9) (h11 : f' 11 = f 11) : hW f' ∧ nB f' = nB f ∧ nG f' = nG f ∧ nC f' = nC f := by
  have b8 : nB f' = nB f := by rw [nB, pN, h8]; rfl
  have b9 : nG f' = nG f := by rw [nG, pN, h9]; rfl
  have b11 : nC f' = nC f := by rw [nC, pN, h11]; rfl
  exact ⟨⟨by rw [h8, b8]; exact h.1, by rw [h9, b9]; exact h.2.1, by rw [h11, b11]; exact h.2.2⟩, b8, b9, b11⟩
section HR
variable {ad : Nat → Nat} {G0 G : gS} {u h : Nat} {A : hA} {f : Nat → Int32} {X : Nat → gS → Prop}
theorem hRep.is (hr : hRep ad G h A f) : gIs G h 2 := gIs_of hr.1
theorem hRep.w (hr : hRep ad G h A f) : hW f := hr.2.2.1
/-- an int field -/
def hMap (k : Nat) : Nat := match k with
  | 4 => 10
  | 5 => 1
  | 6 => 0
  | 7 => 2
  | 8 => 3
  | 9 => 4
  | 10 => 5
  | 11 => 6
  | _ => 7
def hIn : List Nat := [4, 5, 6, 7, 8, 9, 10, 11, 12]
theorem hFs_int {k : Nat} (hk : k ∈ hIn) : (hFs A f)[k]? = some (.int (f (hMap k))) := by
  simp only [hIn, List.mem_cons, List.not_mem_nil, or_false] at hk
  rcases hk with rfl | rfl | rfl | rfl | rfl | rfl | rfl | rfl | rfl <;> rfl
theorem hFs_set {k : Nat} (hk : k ∈ hIn) (v : Int32) : (hFs A f).set k (.int v) = hFs A (upd f (hMap k) v) := by
  simp only [hIn, List.mem_cons, List.not_mem_nil, or_false] at hk
  rcases hk with rfl | rfl | rfl | rfl | rfl | rfl | rfl | rfl | rfl <;> rfl
theorem hGetI (hr : hRep ad G h A f) {k : Nat} (hk : k ∈ hIn) {K : Int32 → Prop} (q : K (f (hMap k))) : wGetI G h 2 k K := wGetI_of hr.1 (hFs_int hk) q
theorem hGetB (hr : hRep ad G h A f) {K : Option Nat → Prop} (q : K (some (hLb A))) : wGetQ G h 2 1 K := wGetQ_of hr.1 (x := some (hLb A)) rfl q
theorem hGetG (hr : hRep ad G h A f) {K : Option Nat → Prop} (q : K (some (hLg A))) : wGetQ G h 2 2 K := wGetQ_of hr.1 (x := some (hLg A)) rfl q
theorem hGetC (hr : hRep ad G h A f) {K : Option Nat → Prop} (q : K (some (hLc A))) : wGetQ G h 2 3 K := wGetQ_of hr.1 (x := some (hLc A)) rfl q
theorem hGetD (hr : hRep ad G h A f) {K : Option Nat → Prop} (q : K (some (hD A))) : wGetQ G h 2 0 K := wGetQ_of hr.1 (x := some (hD A)) rfl q
/-- sizes -/
theorem hSizeB (hr : hRep ad G h A f) {K : Int32 → gS → Prop} (q : K (nI (nB f)) G) : wGetQ G h 2 1 fun q1 => wNN q1 fun c => (gIs G c 3 ∧ wp_J2_size ad G c X K) := hGetB hr (wNN_of (hr.2.2.2.1.1.size q))
theorem hSizeG (hr : hRep ad G h A f) {K : Int32 → gS → Prop} (q : K (nI (nG f)) G) : wGetQ G h 2 2 fun q1 => wNN q1 fun c => (gIs G c 3 ∧ wp_J2_size ad G c X K) := hGetG hr (wNN_of (hr.2.2.2.1.2.1.size q))
theorem hSizeC (hr : hRep ad G h A f) {K : Int32 → gS → Prop} (q : K (nI (nC f)) G) : wGetQ G h 2 3 fun q1 => wNN q1 fun c => (gIs G c 3 ∧ wp_J2_size ad G c X K) := hGetC hr (wNN_of (hr.2.2.2.1.2.2.size q))
/-- elements -/
theorem hElB (hr : hRep ad G h A f) {i : Int32} {k : Nat} (hi : i = nI k) (hk : k < nB f) {K : Option Nat → gS → Prop} (q : K (some (hBa A k)) G) : wGetQ G h 2 1 fun q1 => wNN q1 fun c => (gIs G c 3 ∧ wp_J2_get ad G c i X (fun q8 G7 => wCast G7 q8 [8] (K q8 G7))) :=
  hGetB hr (wNN_of (hr.2.2.2.1.1.get hi hk (wCast_of (gIs_of (hr.2.2.2.2.1 k hk).1) (by decide) q)))
theorem hElG (hr : hRep ad G h A f) {i : Int32} {k : Nat} (hi : i = nI k) (hk : k < nG f) {K : Option Nat → gS → Prop} (q : K (some (hGa A k)) G) : wGetQ G h 2 2 fun q1 => wNN q1 fun c => (gIs G c 3 ∧ wp_J2_get ad G c i X (fun q8 G7 => wCast G7 q8 [9] (K q8 G7))) :=
  hGetG hr (wNN_of (hr.2.2.2.1.2.1.get hi hk (wCast_of (gIs_of (hr.2.2.2.2.2.1 k hk).1) (by decide) q)))
theorem hElC (hr : hRep ad G h A f) {i : Int32} {k : Nat} (hi : i = nI k) (hk : k < nC f) {K : Option Nat → gS → Prop} (q : K (some (hCa A k)) G) : wGetQ G h 2 3 fun q1 => wNN q1 fun c => (gIs G c 3 ∧ wp_J2_get ad G c i X (fun q8 G7 => wCast G7 q8 [10] (K q8 G7))) :=
  hGetC hr (wNN_of (hr.2.2.2.1.2.2.get hi hk (wCast_of (gIs_of (hr.2.2.2.2.2.2.1 k hk)) (by decide) q)))
/-- fields of the elements -/
theorem cI (hr : hRep ad G h A f) {k j : Nat} (hk : k < nC f) {x : Int32} (hj : (hCf f k)[j]? = some (.int x)) {K : Int32 → Prop} (q : K x) : wGetI G (hCa A k) 10 j K := wGetI_of (hr.2.2.2.2.2.2.1 k hk) hj q
theorem gI (hr : hRep ad G h A f) {k j : Nat} (hk : k < nG f) {x : Int32} (hj : (hGf f k)[j]? = some (.int x)) {K : Int32 → Prop} (q : K x) : wGetI G (hGa A k) 9 j K := wGetI_of (hr.2.2.2.2.2.1 k hk).1 hj q
theorem gIsG (hr : hRep ad G h A f) {k : Nat} (hk : k < nG f) : gIs G (hGa A k) 9 := gIs_of (hr.2.2.2.2.2.1 k hk).1
theorem gIsC (hr : hRep ad G h A f) {k : Nat} (hk : k < nC f) : gIs G (hCa A k) 10 := gIs_of (hr.2.2.2.2.2.2.1 k hk)
theorem gIsB (hr : hRep ad G h A f) {k : Nat} (hk : k < nB f) : gIs G (hBa A k) 8 := gIs_of (hr.2.2.2.2.1 k hk).1
theorem dLd (hr : hRep ad G h A f) {i : Int32} {j : Nat} (hi : i = nI j) (hj : j < 6) {K : Int32 → Prop} (q : K (f (12 + j))) : wAldI G (hD A) i K := by
  obtain ⟨g, h1, h2⟩ := hr.2.1
  refine wAldI_of h1 (by rw [hi]; exact vp_in_nI hj (by omega)) ?_
  rw [hi, nI_clamp (by omega), h2 j hj]
  exact q
/-- what a change of one own cell leaves -/
theorem HC.s1 (hc : HC ad G0 u G h A f) {a : Nat} {c : gC} {G' : gS} {f' : Nat → Int32} (ho : hOwn h A f a) (s : sC G a c G') (hr : hRep ad G' h A f') (hn : nB f' = nB f ∧ nG f' = nG f) : HC ad G0 u G' h A f' := by
  obtain ⟨h1, h2, h3⟩ := hc
  have ha := h2 a ho
  refine ⟨hr, fun b hb => h2 b ?_, ⟨fun b d hb _ => ?_, fun b hb => ?_, by rw [s.2.2]; exact h3.2.2.1, by rw [s.2.2]; exact h3.2.2.2⟩⟩
  · rw [hOwn, hn.1, hn.2] at hb; exact hb
  · rw [s.2.1 b (fun e => by rw [e, ha] at hb; cases hb)]; exact h3.1 b d hb (fun z => z)
  · by_cases e : b = a
    · rw [e, s.1]; intro q; cases q
    · rw [s.2.1 b e]; exact h3.2.1 b hb
theorem HC.mono (hc : HC ad G0 u G h A f) {v : Nat} (hv : u ≤ v) : HC ad G0 v G h A f := ⟨hc.1, hc.2.1, hc.2.2.mono (fun b q => Or.inr q) hv (by omega)⟩
/-- the household's numbers -/
theorem hRep.fld (hr : hRep ad G h A f) {f' : Nat → Int32} {G' : gS} (s : sC G h (gO true 2 (hFs A f')) G') (hf : ∀ j, 8 ≤ j → j ≠ 10 → f' j = f j) : hRep ad G' h A f' := by
  obtain ⟨h1, ⟨g, h2, h2'⟩, h3, ⟨h4, h5, h6⟩, h7, h8, h9, h10⟩ := hr
  obtain ⟨w', e8, e9, e11⟩ := h3.eq (hf 8 (by omega) (by omega)) (hf 9 (by omega) (by omega)) (hf 11 (by omega) (by omega))
  have ne : ∀ {b c}, G.1 b = some c → (∀ fs, c ≠ gO true 2 fs) → G'.1 b = some c := fun hb hc => by
    rw [s.2.1 _ (fun z => by rw [z, h1] at hb; cases hb; exact hc _ rfl)]; exact hb
  have el : ∀ {l e n K : Nat} {a : Nat → Nat}, EL ad G l e n K a → EL ad G' l e n K a := fun hh => by
    obtain ⟨⟨fs, e1⟩, wa, n, ff, e2⟩ := hh.cells
    exact hh.to (by rw [e1]; exact ne e1 (fun fs z => by cases z)) (by rw [e2]; exact ne e2 (fun fs z => by cases z))
  rw [hRep, e8, e9, e11]
  refine ⟨s.1, ⟨g, ne h2 (fun fs z => by cases z), fun j hj => by rw [hf _ (by omega) (by omega)]; exact h2' j hj⟩, w', ⟨el h4, el h5, el h6⟩, fun k hk => ?_, fun k hk => ?_, fun k hk => ?_, h10⟩
  · have e : hBf ad f' k = hBf ad f k := by rw [hBf, hBf, hf _ (by omega) (by omega), hf (19 + 2 * k) (by omega) (by omega)]
    rw [e, hf _ (by omega) (by omega)]
    exact ⟨ne (h7 k hk).1 (fun fs z => by cases z), (h7 k hk).2⟩
  · have e : hGf f' k = hGf f k := by rw [hGf, hGf, hf _ (by omega) (by omega), hf (28 + 5 * k) (by omega) (by omega), hf (26 + 5 * k) (by omega) (by omega), hf (30 + 5 * k) (by omega) (by omega), hf (29 + 5 * k) (by omega) (by omega)]
    rw [e, hf _ (by omega) (by omega)]
    exact ⟨ne (h8 k hk).1 (fun fs z => by cases z), (h8 k hk).2⟩
  · have e : hCf f' k = hCf f k := by rw [hCf, hCf, hf _ (by omega) (by omega), hf (52 + 5 * k) (by omega) (by omega), hf (53 + 5 * k) (by omega) (by omega), hf (54 + 5 * k) (by omega) (by omega), hf (55 + 5 * k) (by omega) (by omega)]
    rw [e]
    exact ne (h9 k hk) (fun fs z => by cases z)
theorem hMap_lt {k : Nat} (hk : k ∈ hIn) : hMap k < 8 ∨ hMap k = 10 := by
  simp only [hIn, List.mem_cons, List.not_mem_nil, or_false] at hk
  rcases hk with rfl | rfl | rfl | rfl | rfl | rfl | rfl | rfl | rfl <;> decide
/-- objects of other classes stay -/
def kp (G G' : gS) : Prop := ∀ b w ci fs, 10 ≤ ci → G.1 b = some (gO w ci fs) → G'.1 b = some (gO w ci fs)
theorem kp.trans {G G' G'' : gS} (h : kp G G') (h' : kp G' G'') : kp G G'' := fun b w ci fs hc hb => h' b w ci fs hc (h b w ci fs hc hb)
theorem sC.kp {a : Nat} {c c0 : gC} {G' : gS} (s : sC G a c G') (h0 : G.1 a = some c0) (hn : ∀ w ci fs, 10 ≤ ci → c0 ≠ gO w ci fs) : kp G G' := fun b w ci fs hc hb => by
  rw [s.2.1 b (fun e => by rw [e, h0] at hb; cases hb; exact hn _ _ _ hc rfl)]; exact hb
theorem nC'.kp {a n : Nat} {c : gC} {G' : gS} (s : nC' G a c n G') : kp G G' := fun b w ci fs hc hb => s.old hb
theorem hPutK (hc : HC ad G0 u G h A f) {k : Nat} (hk : k ∈ hIn) {v : Int32} {K : gS → Prop} (q : ∀ G', kp G G' → HC ad G0 u G' h A (upd f (hMap k) v) → K G') : wPut G h 2 k (.int v) K := by
  have hm := hMap_lt hk
  refine wPut_sC hc.1.1 ?_ (hFs_set hk v) fun G' s => q G' (s.kp hc.1.1 fun w ci fs h10 e => by cases e; omega) (hc.s1 (Or.inl rfl) s (hc.1.fld s fun j h8 h10 => ?_) ⟨nB_upd (by omega), nG_upd (by omega)⟩)
  · simp only [hIn, List.mem_cons, List.not_mem_nil, or_false] at hk
    rcases hk with rfl | rfl | rfl | rfl | rfl | rfl | rfl | rfl | rfl <;> exact ltb rfl
  · rw [upd_ne (by omega)]
theorem hPut (hc : HC ad G0 u G h A f) {k : Nat} (hk : k ∈ hIn) {v : Int32} {K : gS → Prop} (q : ∀ G', HC ad G0 u G' h A (upd f (hMap k) v) → K G') : wPut G h 2 k (.int v) K := hPutK hc hk fun G' _ h' => q G' h'
/-- dust -/
theorem hPutD (hc : HC ad G0 u G h A f) {i v : Int32} {j : Nat} (hi : i = nI j) (hj : j < 6) {K : gS → Prop} (q : ∀ G', HC ad G0 u G' h A (upd f (12 + j) v) → K G') : wAstI G (hD A) i v K := by
  have hr := hc.1
  obtain ⟨h1, ⟨g, h2, h2'⟩, h3, ⟨h4, h5, h6⟩, h7, h8, h9, h10⟩ := hr
  refine wAstI_of h2 (by rw [hi]; exact vp_in_nI hj (by omega)) ?_
  rw [hi, nI_clamp (by omega)]
  have s : sC G (hD A) (gAi true 6 (upd g j v)) (gSet G (hD A) (gAi true 6 (upd g j v))) := sC_set
  generalize gSet G (hD A) (gAi true 6 (upd g j v)) = G' at *
  have e8 : nB (upd f (12 + j) v) = nB f := nB_upd (by omega)
  have e9 : nG (upd f (12 + j) v) = nG f := nG_upd (by omega)
  have e11 : nC (upd f (12 + j) v) = nC f := nC_upd (by omega)
  refine q G' (hc.s1 (Or.inr (Or.inl rfl)) s ?_ ⟨e8, e9⟩)
  have ne : ∀ {b c}, G.1 b = some c → (∀ w n ff, c ≠ gAi w n ff) → G'.1 b = some c := fun hb hc => by
    rw [s.2.1 _ (fun z => by rw [z, h2] at hb; cases hb; exact hc _ _ _ rfl)]; exact hb
  have el : ∀ {l e n K : Nat} {a : Nat → Nat}, EL ad G l e n K a → EL ad G' l e n K a := fun hh => by
    obtain ⟨⟨fs, e1⟩, wa, n, ff, e2⟩ := hh.cells
    exact hh.to (by rw [e1]; exact ne e1 (fun _ _ _ z => by cases z)) (by rw [e2]; exact ne e2 (fun _ _ _ z => by cases z))
  have hu : ∀ i, i < 12 ∨ 18 ≤ i → upd f (12 + j) v i = f i := fun i hi => upd_ne (by omega)
  rw [hRep, e8, e9, e11]
  refine ⟨?_, ⟨_, s.1, fun i hi => ?_⟩, h3.pu (by omega) (by omega) (by omega), ⟨el h4, el h5, el h6⟩, fun k hk => ?_, fun k hk => ?_, fun k hk => ?_, h10⟩
  · have e : hFs A (upd f (12 + j) v) = hFs A f := by
      simp only [hFs]
      rw [hu 10 (by omega), hu 1 (by omega), hu 0 (by omega), hu 2 (by omega), hu 3 (by omega), hu 4 (by omega), hu 5 (by omega), hu 6 (by omega), hu 7 (by omega)]
    rw [e]
    exact ne h1 (fun _ _ _ z => by cases z)
  · simp only [upd]
    by_cases ei : i = j
    · rw [if_pos ei, if_pos (by omega)]
    · rw [if_neg ei, if_neg (by omega)]; exact h2' i hi
  · have e : hBf ad (upd f (12 + j) v) k = hBf ad f k := by rw [hBf, hBf, hu _ (by omega), hu (19 + 2 * k) (by omega)]
    rw [e, hu _ (by omega)]
    exact ⟨ne (h7 k hk).1 (fun _ _ _ z => by cases z), (h7 k hk).2⟩
  · have e : hGf (upd f (12 + j) v) k = hGf f k := by rw [hGf, hGf, hu _ (by omega), hu (28 + 5 * k) (by omega), hu (26 + 5 * k) (by omega), hu (30 + 5 * k) (by omega), hu (29 + 5 * k) (by omega)]
    rw [e, hu _ (by omega)]
    exact ⟨ne (h8 k hk).1 (fun _ _ _ z => by cases z), (h8 k hk).2⟩
  · have e : hCf (upd f (12 + j) v) k = hCf f k := by rw [hCf, hCf, hu _ (by omega), hu (52 + 5 * k) (by omega), hu (53 + 5 * k) (by omega), hu (54 + 5 * k) (by omega), hu (55 + 5 * k) (by omega)]
    rw [e]
    exact ne (h9 k hk) (fun _ _ _ z => by cases z)
/-- a goblin's number: field j is number i of the goblin -/
theorem hPutG (hc : HC ad G0 u G h A f) {n j i : Nat} (hn : n < nG f) (hji : (j = 1 ∧ i = 1) ∨ (j = 2 ∧ i = 2) ∨ (j = 4 ∧ i = 4) ∨ (j = 5 ∧ i = 3)) {v : Int32} (hv : i = 4 → v = 0 ∨ v = 1) {K : gS → Prop} (q : ∀ G', HC ad G0 u G' h A (upd f (26 + i + 5 * n) v) → K G') : wPut G (hGa A n) 9 j (.int v) K := by
  have hr := hc.1
  obtain ⟨h1, ⟨g, h2, h2'⟩, h3, ⟨h4, h5, h6⟩, h7, h8, h9, h10⟩ := hr
  have h55 := h3.2.1.2
  have hset : (hGf f n).set j (.int v) = hGf (upd f (26 + i + 5 * n) v) n := by
    simp only [hGf]
    rcases hji with ⟨rfl, rfl⟩ | ⟨rfl, rfl⟩ | ⟨rfl, rfl⟩ | ⟨rfl, rfl⟩
    · rw [show 26 + 1 + 5 * n = 27 + 5 * n by omega, upd_self, upd_ne (by omega), upd_ne (by omega), upd_ne (by omega), upd_ne (by omega)]; rfl
    · rw [show 26 + 2 + 5 * n = 28 + 5 * n by omega, upd_self, upd_ne (by omega), upd_ne (by omega), upd_ne (by omega), upd_ne (by omega)]; rfl
    · rw [show 26 + 4 + 5 * n = 30 + 5 * n by omega, upd_self, upd_ne (by omega), upd_ne (by omega), upd_ne (by omega), upd_ne (by omega)]; rfl
    · rw [show 26 + 3 + 5 * n = 29 + 5 * n by omega, upd_self, upd_ne (by omega), upd_ne (by omega), upd_ne (by omega), upd_ne (by omega)]; rfl
  refine wPut_sC (h8 n hn).1 ?_ hset fun G' s => ?_
  · rcases hji with ⟨rfl, rfl⟩ | ⟨rfl, rfl⟩ | ⟨rfl, rfl⟩ | ⟨rfl, rfl⟩ <;> exact ltb rfl
  have e8 : nB (upd f (26 + i + 5 * n) v) = nB f := nB_upd (by omega)
  have e9 : nG (upd f (26 + i + 5 * n) v) = nG f := nG_upd (by omega)
  have e11 : nC (upd f (26 + i + 5 * n) v) = nC f := nC_upd (by omega)
  refine q G' (hc.s1 (Or.inr (Or.inr (Or.inr (Or.inr (Or.inr ⟨n, hn, rfl⟩))))) s ?_ ⟨e8, e9⟩)
  have ne : ∀ {b c}, G.1 b = some c → (∀ w fs, c ≠ gO w 9 fs) → G'.1 b = some c := fun hb hc => by
    rw [s.2.1 _ (fun z => by rw [z, (h8 n hn).1] at hb; cases hb; exact hc _ _ rfl)]; exact hb
  have el : ∀ {l e n K : Nat} {a : Nat → Nat}, EL ad G l e n K a → EL ad G' l e n K a := fun hh => by
    obtain ⟨⟨fs, e1⟩, wa, n, ff, e2⟩ := hh.cells
    exact hh.to (by rw [e1]; exact ne e1 (fun _ _ z => by cases z)) (by rw [e2]; exact ne e2 (fun _ _ z => by cases z))
  have hu : ∀ i', i' ≠ 26 + i + 5 * n → upd f (26 + i + 5 * n) v i' = f i' := fun i' hi' => upd_ne hi'
  have hi4 : 1 ≤ i ∧ i ≤ 4 := by omega
  rw [hRep, e8, e9, e11]
  refine ⟨?_, ⟨g, ne h2 (fun _ _ z => by cases z), fun j hj => by rw [hu _ (by omega)]; exact h2' j hj⟩, h3.pu (by omega) (by omega) (by omega), ⟨el h4, el h5, el h6⟩, fun k hk => ?_, fun k hk => ?_, fun k hk => ?_, h10⟩
  · have e : hFs A (upd f (26 + i + 5 * n) v) = hFs A f := by
      simp only [hFs]
      rw [hu 10 (by omega), hu 1 (by omega), hu 0 (by omega), hu 2 (by omega), hu 3 (by omega), hu 4 (by omega), hu 5 (by omega), hu 6 (by omega), hu 7 (by omega)]
    rw [e]
    exact ne h1 (fun _ _ z => by cases z)
  · have hb4 := h3.1.2
    have e : hBf ad (upd f (26 + i + 5 * n) v) k = hBf ad f k := by rw [hBf, hBf, hu _ (by omega), hu (19 + 2 * k) (by omega)]
    rw [e, hu _ (by omega)]
    exact ⟨ne (h7 k hk).1 (fun _ _ z => by cases z), (h7 k hk).2⟩
  · by_cases ek : k = n
    · subst ek
      refine ⟨s.1, ?_⟩
      by_cases e4 : i = 4
      · rw [show 30 + 5 * k = 26 + i + 5 * k by omega, upd_self]; exact hv e4
      · rw [hu _ (by omega)]; exact (h8 k hk).2
    · have e : hGf (upd f (26 + i + 5 * n) v) k = hGf f k := by rw [hGf, hGf, hu _ (by omega), hu (28 + 5 * k) (by omega), hu (26 + 5 * k) (by omega), hu (30 + 5 * k) (by omega), hu (29 + 5 * k) (by omega)]
      rw [e, hu _ (by omega), s.2.1 _ (fun z => ek (h5.2.2 k n hk hn z))]
      exact h8 k hk
  · have hc8 := h3.2.2.2
    have e : hCf (upd f (26 + i + 5 * n) v) k = hCf f k := by rw [hCf, hCf, hu _ (by omega), hu (52 + 5 * k) (by omega), hu (53 + 5 * k) (by omega), hu (54 + 5 * k) (by omega), hu (55 + 5 * k) (by omega)]
    rw [e]
    exact ne (h9 k hk) (fun _ _ z => by cases z)
/-- a broom's standing -/
theorem hPutB (hc : HC ad G0 u G h A f) (had : ad 0 ≠ ad 1) {n : Nat} (hn : n < nB f) {x : Int32} (hx : x = 0 ∨ x = 1) {K : gS → Prop} (q : ∀ G', HC ad G0 u G' h A (upd f (19 + 2 * n) x) → K G') : wPut G (hBa A n) 8 1 (va_rf (some (if x = 1 then ad 1 else ad 0))) K := by
  have hr := hc.1
  obtain ⟨h1, ⟨g, h2, h2'⟩, h3, ⟨h4, h5, h6⟩, h7, h8, h9, h10⟩ := hr
  have hb4 := h3.1.2
  have hset : (hBf ad f n).set 1 (va_rf (some (if x = 1 then ad 1 else ad 0))) = hBf ad (upd f (19 + 2 * n) x) n := by
    simp only [hBf]
    rw [upd_self, upd_ne (by omega)]; rfl
  refine wPut_sC (h7 n hn).1 (ltb rfl) hset fun G' s => ?_
  have e8 : nB (upd f (19 + 2 * n) x) = nB f := nB_upd (by omega)
  have e9 : nG (upd f (19 + 2 * n) x) = nG f := nG_upd (by omega)
  have e11 : nC (upd f (19 + 2 * n) x) = nC f := nC_upd (by omega)
  refine q G' (hc.s1 (Or.inr (Or.inr (Or.inr (Or.inr (Or.inl ⟨n, hn, rfl⟩))))) s ?_ ⟨e8, e9⟩)
  have ne : ∀ {b c}, G.1 b = some c → (∀ w fs, c ≠ gO w 8 fs) → G'.1 b = some c := fun hb hc => by
    rw [s.2.1 _ (fun z => by rw [z, (h7 n hn).1] at hb; cases hb; exact hc _ _ rfl)]; exact hb
  have el : ∀ {l e n K : Nat} {a : Nat → Nat}, EL ad G l e n K a → EL ad G' l e n K a := fun hh => by
    obtain ⟨⟨fs, e1⟩, wa, n, ff, e2⟩ := hh.cells
    exact hh.to (by rw [e1]; exact ne e1 (fun _ _ z => by cases z)) (by rw [e2]; exact ne e2 (fun _ _ z => by cases z))
  have hu : ∀ i', i' ≠ 19 + 2 * n → upd f (19 + 2 * n) x i' = f i' := fun i' hi' => upd_ne hi'
  rw [hRep, e8, e9, e11]
  refine ⟨?_, ⟨g, ne h2 (fun _ _ z => by cases z), fun j hj => by rw [hu _ (by omega)]; exact h2' j hj⟩, h3.pu (by omega) (by omega) (by omega), ⟨el h4, el h5, el h6⟩, fun k hk => ?_, fun k hk => ?_, fun k hk => ?_, h10⟩
  · have e : hFs A (upd f (19 + 2 * n) x) = hFs A f := by
      simp only [hFs]
      rw [hu 10 (by omega), hu 1 (by omega), hu 0 (by omega), hu 2 (by omega), hu 3 (by omega), hu 4 (by omega), hu 5 (by omega), hu 6 (by omega), hu 7 (by omega)]
    rw [e]
    exact ne h1 (fun _ _ z => by cases z)
  · by_cases ek : k = n
    · subst ek
      rw [upd_self]
      exact ⟨s.1, hx⟩
    · have e : hBf ad (upd f (19 + 2 * n) x) k = hBf ad f k := by rw [hBf, hBf, hu _ (by omega), hu (19 + 2 * k) (by omega)]
      rw [e, hu _ (by omega), s.2.1 _ (fun z => ek (h4.2.2 k n hk hn z))]
      exact h7 k hk
  · have e : hGf (upd f (19 + 2 * n) x) k = hGf f k := by rw [hGf, hGf, hu _ (by omega), hu (28 + 5 * k) (by omega), hu (26 + 5 * k) (by omega), hu (30 + 5 * k) (by omega), hu (29 + 5 * k) (by omega)]
    rw [e, hu _ (by omega)]
    exact ⟨ne (h8 k hk).1 (fun _ _ z => by cases z), (h8 k hk).2⟩
  · have e : hCf (upd f (19 + 2 * n) x) k = hCf f k := by rw [hCf, hCf, hu _ (by omega), hu (52 + 5 * k) (by omega), hu (53 + 5 * k) (by omega), hu (54 + 5 * k) (by omega), hu (55 + 5 * k) (by omega)]
    rw [e]
    exact ne (h9 k hk) (fun _ _ z => by cases z)
end HR
