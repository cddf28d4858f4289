/-! PURE: the model's methods, one by one -/
set_option maxRecDepth 20000
def hW (f : pF) : Prop := (f 8 = nI (nB f) ∧ nB f ≤ 4) ∧ (f 9 = nI (nG f) ∧ nG f ≤ 5) ∧ (f 11 = nI (nC f) ∧ nC f ≤ 8)
theorem hJ.w {f : pF} {c d : Nat} (h : hJ f c d) : hW f := ⟨h.1.1, h.1.2.1, h.1.2.2.1⟩
theorem hW.pu {f : pF} (h : hW f) {j : Nat} {v : Int32} (h8 : j ≠ 8) (h9 : j ≠ 9) (h11 : j ≠ 11) : hW (upd f j v) := by
  have e8 : upd f j v 8 = f 8 := upd_ne (Ne.symm h8)
  have e9 : upd f j v 9 = f 9 := upd_ne (Ne.symm h9)
  have e11 : upd f j v 11 = f 11 := upd_ne (Ne.symm h11)
  have b8 : nB (upd f j v) = nB f := by rw [nB, pN, e8]; rfl
  have b9 : nG (upd f j v) = nG f := by rw [nG, pN, e9]; rfl
  have b11 : nC (upd f j v) = nC f := by rw [nC, pN, e11]; rfl
  exact ⟨⟨by rw [e8, b8]; exact h.1.1, by rw [b8]; exact h.1.2⟩, ⟨by rw [e9, b9]; exact h.2.1.1, by rw [b9]; exact h.2.1.2⟩, ⟨by rw [e11, b11]; exact h.2.2.1, by rw [b11]; exact h.2.2.2⟩⟩
section PU0
variable {f : pF} {w j : Nat}
theorem pN_upd {v : Int32} (h : j ≠ w) : pN (upd f w v) j = pN f j := by rw [pN, upd_ne h]; rfl
theorem nG_upd {v : Int32} (h : w ≠ 9) : nG (upd f w v) = nG f := pN_upd (Ne.symm h)
theorem nB_upd {v : Int32} (h : w ≠ 8) : nB (upd f w v) = nB f := pN_upd (Ne.symm h)
theorem nC_upd {v : Int32} (h : w ≠ 11) : nC (upd f w v) = nC f := pN_upd (Ne.symm h)
end PU0
section PG
variable {f : pF} {g : Int32}
theorem pGi_f (q : pIn g 0 (f 9 - 1) = false) : pGi f g = 0 := by rw [pGi, q]; rfl
theorem pGi_t (hw : hW f) (q : pIn g 0 (f 9 - 1) = true) : ∃ k, k < nG f ∧ g = nI k ∧ pGi f g = k := by
  have q' := q
  rw [hw.2.1.1] at q'
  obtain ⟨k, hk, rfl⟩ := (pIn_nI (by have := hw.2.1.2; omega)).mp q'
  refine ⟨k, hk, rfl, ?_⟩
  rw [pGi, q, if_pos rfl, nI_clamp (by have := hw.2.1.2; omega)]
theorem pIn_g (hw : hW f) {k : Nat} (hk : k < nG f) : pIn (nI k) 0 (f 9 - 1) = true := by
  rw [hw.2.1.1]
  exact (pIn_nI (by have := hw.2.1.2; omega)).mpr ⟨k, hk, rfl⟩
theorem pGi_nI (hw : hW f) {k : Nat} (hk : k < nG f) : pGi f (nI k) = k := by
  rw [pGi, pIn_g hw hk, if_pos rfl, nI_clamp (by have := hw.2.1.2; omega)]
theorem pGi_lt (hw : hW f) : pGi f g < 5 := by
  cases q : pIn g 0 (f 9 - 1) with
  | false => rw [pGi_f q]; omega
  | true =>
    obtain ⟨k, hk, -, e⟩ := pGi_t hw q
    rw [e]
    exact Nat.lt_of_lt_of_le hk hw.2.1.2
theorem pBi_f (q : pIn g 0 (f 8 - 1) = false) : pBi f g = 0 := by rw [pBi, q]; rfl
theorem pBi_t (hw : hW f) (q : pIn g 0 (f 8 - 1) = true) : ∃ k, k < nB f ∧ g = nI k ∧ pBi f g = k := by
  have q' := q
  rw [hw.1.1] at q'
  obtain ⟨k, hk, rfl⟩ := (pIn_nI (by have := hw.1.2; omega)).mp q'
  refine ⟨k, hk, rfl, ?_⟩
  rw [pBi, q, if_pos rfl, nI_clamp (by have := hw.1.2; omega)]
theorem pIn_b (hw : hW f) {k : Nat} (hk : k < nB f) : pIn (nI k) 0 (f 8 - 1) = true := by
  rw [hw.1.1]
  exact (pIn_nI (by have := hw.1.2; omega)).mpr ⟨k, hk, rfl⟩
theorem pBi_nI (hw : hW f) {k : Nat} (hk : k < nB f) : pBi f (nI k) = k := by
  rw [pBi, pIn_b hw hk, if_pos rfl, nI_clamp (by have := hw.1.2; omega)]
theorem pBi_lt (hw : hW f) : pBi f g < 4 := by
  cases q : pIn g 0 (f 8 - 1) with
  | false => rw [pBi_f q]; omega
  | true =>
    obtain ⟨k, hk, -, e⟩ := pBi_t hw q
    rw [e]
    exact Nat.lt_of_lt_of_le hk hw.1.2
end PG
theorem pHolds_iff {a b c d : Bool} : pHolds a b c d = 0 ↔ (a && b && c && d) = true := by cases a <;> cases b <;> cases c <;> cases d <;> decide
theorem va_cpy0 {f g : Nat → Int32} {s t : Nat} : va_cpy f g s t 0 = g := by
  funext j
  simp only [va_cpy]
  rw [if_neg (by omega)]
theorem va_cpyS {f g : Nat → Int32} {s t n : Nat} : va_cpy f g s t (n + 1) = upd (va_cpy f g s t n) (t + n) (f (s + n)) := by
  funext j
  simp only [va_cpy, upd]
  by_cases h : j = t + n
  · subst h
    rw [if_pos (by omega), if_pos rfl]
    congr 1
    omega
  · rw [if_neg h]
    by_cases h2 : t ≤ j ∧ j < t + n
    · rw [if_pos (by omega), if_pos h2]
    · rw [if_neg (by omega), if_neg h2]
section MOD
variable {ad : Nat → Nat} {G0 G : gS} {m : Nat} {B : Nat → Nat} {I : Nat → Int32} {V : Nat → Nat → Int32} {X : Nat → gS → Prop}
theorem sm_isIn {x0 x1 x2 : Int32} {K : Int32 → gS → Prop} (k : K (bI (pIn x0 x1 x2)) G) : wp_X3_isIn ad G x0 x1 x2 X K := by
  unfold wp_X3_isIn
  refine ⟨fun h => ?_, fun h => ⟨fun h2 => ?_, fun h2 => ?_⟩⟩
  · rw [pIn_lo h] at k; exact k
  · rw [pIn_hi h2] at k; exact k
  · rw [pIn_in h h2] at k; exact k
theorem sm_holds (h : mSt G0 m B G I V) {a b c d : Bool} {x1 x2 x3 x4 : Int32} (h1 : x1 = bI a) (h2 : x2 = bI b) (h3 : x3 = bI c) (h4 : x4 = bI d) {K : Int32 → gS → Prop} (k : ∀ G', mSt G0 m B G' (upd I 14 (pHolds a b c d)) V → K (bI (a && b && c && d)) G') : wp_X3_holds ad G m x1 x2 x3 x4 X K := by
  subst h1 h2 h3 h4
  have key : ∀ x, x = pHolds a b c d → wp_X3_holds_35 ad X K G m x m := by
    rintro x rfl
    unfold wp_X3_holds_35
    refine mPut h (by decide) fun G' h' => mI h' (by decide) ?_
    rw [upd_self]
    refine ⟨fun q => ?_, fun q => ?_⟩
    · exact bI_get0 (P := fun x => K x G') (k G' h') (by rw [pHolds_iff] at q; exact Bool.eq_false_iff.mpr q)
    · exact bI_get (P := fun x => K x G') (k G' h') (pHolds_iff.mp q)
  unfold wp_X3_holds
  refine bI_br' (fun ha => bI_br' (fun hb => bI_br' (fun hc => bI_br' (fun hd => key _ ?_) (fun hd => key _ ?_)) (fun hc => key _ ?_)) (fun hb => key _ ?_)) (fun ha => key _ ?_)
  · subst ha hb hc hd; rfl
  · subst ha hb hc hd; rfl
  · subst ha hb hc; rfl
  · subst ha hb; rfl
  · subst ha; rfl
theorem sm_goes (h : mSt G0 m B G I V) {a : Bool} {x : Int32} (hx : x = bI a) {K : Int32 → gS → Prop} (k : ∀ G', mSt G0 m B G' (upd I 14 (pHolds a true true true)) V → K (bI a) G') : wp_X3_goes ad G m x X K := by
  unfold wp_X3_goes
  refine ⟨h.is, sm_holds h hx (b := true) rfl (c := true) rfl (d := true) rfl fun G' h' => ?_⟩
  rw [Bool.and_true, Bool.and_true, Bool.and_true]
  exact ⟨bI_nar, k G' h'⟩
theorem sm_copies (h : mSt G0 m B G I V) {a b : Nat} (ha : a ∈ mAr) (hb : b ∈ mAr) (hab : a ≠ b) {x1 x3 : Int32} {s t : Nat} (h1 : x1 = nI s) (h3 : x3 = nI t) (hs : s + 91 ≤ mLn a) (ht : t + 91 ≤ mLn b) {K : gS → Prop} (k : ∀ G', mSt G0 m B G' I (mar V b (va_cpy (V a) (V b) s t 91)) → K G') : wp_X3_copies ad G (some (B a)) x1 (some (B b)) x3 X K := by
  unfold wp_X3_copies
  refine gLoop_up 91 (fun n (f : gS → Option Nat → Int32 → Option Nat → Int32 → Int32 → Prop) => ∀ G, mSt G0 m B G I (mar V b (va_cpy (V a) (V b) s t n)) → f G (some (B a)) x1 (some (B b)) x3 (nI n)) ?_ gFuel 0 (by omega) (gFuel_lt (by omega)) G (by rw [va_cpy0, mar_eq rfl]; exact h)
  intro n f hn hs2 G h
  unfold wp_X3_copies_3
  by_cases e : n = 91
  · subst e
    exact brT (by decide) (k _ h)
  · refine brF (nI_ge (b := 91) (by omega) (by omega)) (wNN_of (mLd h ha (ixa h1 rfl) (by omega) (wNN_of (mSa h hb (ixa h3 rfl) (by omega) fun G' h' => ?_))))
    rw [← nI_succ]
    refine hs2 (by omega) G' ?_
    rw [mar_mar, mar_self, mar_ne hab, ← va_cpyS] at h'
    exact h'
/-- the whole row -/
theorem cpy_all (h : mSt G0 m B G I V) {a b : Nat} (ha : a ∈ mAr) (hb : b ∈ mAr) (la : mLn a = 91) (lb : mLn b = 91) : va_cpy (V a) (V b) 0 0 91 = V a := by
  funext j
  simp only [va_cpy]
  by_cases hj : j < 91
  · rw [if_pos (by omega)]; congr 1; omega
  · rw [if_neg (by omega), h.2.2.2.1 b hb j (by omega), h.2.2.2.1 a ha j (by omega)]
theorem sm_copy (h : mSt G0 m B G I V) {a b : Nat} (ha : a ∈ mAr) (hb : b ∈ mAr) (hab : a ≠ b) (la : mLn a = 91) (lb : mLn b = 91) {K : gS → Prop} (k : ∀ G', mSt G0 m B G' I (mar V b (V a)) → K G') : wp_X3_copies ad G (some (B a)) (0 : Int32) (some (B b)) (0 : Int32) X K :=
  sm_copies h ha hb hab (s := 0) (t := 0) rfl rfl (by omega) (by omega) (by rw [cpy_all h ha hb la lb]; exact k)
theorem sm_begins (h : mSt G0 m B G I V) {K : gS → Prop} (k : ∀ G', mSt G0 m B G' I (mar V 1 (V 0)) → K G') : wp_X3_begins ad G m X K := by
  unfold wp_X3_begins
  exact mQ h m0 (mQ h m1 (sm_copy h m0 m1 (by decide) rfl rfl k))
/-- the rows of the past -/
def pShift (g : Nat → Int32) (n : Nat) : Nat → Int32 := fun j => if j < n then g (j + 91) else g j
theorem sm_remembers (h : mSt G0 m B G I V) {r : Nat} (hr : I 6 = nI r) (hr8 : r ≤ 8) {K : gS → Prop} (k : ∀ G', mSt G0 m B G' (upd I 6 (nI (if r = 8 then 8 else r + 1))) (mar V 4 (va_cpy (V 1) (if r = 8 then pShift (V 4) 637 else V 4) 0 (91 * (if r = 8 then 7 else r)) 91)) → K G') : wp_X3_remembers ad G m X K := by
  have key : ∀ (G : gS) (I' : Nat → Int32) (V' : Nat → Nat → Int32) (r' : Nat), mSt G0 m B G I' V' → I' 6 = nI r' → r' < 8 → (∀ G', mSt G0 m B G' (upd I' 6 (nI (r' + 1))) (mar V' 4 (va_cpy (V' 1) (V' 4) 0 (91 * r') 91)) → K G') → wp_X3_remembers_49 ad X K G m := by
    intro G I' V' r' h hr hr8 k
    unfold wp_X3_remembers_49
    refine mQ h m1 (mQ h m4 (mI h (by decide) ?_))
    refine sm_copies h m1 m4 (by decide) (s := 0) (t := 91 * r') rfl (by rw [hr, show (91 : Int32) = nI 91 from rfl, nI_mul, Nat.mul_comm]) (by decide) (by show _ ≤ 728; omega) fun G' h' => mI h' (by decide) (mPut h' (by decide) fun G2 h2 => k G2 ?_)
    rw [hr, ← nI_succ] at h2
    exact h2
  unfold wp_X3_remembers
  refine mI h (by decide) ?_
  rw [hr]
  by_cases e : r = 8
  · subst e
    refine brT' (by decide) ?_
    refine gLoop_up 637 (fun n (f : gS → Nat → Int32 → Prop) => ∀ G, mSt G0 m B G I (mar V 4 (pShift (V 4) n)) → f G m (nI n)) ?_ gFuel 0 (by omega) (gFuel_lt (by omega)) G (by rw [show pShift (V 4) 0 = V 4 from by funext j; simp [pShift], mar_eq rfl]; exact h)
    intro n f hn hs2 G h
    unfold wp_X3_remembers_11
    by_cases e : n = 637
    · subst e
      refine brT (by decide) ?_
      unfold wp_X3_remembers_39
      refine mI h (by decide) (mPut h (by decide) fun G' h' => key G' _ _ 7 h' (by rw [upd_self, hr]; decide) (by omega) fun G2 h2 => k G2 ?_)
      rw [mar_mar, mar_self, mar_ne (by decide), upd_upd] at h2
      rw [if_pos rfl, if_pos rfl, if_pos rfl]
      exact h2
    · refine brF (nI_ge (b := 637) (by omega) (by omega)) (mQ h m4 (mQ h m4 (wNN_of (mLd h m4 (ixa (j := 91) rfl rfl) (by show _ < 728; omega) (wNN_of (mSa h m4 rfl (by show _ < 728; omega) fun G' h' => ?_))))))
      rw [← nI_succ]
      refine hs2 (by omega) G' ?_
      rw [mar_mar, mar_self] at h'
      have e2 : pShift (V 4) (n + 1) = upd (pShift (V 4) n) n (pShift (V 4) n (n + 91)) := by
        funext j
        simp only [pShift, upd]
        by_cases hj : j = n
        · subst hj; rw [if_pos (by omega), if_pos rfl, if_neg (by omega)]
        · rw [if_neg hj]
          by_cases hj2 : j < n
          · rw [if_pos (by omega), if_pos hj2]
          · rw [if_neg (by omega), if_neg hj2]
      rw [e2]
      exact h'
  · refine brF' (fun q => e ((nI_eq (b := 8) (by omega) (by omega)).mp q)) (key G I V r h hr (by omega) fun G' h' => k G' ?_)
    rw [if_neg e, if_neg e, if_neg e]
    exact h'
/-- the end of a change: back, or remembered -/
theorem sm_ends (h : mSt G0 m B G I V) {r : Nat} (hr : I 6 = nI r) (hr8 : r ≤ 8) {x : Int32} {K : Int32 → gS → Prop} (k0 : I 14 ≠ 0 → ∀ G', mSt G0 m B G' I (mar V 0 (V 1)) → K 0 G') (k : I 14 = 0 → ∀ G', mSt G0 m B G' (upd I 6 (nI (if r = 8 then 8 else r + 1))) (mar V 4 (va_cpy (V 1) (if r = 8 then pShift (V 4) 637 else V 4) 0 (91 * (if r = 8 then 7 else r)) 91)) → K x G') : wp_X3_ends ad G m x X K := by
  unfold wp_X3_ends
  refine mI h (by decide) ⟨fun q => ⟨h.is, sm_remembers h hr hr8 fun G' h' => k q G' h'⟩, fun q => mQ h m1 (mQ h m0 (sm_copy h m1 m0 (by decide) rfl rfl fun G' h' => k0 q G' h'))⟩
theorem sm_isGoblin (h : mSt G0 m B G I V) {x : Int32} {K : Int32 → gS → Prop} (k : K (bI (pIn x 0 (V 0 9 - 1))) G) : wp_X3_isGoblin ad G m x X K := by
  unfold wp_X3_isGoblin
  exact mRd h m0 (i := 9) (j := 9) rfl (by decide) (sm_isIn ⟨bI_nar, k⟩)
theorem sm_isBroom (h : mSt G0 m B G I V) {x : Int32} {K : Int32 → gS → Prop} (k : K (bI (pIn x 0 (V 0 8 - 1))) G) : wp_X3_isBroom ad G m x X K := by
  unfold wp_X3_isBroom
  exact mRd h m0 (i := 8) (j := 8) rfl (by decide) (sm_isIn ⟨bI_nar, k⟩)
theorem sm_isRoom {x : Int32} {K : Int32 → gS → Prop} (k : K (bI (pIn x 0 5)) G) : wp_X3_isRoom ad G x X K := by
  unfold wp_X3_isRoom
  exact sm_isIn ⟨bI_nar, k⟩
theorem sm_place (h : mSt G0 m B G I V) (hw : hW (V 0)) {g x : Int32} {j : Nat} (hx : x = nI j) {K : Int32 → gS → Prop} (k : K (nI (26 + 5 * pGi (V 0) g + j)) G) : wp_X3_place ad G m g x X K := by
  unfold wp_X3_place
  refine ⟨h.is, sm_isGoblin h (bI_br (fun q => ?_) (fun q => ?_))⟩
  · rw [pGi_f q] at k
    have e : ((26 : Int32) + (5 : Int32) * (0 : Int32)) + x = nI (26 + 5 * 0 + j) := ixg (k := 0) hx
    rw [e]; exact k
  · obtain ⟨n, hn, rfl, e⟩ := pGi_t hw q
    rw [e] at k
    rw [ixg hx]; exact k
theorem sm_of (h : mSt G0 m B G I V) (hw : hW (V 0)) {g x : Int32} {j : Nat} (hx : x = nI j) (hj : j < 5) {t : Nat} (ht : 26 + 5 * pGi (V 0) g + j = t) {K : Int32 → gS → Prop} (k : K (V 0 t) G) : wp_X3_of ad G m g x X K := by
  unfold wp_X3_of
  have := pGi_lt (g := g) hw
  subst ht
  exact mQ h m0 ⟨h.is, sm_place h hw hx (wNN_of (mLd h m0 rfl (by show _ < 91; omega) k))⟩
theorem sm_ofK (h : mSt G0 m B G I V) (hw : hW (V 0)) {n : Nat} (hn : n < nG (V 0)) {x : Int32} {j : Nat} (hx : x = nI j) (hj : j < 5) {t : Nat} (ht : 26 + 5 * n + j = t) {K : Int32 → gS → Prop} (k : K (V 0 t) G) : wp_X3_of ad G m (nI n) x X K :=
  sm_of h hw hx hj (by rw [pGi_nI hw hn]; exact ht) k
theorem sm_placeK (h : mSt G0 m B G I V) (hw : hW (V 0)) {n : Nat} (hn : n < nG (V 0)) {x : Int32} {j : Nat} (hx : x = nI j) {t : Nat} (ht : 26 + 5 * n + j = t) {K : Int32 → gS → Prop} (k : K (nI t) G) : wp_X3_place ad G m (nI n) x X K :=
  sm_place h hw hx (by rw [pGi_nI hw hn, ht]; exact k)
theorem sm_ofBroom (h : mSt G0 m B G I V) (hw : hW (V 0)) {g x : Int32} {j : Nat} (hx : x = nI j) (hj : j < 2) {t : Nat} (ht : 18 + 2 * pBi (V 0) g + j = t) {K : Int32 → gS → Prop} (k : K (V 0 t) G) : wp_X3_ofBroom ad G m g x X K := by
  unfold wp_X3_ofBroom
  have hb := pBi_lt (g := g) hw
  subst ht
  refine mQ h m0 ⟨h.is, sm_isBroom h (bI_br (fun q => ?_) (fun q => ?_))⟩
  · unfold wp_X3_ofBroom_20
    rw [pBi_f q] at k
    exact wNN_of (mLd h m0 (ixb (k := 0) hx) (by show _ < 91; omega) k)
  · obtain ⟨n, hn, rfl, e⟩ := pBi_t hw q
    unfold wp_X3_ofBroom_20
    rw [e] at k hb
    exact wNN_of (mLd h m0 (ixb hx) (by show _ < 91; omega) k)
theorem sm_ofBroomK (h : mSt G0 m B G I V) (hw : hW (V 0)) {n : Nat} (hn : n < nB (V 0)) {x : Int32} {j : Nat} (hx : x = nI j) (hj : j < 2) {t : Nat} (ht : 18 + 2 * n + j = t) {K : Int32 → gS → Prop} (k : K (V 0 t) G) : wp_X3_ofBroom ad G m (nI n) x X K :=
  sm_ofBroom h hw hx hj (by rw [pBi_nI hw hn]; exact ht) k
theorem sm_ofContract (h : mSt G0 m B G I V) {n : Nat} (hn : n < 8) {x : Int32} {j : Nat} (hx : x = nI j) (hj : j < 5) {t : Nat} (ht : 51 + 5 * n + j = t) {K : Int32 → gS → Prop} (k : K (V 0 t) G) : wp_X3_ofContract ad G m (nI n) x X K := by
  unfold wp_X3_ofContract
  subst ht
  exact mRd h m0 (ixc hx) (by show _ < 91; omega) k
theorem sm_inUse (h : mSt G0 m B G I V) (hw : hW (V 0)) {K : Int32 → gS → Prop} (k : K (pUsed (V 0) (nB (V 0))) G) : wp_X3_inUse ad G m X K := by
  unfold wp_X3_inUse
  have h4 := hw.1.2
  refine gLoop_up (nB (V 0)) (fun n (f : gS → Nat → Int32 → Int32 → Prop) => f G m (pUsed (V 0) n) (nI n)) ?_ gFuel 0 (by omega) (gFuel_lt (by omega))
  intro n f hn hs
  unfold wp_X3_inUse_4
  refine mRd h m0 (i := 8) (j := 8) rfl (by decide) ?_
  rw [hw.1.1]
  by_cases e : n = nB (V 0)
  · subst e
    exact brT (Int32.le_refl _) k
  · refine brF (nI_ge (by omega) (by omega)) ⟨h.is, sm_ofBroomK h hw (n := n) (by omega) (j := 1) rfl (by omega) (t := 19 + 2 * n) (by omega) ?_⟩
    rw [← nI_succ]
    exact hs (by omega)
theorem sm_greatestPower (h : mSt G0 m B G I V) (hw : hW (V 0)) {K : Int32 → gS → Prop} (k : K (pGreat (V 0) (nB (V 0))) G) : wp_X3_greatestPower ad G m X K := by
  unfold wp_X3_greatestPower
  have h4 := hw.1.2
  refine gLoop_up (nB (V 0)) (fun n (f : gS → Nat → Int32 → Int32 → Prop) => f G m (pGreat (V 0) n) (nI n)) ?_ gFuel 0 (by omega) (gFuel_lt (by omega))
  intro n f hn hs
  unfold wp_X3_greatestPower_4
  refine mRd h m0 (i := 8) (j := 8) rfl (by decide) ?_
  rw [hw.1.1]
  by_cases e : n = nB (V 0)
  · subst e
    exact brT (Int32.le_refl _) k
  · have hs' := hs (by omega)
    refine brF (nI_ge (by omega) (by omega)) ⟨h.is, sm_ofBroomK h hw (n := n) (by omega) (j := 1) rfl (by omega) (t := 19 + 2 * n) (by omega) ⟨fun q => ⟨h.is, sm_ofBroomK h hw (n := n) (by omega) (j := 0) rfl (by omega) (t := 18 + 2 * n) (by omega) ?_⟩, fun q => ?_⟩⟩
    · unfold wp_X3_greatestPower_39
      rw [← nI_succ]
      rw [pGreat, if_neg q] at hs'
      exact hs'
    · unfold wp_X3_greatestPower_39
      rw [← nI_succ]
      rw [pGreat, if_pos q] at hs'
      exact hs'
theorem sm_energyOf (h : mSt G0 m B G I V) (hw : hW (V 0)) {n : Nat} (hn : n < nG (V 0)) {K : Int32 → gS → Prop} (k : K (pEnergy (V 0) n) G) : wp_X3_energyOf ad G m (nI n) X K := by
  unfold wp_X3_energyOf
  exact ⟨h.is, sm_ofK h hw hn (j := 0) rfl (by omega) (t := 26 + 5 * n) (by omega) ⟨h.is, sm_inUse h hw k⟩⟩
theorem sm_find (h : mSt G0 m B G I V) (hw : hW (V 0)) {id : Int32} {K : Int32 → gS → Prop} (k : K (oI (pFind (V 0) id (nC (V 0)))) G) : wp_X3_find ad G m id X K := by
  unfold wp_X3_find
  have h8 := hw.2.2.2
  refine gLoop_up (nC (V 0)) (fun n (f : gS → Nat → Int32 → Int32 → Int32 → Prop) => f G m id (oI (pFind (V 0) id n)) (nI n)) ?_ gFuel 0 (by omega) (gFuel_lt (by omega))
  intro n f hn hs
  unfold wp_X3_find_4
  refine mRd h m0 (i := 11) (j := 11) rfl (by decide) ?_
  rw [hw.2.2.1]
  by_cases e : n = nC (V 0)
  · subst e
    exact brT (Int32.le_refl _) k
  · have hs' := hs (by omega)
    refine brF (nI_ge (by omega) (by omega)) ⟨h.is, sm_ofContract h (n := n) (by omega) (j := 0) rfl (by omega) (t := 51 + 5 * n) (by omega) ⟨fun q => ?_, fun q => ?_⟩⟩
    · unfold wp_X3_find_30
      rw [← nI_succ]
      rw [pFind, if_neg q] at hs'
      exact hs'
    · unfold wp_X3_find_30
      rw [← nI_succ]
      rw [pFind, if_pos q] at hs'
      exact hs'
theorem sm_hasFor (h : mSt G0 m B G I V) (hw : hW (V 0)) {g r : Int32} {K : Int32 → gS → Prop} (k : K (bI (pHas (V 0) g r (nC (V 0)))) G) : wp_X3_hasFor ad G m g r X K := by
  unfold wp_X3_hasFor
  have h8 := hw.2.2.2
  refine gLoop_up (nC (V 0)) (fun n (f : gS → Nat → Int32 → Int32 → Int32 → Int32 → Prop) => f G m g r (bI (pHas (V 0) g r n)) (nI n)) ?_ gFuel 0 (by omega) (gFuel_lt (by omega))
  intro n f hn hs
  unfold wp_X3_hasFor_5
  refine mRd h m0 (i := 11) (j := 11) rfl (by decide) ?_
  rw [hw.2.2.1]
  by_cases e : n = nC (V 0)
  · subst e
    exact brT (Int32.le_refl _) ⟨bI_nar, k⟩
  · have hs' := hs (by omega)
    rw [pHas] at hs'
    refine brF (nI_ge (by omega) (by omega)) (bI_br' (fun q => ?_) (fun q => ?_))
    · unfold wp_X3_hasFor_43 wp_X3_hasFor_48
      rw [← nI_succ]
      rw [q, Bool.true_or] at hs'
      exact hs'
    · rw [q, Bool.false_or] at hs'
      refine ⟨h.is, sm_ofContract h (n := n) (by omega) (j := 1) rfl (by omega) (t := 52 + 5 * n) (by omega) ⟨fun q2 => ?_, fun q2 => ⟨h.is, sm_ofContract h (n := n) (by omega) (j := 2) rfl (by omega) (t := 53 + 5 * n) (by omega) ⟨fun q3 => ?_, fun q3 => ?_⟩⟩⟩⟩
      · unfold wp_X3_hasFor_47 wp_X3_hasFor_48
        rw [← nI_succ]
        rw [decide_eq_false q2, Bool.false_and] at hs'
        exact hs'
      · unfold wp_X3_hasFor_47 wp_X3_hasFor_48
        rw [← nI_succ]
        rw [decide_eq_false q3, Bool.and_false] at hs'
        exact hs'
      · unfold wp_X3_hasFor_43 wp_X3_hasFor_48
        rw [← nI_succ]
        rw [decide_eq_true q2, decide_eq_true q3] at hs'
        exact hs'
end MOD
