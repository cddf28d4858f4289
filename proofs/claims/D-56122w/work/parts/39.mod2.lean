/-! PURE: the model's changes -/
set_option maxRecDepth 20000
def qV (r : pR) (f : pF) : pF := if r.1 = 0 then r.2.2 else f
def qA (r : pR) : Int32 := if r.1 = 0 then r.2.1 else 0
section MOD
variable {ad : Nat → Nat} {G0 G : gS} {m : Nat} {B : Nat → Nat} {I : Nat → Int32} {V : Nat → Nat → Int32} {X : Nat → gS → Prop} {f : pF}
theorem mLd0 (h : mSt G0 m B G I (mar V 0 f)) {i : Int32} {j : Nat} (hi : i = nI j) (hj : j < 91) {K : Int32 → Prop} (k : K (f j)) : wAldI G (B 0) i K := mLd h m0 hi hj k
theorem mSa0 (h : mSt G0 m B G I (mar V 0 f)) {i v : Int32} {j : Nat} (hi : i = nI j) (hj : j < 91) {K : gS → Prop} (k : ∀ G', mSt G0 m B G' I (mar V 0 (upd f j v)) → K G') : wAstI G (B 0) i v K :=
  mSa h m0 hi hj fun G' h' => k G' (by rw [mar_mar, mar_self] at h'; exact h')
theorem mRd0 (h : mSt G0 m B G I (mar V 0 f)) {i : Int32} {j : Nat} (hi : i = nI j) (hj : j < 91) {K : Int32 → Prop} (k : K (f j)) : wGetQ G m 0 0 fun q => wNN q fun c => wAldI G c i K := mQ h m0 (wNN_of (mLd0 h hi hj k))
theorem mWr0 (h : mSt G0 m B G I (mar V 0 f)) {i v : Int32} {j : Nat} (hi : i = nI j) (hj : j < 91) {K : gS → Prop} (k : ∀ G', mSt G0 m B G' I (mar V 0 (upd f j v)) → K G') : wGetQ G m 0 0 fun q => wNN q fun c => wAstI G c i v K := mQ h m0 (wNN_of (mSa0 h hi hj k))
/-- read, and written to at once -/
theorem mRw0 (h : mSt G0 m B G I (mar V 0 f)) {i : Int32} {w : Int32 → Int32} {j : Nat} (hi : i = nI j) (hj : j < 91) {K : gS → Prop} (k : ∀ G', mSt G0 m B G' I (mar V 0 (upd f j (w (f j)))) → K G') : wGetQ G m 0 0 fun q => wNN q fun c => wAldI G c i fun x => wAstI G c i (w x) K := mQ h m0 (wNN_of (mLd0 h hi hj (mSa0 h hi hj k)))
theorem sm_hold2 (h : mSt G0 m B G I (mar V 0 f)) {a b c d : Bool} {x1 x2 x3 x4 : Int32} (h1 : x1 = bI a) (h2 : x2 = bI b) (h3 : x3 = bI c) (h4 : x4 = bI d) (r : pR) (hr : r.1 = pHolds a b c d) {A : gS → Prop} {K : Int32 → gS → Prop} (k : ∀ G', mSt G0 m B G' (upd I 14 r.1) (mar V 0 (qV r f)) → K (qA r) G') (kA : (a && b && c && d) = true → r.1 = 0 → ∀ G', mSt G0 m B G' (upd I 14 r.1) (mar V 0 f) → A G') :
    wp_X3_holds ad G m x1 x2 x3 x4 X (fun r2 G1 => (¬ r2 = (0 : Int32) → A G1) ∧ (r2 = (0 : Int32) → K (0 : Int32) G1)) := by
  refine sm_holds h h1 h2 h3 h4 fun G' h' => ?_
  rw [← hr] at h'
  refine bI_br' (fun q => kA q ?_ G' h') (fun q => ?_)
  · rw [hr]; exact pHolds_iff.mpr q
  · have q2 : ¬ r.1 = 0 := by
      rw [hr, pHolds_iff, q]; decide
    have := k G' (by rw [qV, if_neg q2]; exact h')
    rw [qA, if_neg q2] at this
    exact this
theorem sm_goes2 (h : mSt G0 m B G I (mar V 0 f)) {a : Bool} {x1 : Int32} (h1 : x1 = bI a) (r : pR) (hr : r.1 = pHolds a true true true) {A : gS → Prop} {K : Int32 → gS → Prop} (k : ∀ G', mSt G0 m B G' (upd I 14 r.1) (mar V 0 (qV r f)) → K (qA r) G') (kA : a = true → r.1 = 0 → ∀ G', mSt G0 m B G' (upd I 14 r.1) (mar V 0 f) → A G') :
    wp_X3_goes ad G m x1 X (fun r2 G1 => (¬ r2 = (0 : Int32) → A G1) ∧ (r2 = (0 : Int32) → K (0 : Int32) G1)) := by
  refine sm_goes h h1 fun G' h' => ?_
  rw [← hr] at h'
  refine bI_br' (fun q => kA q ?_ G' h') (fun q => ?_)
  · rw [hr, pHolds_iff, q]; rfl
  · have q2 : ¬ r.1 = 0 := by
      rw [hr, pHolds_iff, q]; decide
    have := k G' (by rw [qV, if_neg q2]; exact h')
    rw [qA, if_neg q2] at this
    exact this
theorem qV_0 {r : pR} (h : r.1 = 0) : qV r f = r.2.2 := by rw [qV, if_pos h]
theorem qA_0 {r : pR} (h : r.1 = 0) : qA r = r.2.1 := by rw [qA, if_pos h]
def pGz (f : pF) (s : Int32) (n : Nat) : pF := fun j => if 26 + 5 * nG f ≤ j ∧ j < 26 + 5 * nG f + n then (if j = 26 + 5 * nG f then s else 0) else f j
theorem pGz_S {s : Int32} {n : Nat} {v : Int32} (hv : v = if n = 0 then s else 0) : pGz f s (n + 1) = upd (pGz f s n) (26 + 5 * nG f + n) v := by
  subst hv
  funext j
  simp only [pGz, upd]
  by_cases h : j = 26 + 5 * nG f + n
  · subst h
    rw [if_pos (by omega), if_pos rfl]
    by_cases h0 : n = 0
    · rw [if_pos (by omega), if_pos h0]
    · rw [if_neg (by omega), if_neg h0]
  · rw [if_neg h]
    by_cases h2 : 26 + 5 * nG f ≤ j ∧ j < 26 + 5 * nG f + n
    · rw [if_pos (by omega), if_pos h2]
    · rw [if_neg (by omega), if_neg h2]
theorem sm_addsGoblin (h : mSt G0 m B G I (mar V 0 f)) (hw : hW f) {s : Int32} {K : Int32 → gS → Prop} (k : ∀ G', mSt G0 m B G' (upd I 14 (oGoblin s f).1) (mar V 0 (qV (oGoblin s f) f)) → K (qA (oGoblin s f)) G') : wp_X3_addsGoblin ad G m s X K := by
  have key : ∀ x, x = bI (decide (f 9 < 5)) → wp_X3_addsGoblin_24 ad X K G m s x (bI (pIn s 1 9)) m := by
    intro x hx
    unfold wp_X3_addsGoblin_24
    refine ⟨h.is, sm_hold2 h rfl hx (c := true) rfl (d := true) rfl (oGoblin s f) rfl k fun q q0 G' h' => mRd0 h' (i := 9) (j := 9) rfl (by decide) ?_⟩
    have hlt : nG f < 5 := by
      rw [Bool.and_true, Bool.and_true, Bool.and_eq_true, decide_eq_true_iff, hw.2.1.1] at q
      exact (nI_ltI (b := 5) (by have := hw.2.1.2; omega) (by omega)).mp q.2
    rw [qV_0 q0, qA_0 q0] at k
    rw [hw.2.1.1]
    refine gLoop_up 5 (fun n (ff : gS → Nat → Int32 → Int32 → Int32 → Prop) => ∀ G, mSt G0 m B G (upd I 14 (oGoblin s f).1) (mar V 0 (pGz f s n)) → ff G m s ((26 : Int32) + (5 : Int32) * nI (nG f)) (nI n)) ?_ gFuel 0 (by omega) (gFuel_lt (by omega)) G' (by rw [show pGz f s 0 = f from by funext j; simp only [pGz]; rw [if_neg (by omega)]]; exact h')
    intro n ff hn hs G h
    unfold wp_X3_addsGoblin_49
    by_cases e : n = 5
    · subst e
      refine brT (by decide) ?_
      unfold wp_X3_addsGoblin_77
      have e9 : pGz f s 5 9 = f 9 := by simp only [pGz]; rw [if_neg (by omega)]
      refine mRw0 h (i := 9) (j := 9) (w := fun x => x + 1) rfl (by decide) fun G2 h2 => mRd0 h2 (i := 9) (j := 9) rfl (by decide) ?_
      rw [upd_self, e9]
      have eA : upd (pGz f s 5) 9 (f 9 + 1) = pAddGoblin f s := by
        rw [pAddGoblin]
        congr 1
        funext j
        simp only [pGz]
        rw [show 26 + 5 * nG f + 5 = 31 + 5 * nG f by omega]
      have := k G2 (by rw [e9, eA] at h2; exact h2)
      rw [Int32.add_sub_cancel]
      exact this
    · refine brF (nI_ge (b := 5) (by omega) (by omega)) (mQ h m0 ?_)
      have hix : ((26 : Int32) + (5 : Int32) * nI (nG f)) + nI n = nI (26 + 5 * nG f + n) := ixg rfl
      have fin : ∀ v, v = (if n = 0 then s else 0) → wp_X3_addsGoblin_70 ad X K ff G m s ((26 : Int32) + (5 : Int32) * nI (nG f)) (nI n) v (((26 : Int32) + (5 : Int32) * nI (nG f)) + nI n) (some (B 0)) := by
        intro v hv
        unfold wp_X3_addsGoblin_70
        refine wNN_of (mSa0 h hix (by omega) fun G2 h2 => ?_)
        rw [← nI_succ]
        refine hs (by omega) G2 ?_
        rw [pGz_S hv]
        exact h2
      refine ⟨fun q => fin _ ?_, fun q => fin _ ?_⟩
      · rw [if_neg (fun e0 => q (by rw [e0]; rfl))]
      · rw [if_pos]
        exact (nI_eq (b := 0) (by omega) (by omega)).mp q
  unfold wp_X3_addsGoblin
  refine sm_isIn (mRd0 h (i := 9) (j := 9) rfl (by decide) ⟨fun q => key _ ?_, fun q => key _ ?_⟩)
  · rw [decide_eq_false (fun q2 => absurd q2 (Int32.not_lt.mpr q))]; rfl
  · rw [decide_eq_true (Int32.not_le.mp q)]; rfl
theorem sm_addsBroom (h : mSt G0 m B G I (mar V 0 f)) (hw : hW f) {s : Int32} {K : Int32 → gS → Prop} (k : ∀ G', mSt G0 m B G' (upd I 14 (oBroom s f).1) (mar V 0 (qV (oBroom s f) f)) → K (qA (oBroom s f)) G') : wp_X3_addsBroom ad G m s X K := by
  have key : ∀ x, x = bI (decide (f 8 < 4)) → wp_X3_addsBroom_24 ad X K G m s x (bI (pIn s 1 20)) m := by
    intro x hx
    unfold wp_X3_addsBroom_24
    refine ⟨h.is, sm_hold2 h rfl hx (c := true) rfl (d := true) rfl (oBroom s f) rfl k fun q q0 G' h' => mQ h' m0 (mRd0 h' (i := 8) (j := 8) rfl (by decide) ?_)⟩
    have hlt : nB f < 4 := by
      rw [Bool.and_true, Bool.and_true, Bool.and_eq_true, decide_eq_true_iff, hw.1.1] at q
      exact (nI_ltI (b := 4) (by have := hw.1.2; omega) (by omega)).mp q.2
    rw [qV_0 q0, qA_0 q0] at k
    refine wNN_of (mSa0 h' (j := 18 + 2 * nB f) (by rw [hw.1.1]; exact ixb (j := 0) rfl) (by omega) fun G2 h2 => mQ h2 m0 (mRd0 h2 (i := 8) (j := 8) rfl (by decide) (wNN_of (mSa0 h2 (j := 19 + 2 * nB f) ?_ (by omega) fun G3 h3 => mRw0 h3 (i := 8) (j := 8) (w := fun x => x + 1) rfl (by decide) fun G4 h4 => mRd0 h4 (i := 8) (j := 8) rfl (by decide) ?_))))
    · rw [upd_ne (by omega), hw.1.1, show 19 + 2 * nB f = 18 + 2 * nB f + 1 by omega]
      exact ixb (j := 1) rfl
    · rw [upd_self]
      have e8 : upd (upd f (18 + 2 * nB f) s) (19 + 2 * nB f) 0 8 = f 8 := by rw [upd_ne (by omega), upd_ne (by omega)]
      rw [e8] at h4 ⊢
      rw [Int32.add_sub_cancel]
      exact k G4 h4
  unfold wp_X3_addsBroom
  refine sm_isIn (mRd0 h (i := 8) (j := 8) rfl (by decide) ⟨fun q => key _ ?_, fun q => key _ ?_⟩)
  · rw [decide_eq_false (fun q2 => absurd q2 (Int32.not_lt.mpr q))]; rfl
  · rw [decide_eq_true (Int32.not_le.mp q)]; rfl
theorem sm_banishes (h : mSt G0 m B G I (mar V 0 f)) (hw : hW f) {b x : Int32} {K : Int32 → gS → Prop} (k : ∀ G', mSt G0 m B G' (upd I 14 (oBan x b f).1) (mar V 0 (qV (oBan x b f) f)) → K (qA (oBan x b f)) G') : wp_X3_banishes ad G m b x X K := by
  have key : ∀ y, y = bI (decide (f (19 + 2 * pBi f b) ≠ x)) → wp_X3_banishes_21 ad X K G m b x y (bI (pIn b 0 (f 8 - 1))) m := by
    intro y hy
    unfold wp_X3_banishes_21
    refine ⟨h.is, sm_hold2 h rfl hy (c := true) rfl (d := true) rfl (oBan x b f) rfl k fun q q0 G' h' => ?_⟩
    rw [Bool.and_true, Bool.and_true, Bool.and_eq_true] at q
    obtain ⟨n, hn, rfl, e⟩ := pBi_t hw q.1
    rw [qV_0 q0, qA_0 q0] at k
    have h4 := hw.1.2
    refine mWr0 h' (j := 19 + 2 * n) (by rw [show 19 + 2 * n = 18 + 2 * n + 1 by omega]; exact ixb (j := 1) rfl) (by omega) fun G2 h2 => ⟨h2.is, sm_inUse h2 (hw.pu (by omega) (by omega) (by omega)) ?_⟩
    have e8 : nB (upd f (19 + 2 * n) x) = nB f := by rw [nB, pN, upd_ne (by omega)]; rfl
    have := k G2 (by show mSt _ _ _ _ _ (mar V 0 (pBan f (pBi f (nI n)) x)); rw [e]; exact h2)
    show K (pUsed (upd f (19 + 2 * n) x) (nB (upd f (19 + 2 * n) x))) G2
    rw [e8]
    have this : K (pUsed (pBan f (pBi f (nI n)) x) (nB f)) G2 := this
    rw [e] at this
    exact this
  unfold wp_X3_banishes
  refine ⟨h.is, sm_isBroom h ⟨h.is, sm_ofBroom h hw (j := 1) rfl (by omega) (t := 19 + 2 * pBi f b) (by show 18 + 2 * pBi f b + 1 = _; omega) ⟨fun q => key _ ?_, fun q => key _ ?_⟩⟩⟩
  · rw [decide_eq_false (fun q2 => q2 q)]; rfl
  · have q : f (19 + 2 * pBi f b) ≠ x := q
    rw [decide_eq_true q]; rfl
theorem sm_rests (h : mSt G0 m B G I (mar V 0 f)) (hw : hW f) {g x : Int32} {K : Int32 → gS → Prop} (k : ∀ G', mSt G0 m B G' (upd I 14 (oRest x g f).1) (mar V 0 (qV (oRest x g f) f)) → K (qA (oRest x g f)) G') : wp_X3_rests ad G m g x X K := by
  have key : ∀ y, y = bI (decide (f (30 + 5 * pGi f g) ≠ x)) → wp_X3_rests_21 ad X K G m g x y (bI (pIn g 0 (f 9 - 1))) m := by
    intro y hy
    unfold wp_X3_rests_21
    refine ⟨h.is, sm_hold2 h rfl hy (c := true) rfl (d := true) rfl (oRest x g f) rfl k fun q q0 G' h' => ?_⟩
    rw [Bool.and_true, Bool.and_true, Bool.and_eq_true] at q
    obtain ⟨n, hn, rfl, e⟩ := pGi_t hw q.1
    rw [qV_0 q0, qA_0 q0] at k
    have h4 := hw.2.1.2
    refine mQ h' m0 ⟨h'.is, sm_placeK h' hw hn (j := 4) rfl (t := 30 + 5 * n) (by omega) (wNN_of (mSa0 h' rfl (by omega) fun G2 h2 => ?_))⟩
    have hw2 : hW (upd f (30 + 5 * n) x) := hw.pu (by omega) (by omega) (by omega)
    have e8 : nG (upd f (30 + 5 * n) x) = nG f := by rw [nG, pN, upd_ne (by omega)]; rfl
    have kk := k G2 (by show mSt _ _ _ _ _ (mar V 0 (pRestF f (pGi f (nI n)) x)); rw [e]; exact h2)
    have kk : K (if x = 1 then pRest (pRestF f (pGi f (nI n)) x) (nG f) else f (29 + 5 * pGi f (nI n))) G2 := kk
    rw [e] at kk
    refine gLoop_up (nG f) (fun r (ff : gS → Nat → Int32 → Int32 → Int32 → Int32 → Prop) => ff G2 m (nI n) x (pRest (upd f (30 + 5 * n) x) r) (nI r)) ?_ gFuel 0 (by omega) (gFuel_lt (by omega))
    intro r ff hr hs
    unfold wp_X3_rests_48
    refine mRd0 h2 (i := 9) (j := 9) rfl (by decide) ?_
    rw [hw2.2.1.1, e8]
    by_cases er : r = nG f
    · subst er
      refine brT (Int32.le_refl _) ?_
      unfold wp_X3_rests_76
      refine ⟨fun q => ⟨h2.is, sm_ofK h2 hw2 (by rw [show (mar V 0 (upd f (30 + 5 * n) x)) 0 = upd f (30 + 5 * n) x from mar_self, e8]; exact hn) (j := 3) rfl (by omega) (t := 29 + 5 * n) (by omega) ?_⟩, fun q => ?_⟩
      · rw [if_neg q] at kk
        rw [mar_self, upd_ne (by omega)]
        exact kk
      · rw [if_pos q] at kk
        exact kk
    · refine brF (nI_ge (by omega) (by omega)) ⟨h2.is, sm_ofK h2 hw2 (by rw [show (mar V 0 (upd f (30 + 5 * n) x)) 0 = upd f (30 + 5 * n) x from mar_self, e8]; omega) (n := r) (j := 4) rfl (by omega) (t := 30 + 5 * r) (by omega) ?_⟩
      rw [← nI_succ, mar_self]
      exact hs (by omega)
  unfold wp_X3_rests
  refine ⟨h.is, sm_isGoblin h ⟨h.is, sm_of h hw (j := 4) rfl (by omega) (t := 30 + 5 * pGi f g) (by show 26 + 5 * pGi f g + 4 = _; omega) ⟨fun q => key _ ?_, fun q => key _ ?_⟩⟩⟩
  · rw [decide_eq_false (fun q2 => q2 q)]; rfl
  · have q : f (30 + 5 * pGi f g) ≠ x := q
    rw [decide_eq_true q]; rfl
theorem sm_hires (h : mSt G0 m B G I (mar V 0 f)) (hw : hW f) {g r w e : Int32} {K : Int32 → gS → Prop} (k : ∀ G', mSt G0 m B G' (upd I 14 (oHire g r w e f).1) (mar V 0 (qV (oHire g r w e f) f)) → K (qA (oHire g r w e f)) G') : wp_X3_hires ad G m g r w e X K := by
  have k82 : ∀ x0 x1 x2 x3, x0 = bI (!pHas f g r (nC f)) → x1 = bI (decide (f 11 < 8)) → x2 = bI (pIn w 1 50 && pIn e 1 20) → x3 = bI (pIn g 0 (f 9 - 1) && pIn r 0 5) → wp_X3_hires_82 ad X K G m g r w e x0 x1 x2 x3 m := by
    intro x0 x1 x2 x3 h0 h1 h2 h3
    unfold wp_X3_hires_82
    refine ⟨h.is, sm_hold2 h h3 h2 h1 h0 (oHire g r w e f) rfl k fun q q0 G' h' => mRd0 h' (i := 11) (j := 11) rfl (by decide) (mQ h' m0 (mRd0 h' (i := 10) (j := 10) rfl (by decide) ?_))⟩
    have hlt : nC f < 8 := by
      rw [Bool.and_eq_true, Bool.and_eq_true, decide_eq_true_iff, hw.2.2.1] at q
      exact (nI_ltI (b := 8) (by have := hw.2.2.2; omega) (by omega)).mp q.1.2
    rw [qV_0 q0, qA_0 q0] at k
    rw [hw.2.2.1]
    refine wNN_of (mSa0 h' (j := 51 + 5 * nC f) (ixc (j := 0) rfl) (by omega) fun G2 h2 => ?_)
    refine mWr0 h2 (j := 52 + 5 * nC f) (by rw [show 52 + 5 * nC f = 51 + 5 * nC f + 1 by omega]; exact ixc (j := 1) rfl) (by omega) fun G3 h3 => ?_
    refine mWr0 h3 (j := 53 + 5 * nC f) (by rw [show 53 + 5 * nC f = 51 + 5 * nC f + 2 by omega]; exact ixc (j := 2) rfl) (by omega) fun G4 h4 => ?_
    refine mWr0 h4 (j := 54 + 5 * nC f) (by rw [show 54 + 5 * nC f = 51 + 5 * nC f + 3 by omega]; exact ixc (j := 3) rfl) (by omega) fun G5 h5 => ?_
    refine mWr0 h5 (j := 55 + 5 * nC f) (by rw [show 55 + 5 * nC f = 51 + 5 * nC f + 4 by omega]; exact ixc (j := 4) rfl) (by omega) fun G6 h6 => ?_
    refine mRw0 h6 (i := 11) (j := 11) (w := fun x => x + 1) rfl (by decide) fun G7 h7 => ?_
    refine mRw0 h7 (i := 10) (j := 10) (w := fun x => x + 1) rfl (by decide) fun G8 h8 => mRd0 h8 (i := 10) (j := 10) rfl (by decide) ?_
    have e11 : upd (upd (upd (upd (upd f (51 + 5 * nC f) (f 10)) (52 + 5 * nC f) g) (53 + 5 * nC f) r) (54 + 5 * nC f) w) (55 + 5 * nC f) e 11 = f 11 := by
      rw [upd_ne (by omega), upd_ne (by omega), upd_ne (by omega), upd_ne (by omega), upd_ne (by omega)]
    have e10 : ∀ v, upd (upd (upd (upd (upd (upd f (51 + 5 * nC f) (f 10)) (52 + 5 * nC f) g) (53 + 5 * nC f) r) (54 + 5 * nC f) w) (55 + 5 * nC f) e) 11 v 10 = f 10 := by
      intro v
      rw [upd_ne (by omega), upd_ne (by omega), upd_ne (by omega), upd_ne (by omega), upd_ne (by omega), upd_ne (by omega)]
    rw [upd_self]
    rw [e11, e10] at h8
    rw [e10, Int32.add_sub_cancel]
    exact k G8 h8
  have k68 : ∀ x1 x2 x3, x1 = bI (decide (f 11 < 8)) → x2 = bI (pIn w 1 50 && pIn e 1 20) → x3 = bI (pIn g 0 (f 9 - 1) && pIn r 0 5) → wp_X3_hires_68 ad X K G m g r w e x1 x2 x3 m := by
    intro x1 x2 x3 h1 h2 h3
    unfold wp_X3_hires_68
    refine ⟨h.is, sm_hasFor h hw (bI_br' (fun q => k82 _ _ _ _ ?_ h1 h2 h3) (fun q => k82 _ _ _ _ ?_ h1 h2 h3))⟩
    · have q : pHas f g r (nC f) = true := q
      rw [q]; rfl
    · have q : pHas f g r (nC f) = false := q
      rw [q]; rfl
  have k49 : ∀ x2 x3, x2 = bI (pIn w 1 50 && pIn e 1 20) → x3 = bI (pIn g 0 (f 9 - 1) && pIn r 0 5) → wp_X3_hires_49 ad X K G m g r w e x2 x3 m := by
    intro x2 x3 h2 h3
    unfold wp_X3_hires_49
    refine mRd0 h (i := 11) (j := 11) rfl (by decide) ⟨fun q => k68 _ _ _ ?_ h2 h3, fun q => k68 _ _ _ ?_ h2 h3⟩
    · rw [decide_eq_false (fun q2 => absurd q2 (Int32.not_lt.mpr q))]; rfl
    · rw [decide_eq_true (Int32.not_le.mp q)]; rfl
  have k26 : ∀ x2, x2 = bI (pIn w 1 50 && pIn e 1 20) → wp_X3_hires_26 ad X K G m g r w e x2 := by
    intro x2 h2
    unfold wp_X3_hires_26 wp_X3_hires_48
    refine ⟨h.is, sm_isGoblin h (bI_br (fun q => k49 _ _ h2 ?_) (fun q => sm_isRoom (bI_br (fun q2 => k49 _ _ h2 ?_) (fun q2 => k49 _ _ h2 ?_))))⟩
    · have q : pIn g 0 (f 9 - 1) = false := q
      rw [q]; rfl
    · rw [q2, Bool.and_false]; rfl
    · have q : pIn g 0 (f 9 - 1) = true := q
      rw [q, q2]; rfl
  unfold wp_X3_hires wp_X3_hires_25
  refine sm_isIn (bI_br (fun q => k26 _ ?_) (fun q => sm_isIn (bI_br (fun q2 => k26 _ ?_) (fun q2 => k26 _ ?_))))
  · rw [q]; rfl
  · rw [q2, Bool.and_false]; rfl
  · rw [q, q2]; rfl
theorem sm_funds (h : mSt G0 m B G I (mar V 0 f)) {x : Int32} {K : Int32 → gS → Prop} (k : ∀ G', mSt G0 m B G' (upd I 14 (oFund x f).1) (mar V 0 (qV (oFund x f) f)) → K (qA (oFund x f)) G') : wp_X3_funds ad G m x X K := by
  unfold wp_X3_funds
  refine sm_isIn ⟨h.is, sm_goes2 h rfl (oFund x f) rfl k fun q q0 G' h' => ?_⟩
  rw [qV_0 q0, qA_0 q0] at k
  refine mRw0 h' (i := 1) (j := 1) (w := fun y => y + x) rfl (by decide) fun G2 h2 => mRw0 h2 (i := 2) (j := 2) (w := fun y => y + x) rfl (by decide) fun G3 h3 => mRd0 h3 (i := 1) (j := 1) rfl (by decide) ?_
  rw [upd_ne (by omega : 2 ≠ 1)] at h3
  rw [upd_ne (by omega : 1 ≠ 2), upd_self]
  exact k G3 h3
theorem sm_spends (h : mSt G0 m B G I (mar V 0 f)) {x : Int32} {K : Int32 → gS → Prop} (k : ∀ G', mSt G0 m B G' (upd I 14 (oSpend x f).1) (mar V 0 (qV (oSpend x f) f)) → K (qA (oSpend x f)) G') : wp_X3_spends ad G m x X K := by
  have key : ∀ y, y = bI (decide (x ≤ f 1)) → wp_X3_spends_24 ad X K G m x y (bI (pIn x 1 999)) m := by
    intro y hy
    unfold wp_X3_spends_24
    refine ⟨h.is, sm_hold2 h rfl hy (c := true) rfl (d := true) rfl (oSpend x f) rfl k fun q q0 G' h' => ?_⟩
    rw [qV_0 q0, qA_0 q0] at k
    refine mRw0 h' (i := 1) (j := 1) (w := fun y => y - x) rfl (by decide) fun G2 h2 => mRw0 h2 (i := 3) (j := 3) (w := fun y => y + x) rfl (by decide) fun G3 h3 => mRd0 h3 (i := 1) (j := 1) rfl (by decide) ?_
    rw [upd_ne (by omega : 3 ≠ 1)] at h3
    rw [upd_ne (by omega : 1 ≠ 3), upd_self]
    exact k G3 h3
  unfold wp_X3_spends
  refine sm_isIn (mRd0 h (i := 1) (j := 1) rfl (by decide) ⟨fun q => key _ ?_, fun q => key _ ?_⟩)
  · rw [decide_eq_false (fun q2 => absurd q2 (Int32.not_le.mpr q))]; rfl
  · rw [decide_eq_true (Int32.not_lt.mp q)]; rfl
theorem sm_lends (h : mSt G0 m B G I (mar V 0 f)) (hw : hW f) {g x : Int32} {K : Int32 → gS → Prop} (k : ∀ G', mSt G0 m B G' (upd I 14 (oLend g x f).1) (mar V 0 (qV (oLend g x f) f)) → K (qA (oLend g x f)) G') : wp_X3_lends ad G m g x X K := by
  have key : ∀ z y, z = bI (pIn x 1 99) → y = bI (pIn x 1 99 && (decide (x ≤ f 1) && decide (f (28 + 5 * pGi f g) + x ≤ 200))) → wp_X3_lends_41 ad X K G m g x z y := by
    intro z y hz hy
    unfold wp_X3_lends_41
    refine ⟨h.is, sm_isGoblin h ⟨h.is, sm_hold2 h rfl hz hy (d := true) rfl (oLend g x f) ?_ k fun q q0 G' h' => ?_⟩⟩
    · show pHolds (pIn g 0 (f 9 - 1)) (pIn x 1 99) (decide (x ≤ f 1) && decide (f (28 + 5 * pGi f g) + x ≤ 200)) true = pHolds (pIn g 0 (f 9 - 1)) (pIn x 1 99) (pIn x 1 99 && (decide (x ≤ f 1) && decide (f (28 + 5 * pGi f g) + x ≤ 200))) true
      cases pIn x 1 99
      · cases (pIn g 0 (f 9 - 1)) <;> rfl
      · rw [Bool.true_and]
    · rw [Bool.and_true, Bool.and_eq_true, Bool.and_eq_true] at q
      obtain ⟨n, hn, rfl, e⟩ := pGi_t hw q.1.1
      rw [qV_0 q0, qA_0 q0] at k
      have h4 := hw.2.1.2
      refine mRw0 h' (i := 1) (j := 1) (w := fun y => y - x) rfl (by decide) fun G2 h2 => ?_
      have hw2 : hW (upd f 1 (f 1 - x)) := hw.pu (by omega) (by omega) (by omega)
      have n2 : n < nG (upd f 1 (f 1 - x)) := by rw [nG, pN, upd_ne (by omega)]; exact hn
      refine mQ h2 m0 ⟨h2.is, sm_placeK h2 hw2 n2 (j := 1) rfl (t := 27 + 5 * n) (by omega) (wNN_of (mLd0 h2 rfl (by omega) (mSa0 h2 rfl (by omega) fun G3 h3 => ?_)))⟩
      rw [upd_ne (by omega)] at h3
      have hw3 : hW (upd (upd f 1 (f 1 - x)) (27 + 5 * n) (f (27 + 5 * n) + x)) := hw2.pu (by omega) (by omega) (by omega)
      have n3 : n < nG (upd (upd f 1 (f 1 - x)) (27 + 5 * n) (f (27 + 5 * n) + x)) := by rw [nG, pN, upd_ne (by omega)]; exact n2
      refine mQ h3 m0 ⟨h3.is, sm_placeK h3 hw3 n3 (j := 2) rfl (t := 28 + 5 * n) (by omega) (wNN_of (mLd0 h3 rfl (by omega) (mSa0 h3 rfl (by omega) fun G4 h4 => ?_)))⟩
      rw [upd_ne (by omega), upd_ne (by omega)] at h4
      have hw4 : hW (upd (upd (upd f 1 (f 1 - x)) (27 + 5 * n) (f (27 + 5 * n) + x)) (28 + 5 * n) (f (28 + 5 * n) + x)) := hw3.pu (by omega) (by omega) (by omega)
      have n4 : n < nG (upd (upd (upd f 1 (f 1 - x)) (27 + 5 * n) (f (27 + 5 * n) + x)) (28 + 5 * n) (f (28 + 5 * n) + x)) := by rw [nG, pN, upd_ne (by omega)]; exact n3
      refine ⟨h4.is, sm_ofK h4 hw4 n4 (j := 2) rfl (by omega) (t := 28 + 5 * n) (by omega) ?_⟩
      rw [mar_self, upd_self]
      have kk := k G4 (by show mSt _ _ _ _ _ (mar V 0 (pLend f (pGi f (nI n)) x)); rw [e]; exact h4)
      have kk : K (f (28 + 5 * pGi f (nI n)) + x) G4 := kk
      rw [e] at kk
      exact kk
  unfold wp_X3_lends wp_X3_lends_40
  refine sm_isIn (bI_br (fun q => key _ _ (by rw [q]) (by rw [q]; rfl)) (fun q => mRd0 h (i := 1) (j := 1) rfl (by decide) ⟨fun q2 => key _ _ rfl ?_, fun q2 => ⟨h.is, sm_of h hw (j := 2) rfl (by omega) (t := 28 + 5 * pGi f g) (by show 26 + 5 * pGi f g + 2 = _; omega) ⟨fun q3 => key _ _ rfl ?_, fun q3 => key _ _ rfl ?_⟩⟩⟩))
  · rw [decide_eq_false (fun q3 => absurd q3 (Int32.not_le.mpr q2)), Bool.false_and, Bool.and_false]; rfl
  · have q3 : ¬ f (28 + 5 * pGi f g) + x ≤ 200 := Int32.not_le.mpr q3
    rw [decide_eq_false q3, Bool.and_false, Bool.and_false]; rfl
  · have q3 : f (28 + 5 * pGi f g) + x ≤ 200 := Int32.not_lt.mp q3
    rw [decide_eq_true (Int32.not_lt.mp q2), decide_eq_true q3, q]; rfl
theorem pDrop_lo {w j : Nat} (h : j ≠ 11) (h2 : j < 51 + 5 * w) : pDrop f w j = f j := by
  simp only [pDrop]
  rw [if_neg h, if_neg (by omega)]
theorem pDrop_11 {w : Nat} : pDrop f w 11 = f 11 - 1 := by simp [pDrop]
theorem sm_drops (h : mSt G0 m B G I (mar V 0 f)) {w : Nat} (hw : w < 8) {K : gS → Prop} (k : ∀ G', mSt G0 m B G' I (mar V 0 (pDrop f w)) → K G') : wp_X3_drops ad G m (nI w) X K := by
  unfold wp_X3_drops
  have e0 : (51 : Int32) + (5 : Int32) * nI w = nI (51 + 5 * w) := by rw [show (51 : Int32) = nI 51 from rfl, show (5 : Int32) = nI 5 from rfl, nI_mul, nI_add]
  rw [e0]
  refine gLoop_up 86 (fun n (ff : gS → Nat → Int32 → Prop) => 51 + 5 * w ≤ n → ∀ G, mSt G0 m B G I (mar V 0 (fun j => if 51 + 5 * w ≤ j ∧ j < n then f (j + 5) else f j)) → ff G m (nI n)) ?_ gFuel (51 + 5 * w) (by omega) (gFuel_lt (by omega)) (Nat.le_refl _) G (by rw [show (fun j => if 51 + 5 * w ≤ j ∧ j < 51 + 5 * w then f (j + 5) else f j) = f from by funext j; rw [if_neg (by omega)]]; exact h)
  intro n ff hn hs hle G h
  unfold wp_X3_drops_7
  by_cases e : n = 86
  · subst e
    refine brT (by decide) ?_
    unfold wp_X3_drops_33
    refine mRw0 h (i := 11) (j := 11) (w := fun x => x - 1) rfl (by decide) fun G' h' => k G' ?_
    have e2 : upd (fun j => if 51 + 5 * w ≤ j ∧ j < 86 then f (j + 5) else f j) 11 ((if 51 + 5 * w ≤ 11 ∧ 11 < 86 then f (11 + 5) else f 11) - 1) = pDrop f w := by
      funext j
      simp only [upd, pDrop]
      rw [if_neg (by omega : ¬ (51 + 5 * w ≤ 11 ∧ 11 < 86))]
    rw [← e2]
    exact h'
  · refine brF (nI_ge (b := 86) (by omega) (by omega)) (mQ h m0 (mRd0 h (ixa (j := 5) rfl rfl) (by omega) (wNN_of (mSa0 h rfl (by omega) fun G' h' => ?_))))
    rw [← nI_succ]
    refine hs (by omega) (by omega) G' ?_
    have e2 : upd (fun j => if 51 + 5 * w ≤ j ∧ j < n then f (j + 5) else f j) n (if 51 + 5 * w ≤ n + 5 ∧ n + 5 < n then f (n + 5 + 5) else f (n + 5)) = (fun j => if 51 + 5 * w ≤ j ∧ j < n + 1 then f (j + 5) else f j) := by
      funext j
      simp only [upd]
      rw [if_neg (by omega : ¬ (51 + 5 * w ≤ n + 5 ∧ n + 5 < n))]
      by_cases hj : j = n
      · subst hj; rw [if_pos rfl, if_pos (by omega)]
      · rw [if_neg hj]
        by_cases h2 : 51 + 5 * w ≤ j ∧ j < n
        · rw [if_pos h2, if_pos (by omega)]
        · rw [if_neg h2, if_neg (by omega)]
    rw [← e2]
    exact h'
theorem pFind_lt {id : Int32} {w : Nat} : ∀ {n : Nat}, pFind f id n = some w → w < n ∧ f (51 + 5 * w) = id
  | 0, h => by cases h
  | n + 1, h => by
    rw [pFind] at h
    split at h
    · rename_i e
      cases h
      exact ⟨Nat.lt_succ_self _, e⟩
    · have := pFind_lt h
      exact ⟨by omega, this.2⟩
theorem oI_ne {o : Option Nat} (h : ∀ w, o = some w → w < 2 ^ 31) : oI o = -1 ↔ o = none := by
  cases o with
  | none => exact ⟨fun _ => rfl, fun _ => rfl⟩
  | some w =>
    refine ⟨fun q => ?_, fun q => by cases q⟩
    have h2 := nI_pos (h w rfl)
    have q : nI w = -1 := q
    rw [q] at h2
    exact absurd (by decide : (-1 : Int32) < 0) h2
/-- the one whom a contract is for -/
theorem sm_cancels (h : mSt G0 m B G I (mar V 0 f)) (hw : hW f) (hc : ∀ w, w < nC f → f (52 + 5 * w) = nI (pN f (52 + 5 * w)) ∧ pN f (52 + 5 * w) < nG f) {id : Int32} {K : Int32 → gS → Prop} (k : ∀ G', mSt G0 m B G' (upd I 14 (oCancel id f).1) (mar V 0 (qV (oCancel id f) f)) → K (qA (oCancel id f)) G') : wp_X3_cancels ad G m id X K := by
  unfold wp_X3_cancels
  have h8 := hw.2.2.2
  have hlt : ∀ w, pFind f id (nC f) = some w → w < 2 ^ 31 := fun w q => by have := (pFind_lt q).1; omega
  have h5 := hw.2.1.2
  refine ⟨h.is, sm_find h hw ⟨fun q => ?_, fun q => ?_⟩⟩
  · have q : oI (pFind f id (nC f)) = -1 := q
    have q2 := (oI_ne hlt).mp q
    unfold wp_X3_cancels_17
    refine ⟨h.is, sm_goes2 h (a := false) rfl (oCancel id f) (by rw [oCancel, q2]; rfl) k (fun q => by cases q)⟩
  · have q : ¬ oI (pFind f id (nC f)) = -1 := q
    cases e : pFind f id (nC f) with
    | none => rw [e] at q; exact absurd rfl q
    | some w =>
      have hwlt := (pFind_lt e).1
      obtain ⟨hg1, hg2⟩ := hc w hwlt
      unfold wp_X3_cancels_17
      refine ⟨h.is, sm_goes2 h (a := true) rfl (oCancel id f) (by rw [oCancel, e]; rfl) k (fun _ q0 G' h' => ⟨h'.is, ?_⟩)⟩
      rw [qV_0 q0, qA_0 q0] at k
      have eq : oCancel id f = (0, pCrumbs f w, pCancel f w) := by rw [oCancel, e]
      rw [eq] at k h'
      have ew : oI (pFind (mar V 0 f 0) id (nC (mar V 0 f 0))) = nI w := by rw [mar_self, e]; rfl
      rw [ew]
      refine sm_ofContract h' (n := w) (by omega) (j := 3) rfl (by omega) (t := 54 + 5 * w) (by omega) (mRd0 h' (i := 1) (j := 1) rfl (by decide) (mRw0 h' (i := 1) (j := 1) (w := fun y => y - pCrumbs f w) rfl (by decide) fun G2 h2 => ?_))
      have hw2 : hW (upd f 1 (f 1 - pCrumbs f w)) := hw.pu (by omega) (by omega) (by omega)
      have n2 : pN f (52 + 5 * w) < nG (upd f 1 (f 1 - pCrumbs f w)) := by rw [nG_upd (by omega)]; exact hg2
      refine mQ h2 m0 ⟨h2.is, sm_ofContract h2 (n := w) (by omega) (j := 1) rfl (by omega) (t := 52 + 5 * w) (by omega) ⟨h2.is, ?_⟩⟩
      rw [mar_self, upd_ne (by omega), hg1]
      refine sm_placeK h2 hw2 n2 (j := 1) rfl (t := 27 + 5 * pN f (52 + 5 * w)) (by omega) (wNN_of (mLd0 h2 rfl (by omega) (mSa0 h2 rfl (by omega) fun G3 h3 => ⟨h3.is, sm_drops h3 (w := w) (by omega) fun G4 h4 => k G4 ?_⟩)))
      rw [upd_ne (by omega)] at h4
      exact h4
end MOD
