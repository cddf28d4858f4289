/-! PURE: a household's ranks and predictions -/
set_option maxRecDepth 20000
theorem pCnt_sub {p q : Nat → Bool} : ∀ n, (∀ b, b < n → p b = true → q b = true) → pCnt p n ≤ pCnt q n
  | 0, _ => Nat.le_refl _
  | n + 1, h => by
    have ih := pCnt_sub n (fun b hb => h b (by omega))
    rw [pCnt, pCnt]
    by_cases e : p n = true
    · rw [if_pos e, if_pos (h n (by omega) e)]; omega
    · rw [if_neg e]; split <;> omega
theorem pCnt_lt {p q : Nat → Bool} {c : Nat} (hp : p c = false) (hq : q c = true) : ∀ n, c < n → (∀ b, b < n → p b = true → q b = true) → pCnt p n < pCnt q n
  | 0, h, _ => absurd h (by omega)
  | n + 1, hc, h => by
    rw [pCnt, pCnt]
    by_cases e : c = n
    · subst e
      have := pCnt_sub c (fun b hb => h b (by omega))
      rw [hp, hq, if_neg (by decide), if_pos rfl]; omega
    · have ih := pCnt_lt hp hq n (by omega) (fun b hb => h b (by omega))
      by_cases e2 : p n = true
      · rw [if_pos e2, if_pos (h n (by omega) e2)]; omega
      · rw [if_neg e2]; split <;> omega
theorem pCnt_inj {R : Nat → Nat → Bool} {n : Nat} (irr : ∀ a, a < n → R a a = false) (tr : ∀ a b c, a < n → b < n → c < n → R a b = true → R b c = true → R a c = true) (tot : ∀ a b, a < n → b < n → a ≠ b → R a b = true ∨ R b a = true) {a b : Nat} (ha : a < n) (hb : b < n) (h : pCnt (R a) n = pCnt (R b) n) : a = b := by
  by_cases e : a = b
  · exact e
  · rcases tot a b ha hb e with q | q
    · have := pCnt_lt (irr b hb) q n hb (fun c hc hx => tr a b c ha hb hc q hx)
      omega
    · have := pCnt_lt (irr a ha) q n ha (fun c hc hx => tr b a c hb ha hc q hx)
      omega
theorem pLast_of {p : Nat → Bool} {a : Nat} (h : p a = true) : ∀ n, a < n → (∀ b, b < n → p b = true → b = a) → pLast p n = some a
  | 0, h, _ => absurd h (by omega)
  | n + 1, ha, hu => by
    rw [pLast]
    by_cases e : p n = true
    · rw [if_pos e, hu n (by omega) e]
    · rw [if_neg e]
      have : a ≠ n := fun z => e (by rw [← z]; exact h)
      exact pLast_of h n (by omega) (fun b hb => hu b (by omega))
theorem pLast_none {p : Nat → Bool} : ∀ n, (∀ b, b < n → p b = false) → pLast p n = none
  | 0, _ => rfl
  | n + 1, h => by
    rw [pLast, h n (by omega), if_neg (by decide)]
    exact pLast_none n (fun b hb => h b (by omega))
section RK
variable {f : pF}
theorem pAhR_iff (hd : jD f) {a b : Nat} (ha : a < 6) (hb : b < 6) : pAhR f a b = true ↔ (pN f (12 + a) < pN f (12 + b) ∨ (pN f (12 + b) = pN f (12 + a) ∧ b < a)) := by
  obtain ⟨a1, a2⟩ := hd a ha
  obtain ⟨b1, b2⟩ := hd b hb
  rw [pAhR, Bool.or_eq_true, Bool.and_eq_true, decide_eq_true_iff, decide_eq_true_iff, decide_eq_true_iff]
  rw [a1, b1]
  rw [nI_ltI (by omega) (by omega), nI_eq (by omega) (by omega)]
theorem pRoom_uniq (hd : jD f) {x : Int32} {a b : Nat} (ha : a < 6) (hb : b < 6) (h1 : nI (pCnt (pAhR f a) 6) = x) (h2 : nI (pCnt (pAhR f b) 6) = x) : a = b := by
  have e : pCnt (pAhR f a) 6 = pCnt (pAhR f b) 6 := by
    have l1 := pCnt_le (p := pAhR f a) 6
    have l2 := pCnt_le (p := pAhR f b) 6
    exact (nI_eq (by omega) (by omega)).mp (h1.trans h2.symm)
  refine pCnt_inj (R := pAhR f) (fun a ha => ?_) (fun a b c ha hb hc h1 h2 => ?_) (fun a b ha hb hne => ?_) ha hb e
  · cases q : pAhR f a a
    · rfl
    · have := (pAhR_iff hd ha ha).mp q; omega
  · have h1 := (pAhR_iff hd ha hb).mp h1
    have h2 := (pAhR_iff hd hb hc).mp h2
    exact (pAhR_iff hd ha hc).mpr (by omega)
  · rw [pAhR_iff hd ha hb, pAhR_iff hd hb ha]
    omega
def pWe (f : pF) (a : Nat) : Int := (pN f (27 + 5 * a) : Int) - pN f (28 + 5 * a)
theorem pRich_toInt (hg : jG f) {a b : Nat} (ha : a < nG f) (hb : b < nG f) : (pRich f a b).toInt = pWe f b - pWe f a := by
  obtain ⟨-, ⟨p1, p2⟩, ⟨d1, d2⟩, -⟩ := hg a ha
  obtain ⟨-, ⟨q1, q2⟩, ⟨e1, e2⟩, -⟩ := hg b hb
  rw [pRich, q1, e1, p1, d1]
  rw [Int32.toInt_add, Int32.toInt_sub, Int32.toInt_sub, nI_toInt (by omega), nI_toInt (by omega), nI_toInt (by omega), nI_toInt (by omega)]
  rw [Int.bmod_eq_of_le (n := (pN f (27 + 5 * b) : Int) - pN f (28 + 5 * b)) (by omega) (by omega)]
  rw [Int.bmod_eq_of_le (n := (pN f (27 + 5 * b) : Int) - pN f (28 + 5 * b) - pN f (27 + 5 * a)) (by omega) (by omega)]
  rw [Int.bmod_eq_of_le (by omega) (by omega)]
  simp only [pWe]
  omega
theorem pStr_toInt (hg : jG f) {a b : Nat} (ha : a < nG f) (hb : b < nG f) : (f (26 + 5 * b) - f (26 + 5 * a)).toInt = (pN f (26 + 5 * b) : Int) - pN f (26 + 5 * a) := by
  obtain ⟨⟨p1, p2⟩, -⟩ := hg a ha
  obtain ⟨⟨q1, q2⟩, -⟩ := hg b hb
  rw [q1, p1]
  exact pk_sub_toInt (by omega) (by omega)
theorem i32_pos {x : Int32} : 0 < x ↔ 0 < x.toInt := by
  rw [Int32.lt_iff_toInt_lt]; rfl
theorem i32_zero {x : Int32} : x = 0 ↔ x.toInt = 0 := by
  rw [← Int32.toInt_inj]; rfl
theorem pAhG_iff (hg : jG f) {a b : Nat} (ha : a < nG f) (hb : b < nG f) : pAhG f a b = true ↔ (pWe f a < pWe f b ∨ (pWe f b = pWe f a ∧ (pN f (26 + 5 * a) < pN f (26 + 5 * b) ∨ (pN f (26 + 5 * b) = pN f (26 + 5 * a) ∧ b < a)))) := by
  rw [pAhG, Bool.or_eq_true, Bool.and_eq_true, Bool.or_eq_true, Bool.and_eq_true, decide_eq_true_iff, decide_eq_true_iff, decide_eq_true_iff, decide_eq_true_iff, decide_eq_true_iff]
  rw [i32_pos, i32_zero, i32_pos, i32_zero, pRich_toInt hg ha hb, pStr_toInt hg ha hb]
  omega
theorem pGob_uniq (hg : jG f) (h5 : nG f ≤ 5) {x : Int32} {a b : Nat} (ha : a < nG f) (hb : b < nG f) (h1 : nI (pCnt (pAhG f a) (nG f)) = x) (h2 : nI (pCnt (pAhG f b) (nG f)) = x) : a = b := by
  have e : pCnt (pAhG f a) (nG f) = pCnt (pAhG f b) (nG f) := by
    have l1 := pCnt_le (p := pAhG f a) (nG f)
    have l2 := pCnt_le (p := pAhG f b) (nG f)
    exact (nI_eq (by omega) (by omega)).mp (h1.trans h2.symm)
  refine pCnt_inj (R := pAhG f) (fun a ha => ?_) (fun a b c ha hb hc h1 h2 => ?_) (fun a b ha hb hne => ?_) ha hb e
  · cases q : pAhG f a a
    · rfl
    · have := (pAhG_iff hg ha ha).mp q; omega
  · have h1 := (pAhG_iff hg ha hb).mp h1
    have h2 := (pAhG_iff hg hb hc).mp h2
    exact (pAhG_iff hg ha hc).mpr (by omega)
  · rw [pAhG_iff hg ha hb, pAhG_iff hg hb ha]
    omega
end RK
section HQ
variable {ad : Nat → Nat} {G0 G : gS} {u h : Nat} {A : hA} {f : Nat → Int32} {X : Nat → gS → Prop}
theorem sp_roomAt (hr : hRep ad G h A f) (hd : jD f) {x : Int32} {K : Int32 → gS → Prop} (k : K (oI (pRoomRank f x)) G) : wp_X2_roomAt ad G h x X K := by
  unfold wp_X2_roomAt
  refine gLoop_up 6 (fun a (ff : gS → Nat → Int32 → Int32 → Prop) => (∀ j, j < a → nI (pCnt (pAhR f j) 6) ≠ x) → ff G h x (nI a)) ?_ gFuel 0 (by omega) (gFuel_lt (by omega)) (fun j hj => absurd hj (by omega))
  intro a ff ha hs hno
  unfold wp_X2_roomAt_2
  by_cases ea : a = 6
  · subst ea
    refine brT (by decide) ?_
    rw [pRoomRank, pLast_none 6 (fun b hb => decide_eq_false (hno b hb))] at k
    exact k
  · refine brF (nI_ge (b := 6) (by omega) (by omega)) ?_
    refine gLoop_up 6 (fun b (fg : gS → Nat → Int32 → Int32 → Int32 → Int32 → Prop) => fg G h x (nI a) (nI (pCnt (pAhR f a) b)) (nI b)) ?_ gFuel 0 (by omega) (gFuel_lt (by omega))
    intro b fg hb hs2
    unfold wp_X2_roomAt_13
    by_cases eb : b = 6
    · subst eb
      refine brT (by decide) ?_
      unfold wp_X2_roomAt_72
      refine ⟨fun q => ?_, fun q => ?_⟩
      · rw [← nI_succ]
        refine hs (by omega) fun j hj => ?_
        by_cases ej : j = a
        · rw [ej]; exact q
        · exact hno j (by omega)
      · rw [pRoomRank, pLast_of (a := a) (decide_eq_true q) 6 (by omega) (fun b hb hp => pRoom_uniq hd hb (by omega) (of_decide_eq_true hp) q)] at k
        exact k
    · have hs2 := hs2 (by omega)
      rw [pCnt] at hs2
      have y1 : pAhR f a b = true → fg G h x (nI a) (nI (pCnt (pAhR f a) b) + 1) (nI b + 1) := fun q => by
        rw [q, if_pos rfl, nI_succ, nI_succ] at hs2; exact hs2
      have y0 : pAhR f a b = false → fg G h x (nI a) (nI (pCnt (pAhR f a) b) + 0) (nI b + 1) := fun q => by
        rw [q, if_neg (by decide), nI_succ] at hs2; rw [Int32.add_zero]; exact hs2
      unfold wp_X2_roomAt_59 wp_X2_roomAt_63 wp_X2_roomAt_64
      refine brF (nI_ge (b := 6) (by omega) (by omega)) (hGetD hr (wNN_of (dLd hr rfl (j := b) (by omega) (hGetD hr (wNN_of (dLd hr rfl (j := a) (by omega) ⟨fun q => y1 ?_, fun q => hGetD hr (wNN_of (dLd hr rfl (j := b) (by omega) (hGetD hr (wNN_of (dLd hr rfl (j := a) (by omega) ⟨fun q2 => y0 ?_, fun q2 => ⟨fun q3 => y0 ?_, fun q3 => y1 ?_⟩⟩)))))⟩))))))
      · rw [pAhR, decide_eq_true q, Bool.true_or]
      · rw [pAhR, decide_eq_false q, decide_eq_false q2]; rfl
      · rw [pAhR, decide_eq_false q, decide_eq_false (fun q4 : b < a => absurd ((nI_leI (by omega) (by omega)).mp q3) (by omega)), Bool.and_false]; rfl
      · rw [pAhR, decide_eq_true q2, decide_eq_true (show b < a from Nat.lt_of_not_le fun q4 => q3 (nI_le q4 (by omega)))]
        simp
theorem sp_isRicher (hr : hRep ad G h A f) {a b : Nat} (ha : a < nG f) (hb : b < nG f) {K : Int32 → gS → Prop} (k : K (bI (pAhG f a b)) G) : wp_X8_isRicherThan ad G (hGa A b) (some (hGa A a)) X K := by
  have h5 := hr.w.2.1.2
  have k1 : pAhG f a b = true → K 1 G := fun q => by rw [q] at k; exact k
  have k0 : pAhG f a b = false → K 0 G := fun q => by rw [q] at k; exact k
  unfold wp_X8_isRicherThan wp_X7_wealth
  refine ⟨gIsG hr hb, gI hr hb rfl (gI hr hb rfl (wNN_of ⟨gIsG hr ha, gI hr ha rfl (gI hr ha rfl ?_)⟩))⟩
  have eR : f (27 + 5 * b) - f (28 + 5 * b) - (f (27 + 5 * a) - f (28 + 5 * a)) = pRich f a b := by
    rw [pRich, Int32.sub_eq_add_neg (f (27 + 5 * b) - f (28 + 5 * b)), Int32.neg_sub, Int32.sub_eq_add_neg (f (28 + 5 * a)), Int32.add_comm (f (28 + 5 * a)), ← Int32.add_assoc, ← Int32.sub_eq_add_neg]
  dsimp only
  rw [eR]
  unfold wp_X8_isRicherThan_27 wp_X8_isRicherThan_47 wp_X6_index
  refine ⟨fun q => ⟨fun q1 => k1 ?_, fun q1 => ⟨fun q2 => k0 ?_, fun q2 => absurd q2 q⟩⟩, fun q => gI hr hb rfl (gI hr ha rfl ⟨fun q1 => k1 ?_, fun q1 => ⟨fun q2 => k0 ?_, fun q2 => ⟨gIsG hr hb, gI hr hb rfl ⟨gIsG hr ha, gI hr ha rfl ⟨fun q3 => k0 ?_, fun q3 => k1 ?_⟩⟩⟩⟩⟩)⟩
  · rw [pAhG, decide_eq_true q1, Bool.true_or]
  · rw [pAhG, decide_eq_false q1, decide_eq_false q]; rfl
  · rw [pAhG, decide_eq_true q, decide_eq_true q1]; simp
  · rw [pAhG, decide_eq_false (fun z => by rw [q] at z; exact absurd z (by decide)), decide_eq_false q1, decide_eq_false q2]; simp
  · rw [pAhG, decide_eq_false (fun z => by rw [q] at z; exact absurd z (by decide)), decide_eq_false q1, decide_eq_false (fun q4 : b < a => absurd ((nI_leI (by omega) (by omega)).mp q3) (by omega))]; simp
  · rw [pAhG, decide_eq_true q, decide_eq_true q2, decide_eq_true (show b < a from Nat.lt_of_not_le fun q4 => q3 (nI_le q4 (by omega)))]; simp
theorem pAhG_self {a : Nat} : pAhG f a a = false := by
  have e1 : pRich f a a = 0 := by
    rw [pRich, Int32.sub_eq_add_neg (f (27 + 5 * a)), Int32.add_comm (f (27 + 5 * a)), Int32.add_sub_cancel, Int32.add_left_neg]
  rw [pAhG, e1, Int32.sub_self, decide_eq_false (by decide : ¬ (0 : Int32) < 0), decide_eq_false (by omega : ¬ a < a)]
  simp
theorem sp_goblinAt (hr : hRep ad G h A f) (hg : jG f) {x : Int32} {K : Int32 → gS → Prop} (k : K (oI (pGobRank f x)) G) : wp_X2_goblinAt ad G h x X K := by
  have h5 := hr.w.2.1.2
  unfold wp_X2_goblinAt
  refine gLoop_up (nG f) (fun a (ff : gS → Nat → Int32 → Int32 → Prop) => (∀ j, j < a → nI (pCnt (pAhG f j) (nG f)) ≠ x) → ff G h x (nI a)) ?_ gFuel 0 (by omega) (gFuel_lt (by omega)) (fun j hj => absurd hj (by omega))
  intro a ff ha hs hno
  unfold wp_X2_goblinAt_2
  refine hSizeG hr ?_
  by_cases ea : a = nG f
  · subst ea
    refine brT (Int32.le_refl _) ?_
    rw [pGobRank, pLast_none (nG f) (fun b hb => decide_eq_false (hno b hb))] at k
    exact k
  · refine brF (nI_ge (by omega) (by omega)) ?_
    refine gLoop_up (nG f) (fun b (fg : gS → Nat → Int32 → Int32 → Int32 → Int32 → Prop) => fg G h x (nI a) (nI (pCnt (pAhG f a) b)) (nI b)) ?_ gFuel 0 (by omega) (gFuel_lt (by omega))
    intro b fg hb hs2
    unfold wp_X2_goblinAt_20
    refine hSizeG hr ?_
    by_cases eb : b = nG f
    · subst eb
      refine brT (Int32.le_refl _) ?_
      unfold wp_X2_goblinAt_87
      refine ⟨fun q => ?_, fun q => ?_⟩
      · rw [← nI_succ]
        refine hs (by omega) fun j hj => ?_
        by_cases ej : j = a
        · rw [ej]; exact q
        · exact hno j (by omega)
      · rw [pGobRank, pLast_of (a := a) (decide_eq_true q) (nG f) (by omega) (fun b hb hp => pGob_uniq hg h5 hb (by omega) (of_decide_eq_true hp) q)] at k
        exact k
    · have hs2 := hs2 (by omega)
      rw [pCnt] at hs2
      have y1 : pAhG f a b = true → fg G h x (nI a) (nI (pCnt (pAhG f a) b) + 1) (nI b + 1) := fun q => by
        rw [q, if_pos rfl, nI_succ, nI_succ] at hs2; exact hs2
      have y0 : pAhG f a b = false → fg G h x (nI a) (nI (pCnt (pAhG f a) b) + 0) (nI b + 1) := fun q => by
        rw [q, if_neg (by decide), nI_succ] at hs2; rw [Int32.add_zero]; exact hs2
      unfold wp_X2_goblinAt_78 wp_X2_goblinAt_79
      refine brF (nI_ge (by omega) (by omega)) ⟨fun q => y0 ?_, fun q => hElG hr rfl (k := b) (by omega) (hElG hr rfl (k := a) (by omega) (wNN_of ⟨gIsG hr (by omega), sp_isRicher hr (a := a) (b := b) (by omega) (by omega) (bI_br y0 y1)⟩))⟩
      have : b = a := (nI_eq (by omega) (by omega)).mp q
      rw [this]
      exact pAhG_self
theorem sp_goblinOf (hr : hRep ad G h A f) {id : Int32} {w : Nat} (hw : pFind f id (nC f) = some w) {K : Int32 → gS → Prop} (k : K (f (52 + 5 * w)) G) : wp_X2_goblinOf ad G h id X K := by
  unfold wp_X2_goblinOf
  refine ⟨hr.is, sp_find hr ?_⟩
  rw [hw]
  exact wNN_of (cI hr (pFind_lt hw).1 rfl k)
theorem sp_wasBroken (hr : hRep ad G h A f) {x : Int32} {g : Nat} (hg : g < nG f) {K : Int32 → gS → Prop} (k : K (bI (decide (x < f 5) && decide (f (30 + 5 * g) = 1))) G) : wp_X2_wasBroken ad G h x (nI g) X K := by
  unfold wp_X2_wasBroken
  refine hGetI hr (by decide) ⟨fun q => ?_, fun q => hElG hr rfl hg (wNN_of (gI hr hg rfl ⟨fun q2 => ?_, fun q2 => ?_⟩))⟩
  · have q : f 5 ≤ x := q
    rw [decide_eq_false (Int32.not_lt.mpr q), Bool.false_and] at k
    exact k
  · have q2 : f (30 + 5 * g) = 0 := q2
    rw [q2, decide_eq_false (by decide : ¬ (0 : Int32) = 1), Bool.and_false] at k
    exact k
  · have q : ¬ f 5 ≤ x := q
    have q2 : f (30 + 5 * g) = 1 := (hr.2.2.2.2.2.1 g hg).2.resolve_left q2
    rw [q2, decide_eq_true (Int32.not_le.mp q), decide_eq_true rfl] at k
    exact k
theorem sp_nightsUntilDone (hr : hRep ad G h A f) (hb : gB4 ad G) {c : Nat} (hi : hI f c) (hR : rm G 60) {id : Int32} {w : Nat} (hw : pFind f id (nC f) = some w) {K : Int32 → gS → Prop} (k : ∀ G', gTo (fun _ => False) 50 500 G G' → K (pUntil f id 60 1 f) G') : wp_X2_nightsUntilDone ad G h id X K := by
  have h8 := hr.w.2.2.2
  obtain ⟨⟨g1, g2⟩, -⟩ := hi.1.k.2 w (pFind_lt hw).1
  unfold wp_X2_nightsUntilDone
  refine ⟨hr.is, sp_X2_copy hr hb hR fun G1 l A1 hc1 => ?_⟩
  refine gLoop_up 60 (fun r (ff : gS → Nat → Int32 → Option Nat → Int32 → Prop) => ∀ G' A' u' F, HC ad G u' G' l A' F → hI F c → nG F = nG f → u' + nC F ≤ 40 + nC f → pUntil f id (60 - r) (r + 1) F = pUntil f id 60 1 f → ff G' h id (some l) (nI (r + 1))) ?_ gFuel 0 (by omega) (gFuel_lt (by omega)) G1 A1 40 f hc1 hi rfl (Nat.le_refl _) rfl
  intro r ff hr2 hs G' A' u' F hc hiF hnG hu hun
  unfold wp_X2_nightsUntilDone_7
  by_cases e : r = 60
  · subst e
    refine brT (by decide) ?_
    have := k G' (hc.2.2.mono (fun b q => Or.inr q) (by omega) (by omega))
    rw [← hun] at this
    exact this
  · obtain ⟨r', hr'⟩ : ∃ r', 60 - r = r' + 1 := ⟨59 - r, by omega⟩
    have er' : 60 - (r + 1) = r' := by omega
    rw [hr', pUntil] at hun
    have hs := hs (by omega)
    rw [er'] at hs
    refine brF (nI_nlt (b := r + 1) (a := 60) (by omega) (by omega)) (wNN_of (hGetI hc.1 (by decide) ⟨hc.1.is, sp_pass hc hb hiF (hR.le (by omega)) (n := 1) (by omega) fun G2 A2 u2 hu2 hA2 hc2 => ⟨hc2.1.is, sp_find hc2.1 ?_⟩⟩))
    have eN : pNights 1 F = pNight F := rfl
    rw [eN] at hc2 hu2 ⊢
    have gN : nG (pNight F) = nG f := (pNight_ok hiF.1.k).2.1.trans hnG
    cases q : pFind (pNight F) id (nC (pNight F)) with
    | none =>
      rw [if_pos q] at hun
      refine oN ?_
      unfold wp_X2_nightsUntilDone_32
      refine ⟨(hc2.src hr).is, sp_goblinOf (hc2.src hr) hw ⟨hc2.1.is, ?_⟩⟩
      rw [g1]
      have t2 := hc2.2.2.mono (T' := fun _ => False) (n' := 50) (m' := 500) (fun b q => Or.inr q) (by omega) (by omega)
      have k2 := k G2 t2
      rw [← hun] at k2
      have ew : pWas f F (pNight F) id = (decide (F 5 < pNight F 5) && decide (pNight F (30 + 5 * pN f (52 + 5 * w)) = 1)) := by rw [pWas, hw]
      rw [ew] at k2
      refine sp_wasBroken hc2.1 (by rw [gN]; exact g2) (bI_br (fun z => ?_) (fun z => ?_))
      · have z : (decide (F 5 < pNight F 5) && decide (pNight F (30 + 5 * pN f (52 + 5 * w)) = 1)) = false := z
        rw [z, if_neg (by decide)] at k2
        exact k2
      · have z : (decide (F 5 < pNight F 5) && decide (pNight F (30 + 5 * pN f (52 + 5 * w)) = 1)) = true := z
        rw [z, if_pos rfl] at k2
        exact k2
    | some w2 =>
      rw [if_neg (by rw [q]; intro z; cases z)] at hun
      refine oS ?_
      rw [← nI_succ]
      exact hs G2 A2 u2 (pNight F) hc2 hiF.night.1 gN (by omega) hun
theorem sp_after (hr : hRep ad G h A f) (hb : gB4 ad G) {c : Nat} (hi : hI f c) (hR : rm G 60) {n : Nat} (hn : n ≤ 60) {K : Option Nat → gS → Prop} (k : ∀ G' l A', HC ad G 50 G' l A' (pNights n f) → K (some l) G') : wp_X2_after ad G h (nI n) X K := by
  have h8 := hr.w.2.2.2
  unfold wp_X2_after
  exact ⟨hr.is, sp_X2_copy hr hb hR fun G1 l A1 hc1 => wNN_of ⟨hc1.1.is, sp_pass hc1 hb hi (hR.le (by omega)) hn fun G2 A2 u2 hu2 hA2 hc2 => k G2 l A2 (hc2.mono (by omega))⟩⟩
end HQ
