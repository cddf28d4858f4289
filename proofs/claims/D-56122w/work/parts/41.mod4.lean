/-! PURE: the model's questions -/
set_option maxRecDepth 20000
def pLast (p : Nat → Bool) : Nat → Option Nat
  | 0 => none
  | n + 1 => if p n then some n else pLast p n
def pCnt (p : Nat → Bool) : Nat → Nat
  | 0 => 0
  | n + 1 => pCnt p n + (if p n then 1 else 0)
theorem pCnt_le {p : Nat → Bool} : ∀ n, pCnt p n ≤ n
  | 0 => Nat.le_refl _
  | n + 1 => by
    have := pCnt_le (p := p) n
    rw [pCnt]
    split <;> omega
/-- room b is ahead of room a -/
def pAhR (f : pF) (a b : Nat) : Bool := decide (f (12 + a) < f (12 + b)) || (decide (f (12 + b) = f (12 + a)) && decide (b < a))
def pRoomRank (f : pF) (x : Int32) : Option Nat := pLast (fun a => decide (nI (pCnt (pAhR f a) 6) = x)) 6
def pRich (f : pF) (a b : Nat) : Int32 := f (27 + 5 * b) - f (28 + 5 * b) - f (27 + 5 * a) + f (28 + 5 * a)
def pAhG (f : pF) (a b : Nat) : Bool := decide (0 < pRich f a b) || (decide (pRich f a b = 0) && (decide (0 < f (26 + 5 * b) - f (26 + 5 * a)) || (decide (f (26 + 5 * b) - f (26 + 5 * a) = 0) && decide (b < a))))
def pGobRank (f : pF) (x : Int32) : Option Nat := pLast (fun a => decide (nI (pCnt (pAhG f a) (nG f)) = x)) (nG f)
def pBest (f : pF) (g : Int32) : Nat → Nat → Int32
  | 0, _ => 0
  | k + 1, e => if f (52 + 5 * k) = g ∧ pN f (55 + 5 * k) ≤ e then (if pBest f g k e < f (54 + 5 * k) + pBest f g k (e - pN f (55 + 5 * k)) then f (54 + 5 * k) + pBest f g k (e - pN f (55 + 5 * k)) else pBest f g k e) else pBest f g k e
def pWas (f F F' : pF) (id : Int32) : Bool := decide (F 5 < F' 5) && (match pFind f id (nC f) with
  | none => false
  | some w => decide (F' (30 + 5 * pN f (52 + 5 * w)) = 1))
def pUntil (f : pF) (id : Int32) : Nat → Nat → pF → Int32
  | 0, _, _ => -1
  | r + 1, t, F => if pFind (pNight F) id (nC (pNight F)) = none then (if pWas f F (pNight F) id then -1 else nI t) else pUntil f id r (t + 1) (pNight F)
def pPurses (f : pF) : Nat → Int32
  | 0 => f 1
  | k + 1 => pPurses f k + f (27 + 5 * k)
def pDustSum (f : pF) : Nat → Int32
  | 0 => 0
  | k + 1 => pDustSum f k + f (12 + k)
section MOD
variable {ad : Nat → Nat} {G0 G : gS} {m : Nat} {B : Nat → Nat} {I : Nat → Int32} {V : Nat → Nat → Int32} {X : Nat → gS → Prop} {f : pF}
theorem sm_goes3 (h : mSt G0 m B G I V) {a : Bool} {x : Int32} (hx : x = bI a) {A A0 : gS → Prop} (k0 : a = false → ∀ G', mSt G0 m B G' (upd I 14 1) V → A0 G') (k : a = true → ∀ G', mSt G0 m B G' (upd I 14 0) V → A G') :
    wp_X3_goes ad G m x X (fun r G1 => (r = (0 : Int32) → A0 G1) ∧ (¬ r = (0 : Int32) → A G1)) := by
  refine sm_goes h hx fun G' h' => bI_br (fun q => k0 q G' ?_) (fun q => k q G' ?_)
  · subst q; exact h'
  · subst q; exact h'
theorem sm_goes3' (h : mSt G0 m B G I V) {a : Bool} {x : Int32} (hx : x = bI a) {A A0 : gS → Prop} (k0 : a = false → ∀ G', mSt G0 m B G' (upd I 14 1) V → A0 G') (k : a = true → ∀ G', mSt G0 m B G' (upd I 14 0) V → A G') :
    wp_X3_goes ad G m x X (fun r G1 => (¬ r = (0 : Int32) → A G1) ∧ (r = (0 : Int32) → A0 G1)) := by
  refine sm_goes h hx fun G' h' => bI_br' (fun q => k q G' ?_) (fun q => k0 q G' ?_)
  · subst q; exact h'
  · subst q; exact h'
/-- a question with one condition -/
def mAns (ad : Nat → Nat) (G0 : gS) (m : Nat) (B : Nat → Nat) (I : Nat → Int32) (V : Nat → Nat → Int32) (a : Bool) (v : Int32) (K : Int32 → gS → Prop) : Prop := (a = false → ∀ G', mSt G0 m B G' (upd I 14 1) V → K 0 G') ∧ (a = true → ∀ G', mSt G0 m B G' (upd I 14 0) V → K v G')
theorem sm_dust (h : mSt G0 m B G I (mar V 0 f)) {x : Int32} {K : Int32 → gS → Prop} (k : mAns ad G0 m B I (mar V 0 f) (pIn x 0 5) (f (12 + x.toNatClampNeg)) K) : wp_X3_dust ad G m x X K := by
  unfold wp_X3_dust
  refine sm_isRoom ⟨h.is, sm_goes3 h rfl k.1 fun q G' h' => ?_⟩
  have k2 := k.2 q G' h'
  obtain ⟨n, -, hn, rfl⟩ := pIn_n (a := 0) (b := 5) rfl rfl (by omega) (by omega) q
  rw [nI_clamp (by omega)] at k2
  exact mRd0 h' (by rw [show (12 : Int32) = nI 12 from rfl, nI_add]) (by omega) k2
theorem sm_count (h : mSt G0 m B G I (mar V 0 f)) {i : Int32} {j : Nat} (hi : i = nI j) (hj : j < 91) {K : Int32 → gS → Prop} (k : ∀ G', mSt G0 m B G' (upd I 14 0) (mar V 0 f) → K (f j) G') : wPut G m 0 14 (.int (0 : Int32)) fun G1 => wGetQ G1 m 0 0 fun q2 => wNN q2 fun c3 => wAldI G1 c3 i fun i4 => K i4 G1 :=
  mPut h (by decide) fun G' h' => mRd0 h' hi hj (k G' h')
theorem sm_total (h : mSt G0 m B G I (mar V 0 f)) {i : Int32} {j : Nat} (hi : i = nI j) (hj : j < 91) {K : Int32 → gS → Prop} (k : ∀ G', mSt G0 m B G' (upd I 14 0) (mar V 0 f) → K (f j) G') : wp_X3_total ad G m i X K := sm_count h hi hj k
theorem sm_power (h : mSt G0 m B G I (mar V 0 f)) (hw : hW f) {x : Int32} {K : Int32 → gS → Prop} (k : mAns ad G0 m B I (mar V 0 f) (pIn x 0 (f 8 - 1)) (f (18 + 2 * pBi f x)) K) : wp_X3_power ad G m x X K := by
  unfold wp_X3_power
  exact ⟨h.is, sm_isBroom h ⟨h.is, sm_goes3 h rfl k.1 fun q G' h' => ⟨h'.is, sm_ofBroom h' hw (j := 0) rfl (by omega) (t := 18 + 2 * pBi f x) (by show 18 + 2 * pBi f x + 0 = _; omega) (k.2 q G' h')⟩⟩⟩
theorem sm_isBanished (h : mSt G0 m B G I (mar V 0 f)) (hw : hW f) {x : Int32} {K : Int32 → gS → Prop} (k : mAns ad G0 m B I (mar V 0 f) (pIn x 0 (f 8 - 1)) (bI (decide (f (19 + 2 * pBi f x) = 1))) K) : wp_X3_isBanished ad G m x X K := by
  unfold wp_X3_isBanished
  refine ⟨h.is, sm_isBroom h ⟨h.is, sm_goes3 h rfl k.1 fun q G' h' => ⟨h'.is, sm_ofBroom h' hw (j := 1) rfl (by omega) (t := 19 + 2 * pBi f x) (by show 18 + 2 * pBi f x + 1 = _; omega) ⟨fun q2 => ?_, fun q2 => ?_⟩⟩⟩⟩
  · exact bI_get0 (P := fun x => K x G') (k.2 q G' h') (decide_eq_false q2)
  · exact bI_get (P := fun x => K x G') (k.2 q G' h') (decide_eq_true q2)
theorem sm_asks (h : mSt G0 m B G I (mar V 0 f)) (hw : hW f) {g x : Int32} {j : Nat} (hx : x = nI j) (hj : j < 5) {K : Int32 → gS → Prop} (k : mAns ad G0 m B I (mar V 0 f) (pIn g 0 (f 9 - 1)) (f (26 + j + 5 * pGi f g)) K) : wp_X3_asks ad G m g x X K := by
  unfold wp_X3_asks
  exact ⟨h.is, sm_isGoblin h ⟨h.is, sm_goes3 h rfl k.1 fun q G' h' => ⟨h'.is, sm_of h' hw hx hj (t := 26 + j + 5 * pGi f g) (by show 26 + 5 * pGi f g + j = _; omega) (k.2 q G' h')⟩⟩⟩
theorem sm_isResting (h : mSt G0 m B G I (mar V 0 f)) (hw : hW f) {g : Int32} {K : Int32 → gS → Prop} (k : mAns ad G0 m B I (mar V 0 f) (pIn g 0 (f 9 - 1)) (bI (decide (f (30 + 5 * pGi f g) = 1))) K) : wp_X3_isResting ad G m g X K := by
  unfold wp_X3_isResting
  refine ⟨h.is, sm_asks h hw (j := 4) rfl (by omega) ⟨fun q G' h' => ⟨fun _ => k.1 q G' h', fun q2 => absurd q2 (by decide)⟩, fun q G' h' => ⟨fun q2 => ?_, fun q2 => ?_⟩⟩⟩
  · exact bI_get0 (P := fun x => K x G') (k.2 q G' h') (decide_eq_false q2)
  · exact bI_get (P := fun x => K x G') (k.2 q G' h') (decide_eq_true q2)
theorem sm_energy (h : mSt G0 m B G I (mar V 0 f)) (hw : hW f) {g : Int32} {K : Int32 → gS → Prop} (k : mAns ad G0 m B I (mar V 0 f) (pIn g 0 (f 9 - 1)) (pEnergy f (pGi f g)) K) : wp_X3_energy ad G m g X K := by
  unfold wp_X3_energy
  refine ⟨h.is, sm_isGoblin h ⟨h.is, sm_goes3 h rfl k.1 fun q G' h' => ⟨h'.is, ?_⟩⟩⟩
  have k2 := k.2 q G' h'
  obtain ⟨n, hn, rfl, e⟩ := pGi_t hw q
  rw [e] at k2
  exact sm_energyOf h' hw hn k2
theorem sm_roomByDust (h : mSt G0 m B G I (mar V 0 f)) (hd : ∀ j, j < 6 → nn f (12 + j) 99) {x : Int32} {K : Int32 → gS → Prop} (k : mAns ad G0 m B I (mar V 0 f) (decide (pRoomRank f x ≠ none)) (oI (pRoomRank f x)) K) : wp_X3_roomByDust ad G m x X K := by
  have fin : ∀ o, o = oI (pRoomRank f x) → wp_X3_roomByDust_95 ad X K G m o := by
    rintro o rfl
    have hlt : ∀ (p : Nat → Bool) n w, pLast p n = some w → w < n := by
      intro p n
      induction n with
      | zero => intro w q; cases q
      | succ n ih =>
        intro w q
        rw [pLast] at q
        split at q
        · cases q; omega
        · have := ih w q; omega
    have e := oI_ne (o := pRoomRank f x) (fun w q => by have := hlt _ _ _ q; omega)
    have go : ∀ y, y = bI (decide (pRoomRank f x ≠ none)) → wp_X3_roomByDust_106 ad X K G (oI (pRoomRank f x)) y m := by
      intro y hy
      unfold wp_X3_roomByDust_106
      exact ⟨h.is, sm_goes3 h hy k.1 k.2⟩
    unfold wp_X3_roomByDust_95
    refine ⟨fun q => go _ ?_, fun q => go _ ?_⟩
    · rw [decide_eq_false (fun q2 => q2 (e.mp q))]; rfl
    · rw [decide_eq_true (show pRoomRank f x ≠ none from fun q2 => q (e.mpr q2))]; rfl
  unfold wp_X3_roomByDust
  refine gLoop_up 6 (fun a (ff : gS → Nat → Int32 → Int32 → Int32 → Prop) => ff G m x (oI (pLast (fun a => decide (nI (pCnt (pAhR f a) 6) = x)) a)) (nI a)) ?_ gFuel 0 (by omega) (gFuel_lt (by omega))
  intro a ff ha hs
  unfold wp_X3_roomByDust_4
  by_cases ea : a = 6
  · subst ea
    exact brT (by decide) (fin _ rfl)
  · refine brF (nI_ge (b := 6) (by omega) (by omega)) ?_
    have hs := hs (by omega)
    rw [pLast] at hs
    refine gLoop_up 6 (fun b (fg : gS → Nat → Int32 → Int32 → Int32 → Int32 → Int32 → Prop) => fg G m x (oI (pLast (fun a => decide (nI (pCnt (pAhR f a) 6) = x)) a)) (nI a) (nI (pCnt (pAhR f a) b)) (nI b)) ?_ gFuel 0 (by omega) (gFuel_lt (by omega))
    intro b fg hb hs2
    unfold wp_X3_roomByDust_16
    by_cases eb : b = 6
    · subst eb
      refine brT (by decide) ?_
      unfold wp_X3_roomByDust_77 wp_X3_roomByDust_88
      rw [← nI_succ]
      refine ⟨fun q => ?_, fun q => ?_⟩
      · rw [decide_eq_false q] at hs; exact hs
      · rw [decide_eq_true q] at hs; exact hs
    · have hs2 := hs2 (by omega)
      rw [pCnt] at hs2
      have e12 : ∀ n : Nat, (12 : Int32) + nI n = nI (12 + n) := fun n => by rw [show (12 : Int32) = nI 12 from rfl, nI_add]
      refine brF (nI_ge (b := 6) (by omega) (by omega)) (mRd0 h (e12 b) (by omega) (mRd0 h (e12 a) (by omega) ?_))
      obtain ⟨xa1, xa2⟩ := hd a (by omega)
      obtain ⟨xb1, xb2⟩ := hd b (by omega)
      have hgt : (0 < f (12 + b) - f (12 + a)) ↔ f (12 + a) < f (12 + b) := by
        rw [xa1, xb1, Int32.lt_iff_toInt_lt, Int32.lt_iff_toInt_lt, nI_toInt (by omega), nI_toInt (by omega)]
        have : (nI (pN f (12 + b)) - nI (pN f (12 + a))).toInt = (pN f (12 + b) : Int) - pN f (12 + a) := by
          rw [Int32.toInt_sub, nI_toInt (by omega), nI_toInt (by omega)]
          rw [Int.bmod_eq_of_le (by omega) (by omega)]
        rw [this]
        show (0 : Int) < _ ↔ _
        omega
      have heq : (f (12 + b) - f (12 + a) = 0) ↔ f (12 + b) = f (12 + a) := ⟨fun q => by rw [← Int32.sub_add_cancel (f (12 + b)) (f (12 + a)), q, Int32.zero_add], fun q => by rw [q, Int32.sub_self]⟩
      have y1 : pAhR f a b = true → fg G m x (oI (pLast (fun a => decide (nI (pCnt (pAhR f a) 6) = x)) a)) (nI a) (nI (pCnt (pAhR f a) b) + 1) (nI b + 1) := fun q => by
        rw [q, if_pos rfl, nI_succ, nI_succ] at hs2; exact hs2
      have y0 : pAhR f a b = false → fg G m x (oI (pLast (fun a => decide (nI (pCnt (pAhR f a) 6) = x)) a)) (nI a) (nI (pCnt (pAhR f a) b) + 0) (nI b + 1) := fun q => by
        rw [q, if_neg (by decide), nI_succ] at hs2; rw [Int32.add_zero]; exact hs2
      unfold wp_X3_roomByDust_63 wp_X3_roomByDust_67 wp_X3_roomByDust_68
      refine ⟨fun q => y1 ?_, fun q => ⟨fun q2 => y0 ?_, fun q2 => ⟨fun q3 => y0 ?_, fun q3 => y1 ?_⟩⟩⟩
      · rw [pAhR, decide_eq_true (hgt.mp q), Bool.true_or]
      · rw [pAhR, decide_eq_false (fun q4 => q (hgt.mpr q4)), decide_eq_false (fun q4 => q2 (heq.mpr q4))]; rfl
      · rw [pAhR, decide_eq_false (fun q4 => q (hgt.mpr q4)), decide_eq_false (fun q4 : b < a => absurd ((nI_leI (by omega) (by omega)).mp q3) (by omega)), Bool.and_false]; rfl
      · rw [pAhR, decide_eq_true (heq.mp q2), decide_eq_true (show b < a from Nat.lt_of_not_le fun q4 => q3 (nI_le q4 (by omega)))]
        simp
theorem sm_goblinByWealth (h : mSt G0 m B G I (mar V 0 f)) (hw : hW f) {x : Int32} {K : Int32 → gS → Prop} (k : mAns ad G0 m B I (mar V 0 f) (decide (pGobRank f x ≠ none)) (oI (pGobRank f x)) K) : wp_X3_goblinByWealth ad G m x X K := by
  have h5 := hw.2.1.2
  have fin : ∀ o, o = oI (pGobRank f x) → wp_X3_goblinByWealth_140 ad X K G m o := by
    rintro o rfl
    have hlt : ∀ (p : Nat → Bool) n w, pLast p n = some w → w < n := by
      intro p n
      induction n with
      | zero => intro w q; cases q
      | succ n ih =>
        intro w q
        rw [pLast] at q
        split at q
        · cases q; omega
        · have := ih w q; omega
    have e := oI_ne (o := pGobRank f x) (fun w q => by have := hlt _ _ _ q; omega)
    have go : ∀ y, y = bI (decide (pGobRank f x ≠ none)) → wp_X3_goblinByWealth_151 ad X K G (oI (pGobRank f x)) y m := by
      intro y hy
      unfold wp_X3_goblinByWealth_151
      exact ⟨h.is, sm_goes3 h hy k.1 k.2⟩
    unfold wp_X3_goblinByWealth_140
    refine ⟨fun q => go _ ?_, fun q => go _ ?_⟩
    · rw [decide_eq_false (fun q2 => q2 (e.mp q))]; rfl
    · rw [decide_eq_true (show pGobRank f x ≠ none from fun q2 => q (e.mpr q2))]; rfl
  unfold wp_X3_goblinByWealth
  refine gLoop_up (nG f) (fun a (ff : gS → Nat → Int32 → Int32 → Int32 → Prop) => ff G m x (oI (pLast (fun a => decide (nI (pCnt (pAhG f a) (nG f)) = x)) a)) (nI a)) ?_ gFuel 0 (by omega) (gFuel_lt (by omega))
  intro a ff ha hs
  unfold wp_X3_goblinByWealth_4
  refine mRd0 h (i := 9) (j := 9) rfl (by decide) ?_
  rw [hw.2.1.1]
  by_cases ea : a = nG f
  · subst ea
    exact brT (Int32.le_refl _) (fin _ rfl)
  · refine brF (nI_ge (by omega) (by omega)) ?_
    have hs := hs (by omega)
    rw [pLast] at hs
    refine gLoop_up (nG f) (fun b (fg : gS → Nat → Int32 → Int32 → Int32 → Int32 → Int32 → Prop) => fg G m x (oI (pLast (fun a => decide (nI (pCnt (pAhG f a) (nG f)) = x)) a)) (nI a) (nI (pCnt (pAhG f a) b)) (nI b)) ?_ gFuel 0 (by omega) (gFuel_lt (by omega))
    intro b fg hb hs2
    unfold wp_X3_goblinByWealth_21
    refine mRd0 h (i := 9) (j := 9) rfl (by decide) ?_
    rw [hw.2.1.1]
    by_cases eb : b = nG f
    · subst eb
      refine brT (Int32.le_refl _) ?_
      unfold wp_X3_goblinByWealth_122 wp_X3_goblinByWealth_133
      rw [← nI_succ]
      refine ⟨fun q => ?_, fun q => ?_⟩
      · rw [decide_eq_false q] at hs; exact hs
      · rw [decide_eq_true q] at hs; exact hs
    · have hs2 := hs2 (by omega)
      rw [pCnt] at hs2
      refine brF (nI_ge (by omega) (by omega)) ⟨h.is, sm_ofK0 h hw (n := b) (by omega) (j := 1) rfl (by omega) (t := 27 + 5 * b) (by omega) ⟨h.is, sm_ofK0 h hw (n := b) (by omega) (j := 2) rfl (by omega) (t := 28 + 5 * b) (by omega) ⟨h.is, sm_ofK0 h hw (n := a) (by omega) (j := 1) rfl (by omega) (t := 27 + 5 * a) (by omega) ⟨h.is, sm_ofK0 h hw (n := a) (by omega) (j := 2) rfl (by omega) (t := 28 + 5 * a) (by omega) ⟨h.is, sm_ofK0 h hw (n := b) (by omega) (j := 0) rfl (by omega) (t := 26 + 5 * b) (by omega) ⟨h.is, sm_ofK0 h hw (n := a) (by omega) (j := 0) rfl (by omega) (t := 26 + 5 * a) (by omega) ?_⟩⟩⟩⟩⟩⟩
      have y1 : pAhG f a b = true → fg G m x (oI (pLast (fun a => decide (nI (pCnt (pAhG f a) (nG f)) = x)) a)) (nI a) (nI (pCnt (pAhG f a) b) + 1) (nI b + 1) := fun q => by
        rw [q, if_pos rfl, nI_succ, nI_succ] at hs2; exact hs2
      have y0 : pAhG f a b = false → fg G m x (oI (pLast (fun a => decide (nI (pCnt (pAhG f a) (nG f)) = x)) a)) (nI a) (nI (pCnt (pAhG f a) b) + 0) (nI b + 1) := fun q => by
        rw [q, if_neg (by decide), nI_succ] at hs2; rw [Int32.add_zero]; exact hs2
      have eR : f (27 + 5 * b) - f (28 + 5 * b) - f (27 + 5 * a) + f (28 + 5 * a) = pRich f a b := rfl
      rw [eR]
      unfold wp_X3_goblinByWealth_108 wp_X3_goblinByWealth_112 wp_X3_goblinByWealth_113
      refine ⟨fun q => y1 ?_, fun q => ⟨fun q2 => y0 ?_, fun q2 => ⟨fun q3 => y1 ?_, fun q3 => ⟨fun q4 => y0 ?_, fun q4 => ⟨fun q5 => y0 ?_, fun q5 => y1 ?_⟩⟩⟩⟩⟩
      · rw [pAhG, decide_eq_true q, Bool.true_or]
      · rw [pAhG, decide_eq_false q, decide_eq_false q2]; rfl
      · rw [pAhG, decide_eq_true q2, decide_eq_true q3]; simp
      · rw [pAhG, decide_eq_false q, decide_eq_false q3, decide_eq_false q4]; simp
      · rw [pAhG, decide_eq_false q, decide_eq_false q3, decide_eq_false (fun q6 : b < a => absurd ((nI_leI (by omega) (by omega)).mp q5) (by omega))]; simp
      · rw [pAhG, decide_eq_true q2, decide_eq_true q4, decide_eq_true (show b < a from Nat.lt_of_not_le fun q6 => q5 (nI_le q6 (by omega)))]; simp
theorem sm_contractAt (h : mSt G0 m B G I (mar V 0 f)) (hw : hW f) {x : Int32} {K : Int32 → gS → Prop} (k : mAns ad G0 m B I (mar V 0 f) (pIn x 0 (f 11 - 1)) (f (51 + 5 * x.toNatClampNeg)) K) : wp_X3_contractAt ad G m x X K := by
  unfold wp_X3_contractAt
  refine mRd0 h (i := 11) (j := 11) rfl (by decide) (sm_isIn ⟨h.is, sm_goes3 h rfl k.1 fun q G' h' => ⟨h'.is, ?_⟩⟩)
  have h8 := hw.2.2.2
  have k2 := k.2 q G' h'
  rw [hw.2.2.1] at q
  obtain ⟨n, hn, rfl⟩ := (pIn_nI (by omega)).mp q
  rw [nI_clamp (by omega)] at k2
  exact sm_ofC0 h' (n := n) (by omega) (j := 0) rfl (by omega) (t := 51 + 5 * n) (by omega) k2
theorem sm_asksContract (h : mSt G0 m B G I (mar V 0 f)) (hw : hW f) {id x : Int32} {j : Nat} (hx : x = nI j) (hj : j < 5) {K : Int32 → gS → Prop} (k0 : pFind f id (nC f) = none → ∀ G', mSt G0 m B G' (upd I 14 1) (mar V 0 f) → K 0 G') (k : ∀ w, pFind f id (nC f) = some w → ∀ G', mSt G0 m B G' (upd I 14 0) (mar V 0 f) → K (f (51 + j + 5 * w)) G') : wp_X3_asksContract ad G m id x X K := by
  unfold wp_X3_asksContract
  have h8 := hw.2.2.2
  have hlt : ∀ w, pFind f id (nC f) = some w → w < 2 ^ 31 := fun w q => by have := (pFind_lt q).1; omega
  refine ⟨h.is, sm_find h hw ⟨fun q => ?_, fun q => ?_⟩⟩
  · have q2 := (oI_ne hlt).mp q
    unfold wp_X3_asksContract_17
    exact ⟨h.is, sm_goes3 h (a := false) rfl (fun _ G' h' => k0 q2 G' h') (fun q => by cases q)⟩
  · have q : ¬ oI (pFind f id (nC f)) = -1 := q
    cases e : pFind f id (nC f) with
    | none => rw [e] at q; exact absurd rfl q
    | some w =>
      have hwlt := (pFind_lt e).1
      have ew : oI (pFind (mar V 0 f 0) id (nC (mar V 0 f 0))) = nI w := by rw [mar_self, e]; rfl
      rw [ew]
      unfold wp_X3_asksContract_17
      refine ⟨h.is, sm_goes3 h (a := true) rfl (fun q => by cases q) (fun _ G' h' => ⟨h'.is, sm_ofC0 h' (n := w) (by omega) hx hj (t := 51 + j + 5 * w) (by omega) (k w e G' h')⟩)⟩
theorem sm_allCrumbs (h : mSt G0 m B G I (mar V 0 f)) (hw : hW f) {K : Int32 → gS → Prop} (k : ∀ G', mSt G0 m B G' (upd I 14 0) (mar V 0 f) → K (pPurses f (nG f)) G') : wp_X3_allCrumbs ad G m X K := by
  unfold wp_X3_allCrumbs
  have h5 := hw.2.1.2
  refine ⟨h.is, sm_total h (i := 1) (j := 1) rfl (by decide) fun G h => ?_⟩
  refine gLoop_up (nG f) (fun n (ff : gS → Nat → Int32 → Int32 → Prop) => ff G m (pPurses f n) (nI n)) ?_ gFuel 0 (by omega) (gFuel_lt (by omega))
  intro n ff hn hs
  unfold wp_X3_allCrumbs_8
  refine mRd0 h (i := 9) (j := 9) rfl (by decide) ?_
  rw [hw.2.1.1]
  by_cases e : n = nG f
  · subst e
    exact brT (Int32.le_refl _) (k G h)
  · refine brF (nI_ge (by omega) (by omega)) ⟨h.is, sm_ofK0 h hw (n := n) (by omega) (j := 1) rfl (by omega) (t := 27 + 5 * n) (by omega) ?_⟩
    rw [← nI_succ]
    exact hs (by omega)
theorem sm_byAccounts (h : mSt G0 m B G I (mar V 0 f)) {K : Int32 → gS → Prop} (k : ∀ G', mSt G0 m B G' (upd I 14 0) (mar V 0 f) → K (100 + f 2 - f 3) G') : wp_X3_allCrumbsByAccounts ad G m X K := by
  unfold wp_X3_allCrumbsByAccounts
  exact mPut h (by decide) fun G' h' => mRd0 h' (i := 2) (j := 2) rfl (by decide) (mRd0 h' (i := 3) (j := 3) rfl (by decide) (k G' h'))
theorem sm_meanDust (h : mSt G0 m B G I (mar V 0 f)) (hn : vf_n64 (FP.ddiv (FP.i2d (pDustSum f 6)) (4618441417868443648 : UInt64))) {K : UInt64 → gS → Prop} (k : ∀ G', mSt G0 m B G' (upd I 14 0) (mar V 0 f) → K (FP.ddiv (FP.i2d (pDustSum f 6)) (4618441417868443648 : UInt64)) G') : wp_X3_meanDust ad G m X K := by
  unfold wp_X3_meanDust
  refine mPut h (by decide) fun G h => ?_
  refine gLoop_up 6 (fun n (ff : gS → Nat → Int32 → Int32 → Prop) => ff G m (pDustSum f n) (nI n)) ?_ gFuel 0 (by omega) (gFuel_lt (by omega))
  intro n ff hn2 hs
  unfold wp_X3_meanDust_9
  by_cases e : n = 6
  · subst e
    exact brT (by decide) ⟨hn, k G h⟩
  · refine brF (nI_ge (b := 6) (by omega) (by omega)) (mRd0 h (by rw [show (12 : Int32) = nI 12 from rfl, nI_add]) (by omega) ?_)
    rw [← nI_succ]
    exact hs (by omega)
theorem sm_reliability (h : mSt G0 m B G I (mar V 0 f)) (hn : 0 < f 4 + f 5 → vf_n32 (FP.fdiv (FP.i2f (f 4)) (FP.i2f (f 4 + f 5)))) {K : UInt32 → gS → Prop} (k0 : f 4 + f 5 ≤ 0 → ∀ G', mSt G0 m B G' (upd I 14 1) (mar V 0 f) → K FP.fconst0 G') (k : 0 < f 4 + f 5 → ∀ G', mSt G0 m B G' (upd I 14 0) (mar V 0 f) → K (FP.fdiv (FP.i2f (f 4)) (FP.i2f (f 4 + f 5))) G') : wp_X3_reliability ad G m X K := by
  unfold wp_X3_reliability
  refine mRd0 h (i := 4) (j := 4) rfl (by decide) (mRd0 h (i := 5) (j := 5) rfl (by decide) ⟨fun q => ?_, fun q => ?_⟩)
  · unfold wp_X3_reliability_24
    exact ⟨h.is, sm_goes3 h (a := false) rfl (fun _ G' h' => k0 q G' h') (fun q => by cases q)⟩
  · unfold wp_X3_reliability_24
    have q2 := Int32.not_le.mp q
    exact ⟨h.is, sm_goes3 h (a := true) rfl (fun q => by cases q) (fun _ G' h' => mRd0 h' (i := 4) (j := 4) rfl (by decide) ⟨hn q2, k q2 G' h'⟩)⟩
end MOD
