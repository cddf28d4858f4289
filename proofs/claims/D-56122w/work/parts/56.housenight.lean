/-! PURE: a household's nights -/
set_option maxRecDepth 20000
section PX
variable {f : pF} {g w : Nat} {d : Int32}
theorem pSweep_4 {r : Nat} (hr : r < 6) {sw : Int32} : pSweep (upd f 4 d) r sw = upd (pSweep f r sw) 4 d := by
  rw [pSweep, pSweep, upd_ne (by omega), upd_comm (by omega)]
theorem pPay_4 (hg : g < 5) {wage : Int32} : pPay (upd f 4 d) g wage = upd (pPay f g wage) 4 d := by
  rw [pPay, pPay, upd_ne (by omega), upd_ne (by omega), upd_ne (by omega), upd_ne (by omega)]
  rw [upd_comm (i := 4) (k := 1) (by omega), upd_comm (i := 4) (k := 28 + 5 * g) (by omega), upd_comm (i := 4) (k := 27 + 5 * g) (by omega), upd_comm (i := 4) (k := 6) (by omega)]
theorem pDrop_upd {i : Nat} {v : Int32} (hi : i ≠ 11) (hi2 : i < 51) : pDrop (upd f i v) w = upd (pDrop f w) i v := by
  funext j
  by_cases hj : j = i
  · subst hj
    rw [upd_self, pDrop_lo hi (by omega), upd_self]
  · rw [upd_ne hj]
    simp only [pDrop]
    rw [upd_ne (by omega : 11 ≠ i), upd_ne (by omega : j ≠ i)]
    by_cases h1 : j = 11
    · rw [if_pos h1, if_pos h1]
    · rw [if_neg h1, if_neg h1]
      by_cases h2 : 51 + 5 * w ≤ j ∧ j < 86
      · rw [if_pos h2, if_pos h2, upd_ne (by omega)]
      · rw [if_neg h2, if_neg h2]
theorem pPay_drop (hg : g < 5) {wage : Int32} : pPay (pDrop f w) g wage = pDrop (pPay f g wage) w := by
  rw [pPay, pPay, pDrop_upd (by omega) (by omega), pDrop_upd (by omega) (by omega), pDrop_upd (by omega) (by omega), pDrop_upd (by omega) (by omega)]
  rw [pDrop_lo (j := 1) (by omega) (by omega), pDrop_lo (j := 28 + 5 * g) (by omega) (by omega), pDrop_lo (j := 27 + 5 * g) (by omega) (by omega), pDrop_lo (j := 6) (by omega) (by omega)]
theorem pFrom_eq {f' : pF} {x : Int32} {n : Nat} (h : ∀ j, 51 ≤ j → f' j = f j) : ∀ r, pFrom f' x n r = pFrom f x n r
  | 0 => rfl
  | r + 1 => by rw [pFrom, pFrom, h _ (by omega), pFrom_eq h r]
theorem pFirst_4 {x : Int32} : pFirst (upd f 4 d) x = pFirst f x := by
  rw [pFirst, pFirst, nC_upd (by omega)]
  exact pFrom_eq (fun j hj => upd_ne (by omega)) _
theorem pUsed_eq {f' : pF} (h : ∀ j, 18 ≤ j → j < 26 → f' j = f j) : ∀ n, n ≤ 4 → pUsed f' n = pUsed f n
  | 0, _ => rfl
  | n + 1, hn => by rw [pUsed, pUsed, pUsed_eq h n (by omega), h _ (by omega) (by omega)]
theorem pGreat_eq {f' : pF} (h : ∀ j, 18 ≤ j → j < 26 → f' j = f j) : ∀ n, n ≤ 4 → pGreat f' n = pGreat f n
  | 0, _ => rfl
  | n + 1, hn => by rw [pGreat, pGreat, pGreat_eq h n (by omega), h (19 + 2 * n) (by omega) (by omega), h (18 + 2 * n) (by omega) (by omega)]
/-- brooms are as they were -/
def pSb (f f' : pF) : Prop := ∀ j, (j = 8 ∨ (18 ≤ j ∧ j < 26)) → f' j = f j
theorem pSb.great {f' : pF} (h : pSb f f') (hb : nB f ≤ 4) : pGreat f' (nB f') = pGreat f (nB f) := by
  have e : nB f' = nB f := pN_eq (h 8 (by omega))
  rw [e, pGreat_eq (fun j h1 h2 => h j (by omega)) _ hb]
theorem pStep_sb (hk : hK f) (hw : w < nC f) {sw : Int32} : pSb f (pStep f w sw) := fun j hj => by
  obtain ⟨⟨h1, h2⟩, h3, h4⟩ := hk.2 w hw
  have h5 := hk.1.2.1.2
  rw [pStep, pDrop_lo (by omega) (by omega), pPay, upd_ne (by omega), upd_ne (by omega), upd_ne (by omega), upd_ne (by omega), pSweep_hi (by omega) (by omega)]
theorem pStep_4 (hk : hK f) (hw : w < nC f) {sw : Int32} : pStep (upd f 4 d) w sw = upd (pStep f w sw) 4 d := by
  obtain ⟨⟨h1, h2⟩, h3, h4⟩ := hk.2 w hw
  have h5 := hk.1.2.1.2
  rw [pStep, pStep, pN_upd (by omega), pN_upd (by omega), upd_ne (by omega), pSweep_4 (by omega), pPay_4 (by omega), pDrop_upd (by omega) (by omega)]
theorem pWorkL_4 {x sw : Int32} : ∀ (r : Nat) (f : pF) (e m : Int32), hK f → pWorkL x sw r (upd f 4 d) e m = (upd (pWorkL x sw r f e m).1 4 d, (pWorkL x sw r f e m).2)
  | 0, _, _, _, _ => rfl
  | r + 1, f, e, m, hk => by
    rw [pWorkL, pWorkL, pFirst_4]
    cases q : pFirst f x with
    | none => rfl
    | some w =>
      show (if e < upd f 4 d (55 + 5 * w) then (upd f 4 d, m) else pWorkL x sw r (pStep (upd f 4 d) w sw) (e - upd f 4 d (55 + 5 * w)) (m + 1)) = (upd (if e < f (55 + 5 * w) then (f, m) else pWorkL x sw r (pStep f w sw) (e - f (55 + 5 * w)) (m + 1)).1 4 d, (if e < f (55 + 5 * w) then (f, m) else pWorkL x sw r (pStep f w sw) (e - f (55 + 5 * w)) (m + 1)).2)
      rw [upd_ne (by omega)]
      by_cases q2 : e < f (55 + 5 * w)
      · rw [if_pos q2, if_pos q2]
      · rw [if_neg q2, if_neg q2, pStep_4 hk (pFirst_inv q).1]
        exact pWorkL_4 r _ _ _ (pStep_ok hk (pFirst_inv q).1).1.1
theorem pWork_4 (hk : hK f) : pWork (upd f 4 d) g = (upd (pWork f g).1 4 d, (pWork f g).2) := by
  have h5 := hk.1.2.1.2
  have h4 := hk.1.1.2
  rw [pWork, pWork, nB_upd (by omega), nC_upd (by omega), pGreat_eq (f := f) (fun j h1 h2 => upd_ne (by omega)) _ h4]
  have eE : pEnergy (upd f 4 d) g = pEnergy f g := by
    rw [pEnergy, pEnergy, nB_upd (by omega), pUsed_eq (f := f) (fun j h1 h2 => upd_ne (by omega)) _ h4, upd_ne (by omega)]
  rw [eE]
  exact pWorkL_4 _ _ _ _ hk
theorem pBr_4 : pBr (upd f 4 d) w = upd (pBr f w) 4 d := by
  rw [pBr, pBr, pDrop_upd (by omega) (by omega), upd_ne (by omega), upd_comm (by omega)]
theorem pBreakL_4 {x : Int32} : ∀ (r : Nat) (f : pF), pBreakL x r (upd f 4 d) = upd (pBreakL x r f) 4 d
  | 0, _ => rfl
  | r + 1, f => by
    rw [pBreakL, pBreakL, pFirst_4]
    cases q : pFirst f x with
    | none => rfl
    | some w =>
      show pBreakL x r (pBr (upd f 4 d) w) = _
      rw [pBr_4]
      exact pBreakL_4 r _
theorem pGrow_4 : pGrow (upd f 4 d) g = upd (pGrow f g) 4 d := by
  have e : pMore (upd f 4 d) g = pMore f g := by
    rw [pMore, pMore, upd_ne (by omega), upd_ne (by omega)]
  rw [pGrow, pGrow, e, upd_ne (by omega), upd_ne (by omega), upd_comm (i := 4) (k := 28 + 5 * g) (by omega), upd_comm (i := 4) (k := 7) (by omega)]
theorem pNb_4 : pNb (upd f 4 d) g = upd (pNb f g) 4 d := by
  rw [pNb, pNb, upd_ne (by omega)]
  split
  · exact pGrow_4
  · rw [pBreak, pBreak, nC_upd (by omega), pBreakL_4, pGrow_4]
theorem pNbL_4 : ∀ r, pNbL r (upd f 4 d) = upd (pNbL r f) 4 d
  | 0 => rfl
  | r + 1 => by rw [pNbL, pNbL, pNbL_4 r, pNb_4]
end PX
section HN
variable {ad : Nat → Nat} {G0 G : gS} {u h : Nat} {A : hA} {f : Nat → Int32} {X : Nat → gS → Prop}
def dA (A : hA) (w : Nat) : hA := ((hD A, hLb A, hLg A, hLc A), (hEb A, hEg A, hEc A), (hKb A, hKg A, hKc A), (hBa A, hGa A, fun k => if k < w then hCa A k else hCa A (k + 1)))
/-- how a contract ends: done, cancelled, broken -/
def pEnd (f : pF) (ci w : Nat) : pF := if ci = 12 then upd (pDrop f w) 4 (f 4 + 1) else if ci = 14 then upd (pDrop f w) 5 (f 5 + 1) else pDrop f w
theorem sp_end (hc : HC ad G0 u G h A f) {w c2 ci : Nat} (hci : ci = 12 ∨ ci = 13 ∨ ci = 14) (hw : w < nC f) (hq : G.1 c2 = some (gO true ci [va_rf (some (hCa A w))])) {K : gS → Prop} (k : ∀ G', kp G G' → HC ad G0 u G' h (dA A w) (pEnd f ci w) → K G') : wp_X2_end ad G h (some c2) X K := by
  have hq2 : ∀ G', kp G G' → gIs G' c2 ci := fun G' hk => ⟨_, _, hk _ _ _ _ (by omega) hq⟩
  unfold wp_X2_end
  refine hGetC hc.1 (wNN_of ?_)
  rcases hci with rfl | rfl | rfl
  · refine Or.inl ⟨gIs_of hq, ?_⟩
    unfold wp_X12_contract
    refine wGetQ_of hq (x := some (hCa A w)) rfl (wNN_of (hRemC hc hw fun G6 hk hc6 => Or.inl ⟨hq2 G6 hk, hGetI hc6.1 (by decide) (hPutK hc6 (by decide) fun G7 hk7 hc7 => k G7 (hk.trans hk7) ?_)⟩))
    have hc7 : HC ad G0 u G7 h (dA A w) (upd (pDrop f w) 4 (pDrop f w 4 + 1)) := hc7
    rw [pDrop_lo (by omega) (by omega)] at hc7
    exact hc7
  · refine Or.inr (Or.inl ⟨gIs_of hq, ?_⟩)
    unfold wp_X11_contract
    exact wGetQ_of hq (x := some (hCa A w)) rfl (wNN_of (hRemC hc hw fun G6 hk hc6 => Or.inr (Or.inl ⟨hq2 G6 hk, Or.inl ⟨hq2 G6 hk, k G6 hk hc6⟩⟩)))
  · refine Or.inr (Or.inr ⟨gIs_of hq, ?_⟩)
    unfold wp_X13_contract
    refine wGetQ_of hq (x := some (hCa A w)) rfl (wNN_of (hRemC hc hw fun G6 hk hc6 => Or.inr (Or.inr ⟨hq2 G6 hk, Or.inr ⟨hq2 G6 hk, hGetI hc6.1 (by decide) (hPutK hc6 (by decide) fun G7 hk7 hc7 => k G7 (hk.trans hk7) ?_)⟩⟩)))
    have hc7 : HC ad G0 u G7 h (dA A w) (upd (pDrop f w) 5 (pDrop f w 5 + 1)) := hc7
    rw [pDrop_lo (by omega) (by omega)] at hc7
    exact hc7
theorem sp_pay (hc : HC ad G0 u G h A f) {c1 g : Nat} {wb : Bool} {x0 x2 x4 wage : Int32} (hg : g < nG f) (hq : G.1 c1 = some (gO wb 10 [.int x0, .int (nI g), .int x2, .int wage, .int x4])) {K : gS → Prop} (k : ∀ G', HC ad G0 u G' h A (pPay f g wage) → K G') : wp_X2_pay ad G h (some c1) X K := by
  have hg5 := hc.1.w.2.1.2
  unfold wp_X2_pay
  refine hGetI hc.1 (by decide) (wNN_of (wGetI_of hq rfl (hGetI hc.1 (by decide) (wGetI_of hq rfl ?_))))
  have ep : (if wage < f (hMap 5) then wage else f (hMap 5)) = pMin (f 1) wage := by rw [pMin, min_comm32]; rfl
  rw [ep]
  refine hPutK hc (by decide) fun G2 k2 hc2 => hGetI hc2.1 (by decide) (hPutK hc2 (by decide) fun G3 k3 hc3 => hGetI hc3.1 (by decide) (hGetG hc3.1 (wGetI_of (k3 _ _ _ _ (by omega) (k2 _ _ _ _ (by omega) hq)) rfl (wNN_of ?_))))
  have hc3 : HC ad G0 u G3 h A (upd (upd f 6 (f 6 + (wage - pMin (f 1) wage))) 1 (upd f 6 (f 6 + (wage - pMin (f 1) wage)) 1 - pMin (f 1) wage)) := hc3
  rw [upd_ne (by omega : 1 ≠ 6)] at hc3
  have e1 : upd (upd f (hMap 11) (f (hMap 11) + (wage - pMin (f 1) wage))) (hMap 5) (upd f (hMap 11) (f (hMap 11) + (wage - pMin (f 1) wage)) (hMap 5) - pMin (f 1) wage) (hMap 5) = f 1 - pMin (f 1) wage := by
    show upd (upd f 6 _) 1 (upd f 6 _ 1 - pMin (f 1) wage) 1 = _
    rw [upd_self, upd_ne (by omega)]
  rw [e1]
  have n3 : g < nG (upd (upd f 6 (f 6 + (wage - pMin (f 1) wage))) 1 (f 1 - pMin (f 1) wage)) := by rw [nG_upd (by omega), nG_upd (by omega)]; exact hg
  refine hc3.1.2.2.2.1.2.1.get rfl n3 (wCast_of (gIsG hc3.1 n3) (by decide) (wNN_of ⟨gIsG hc3.1 n3, ?_⟩))
  unfold wp_X7_earn
  have d3 : upd (upd f 6 (f 6 + (wage - pMin (f 1) wage))) 1 (f 1 - pMin (f 1) wage) (28 + 5 * g) = f (28 + 5 * g) := by rw [upd_ne (by omega), upd_ne (by omega)]
  have eb : (if pMin (f 1) wage < f (28 + 5 * g) then pMin (f 1) wage else f (28 + 5 * g)) = pMin (f (28 + 5 * g)) (pMin (f 1) wage) := min_comm32 _ _
  refine gI hc3.1 n3 (x := f (28 + 5 * g)) (by rw [← d3]; rfl) (gI hc3.1 n3 (x := f (28 + 5 * g)) (by rw [← d3]; rfl) ?_)
  rw [eb]
  generalize hpd : pMin (f 1) wage = p at *
  generalize hbk : pMin (f (28 + 5 * g)) p = b at *
  refine hPutG hc3 (i := 2) n3 (by omega) (fun z => by omega) fun G4 hc4 => ?_
  rw [show 26 + 2 + 5 * g = 28 + 5 * g from rfl] at hc4
  have n4 : g < nG (upd (upd (upd f 6 (f 6 + (wage - p))) 1 (f 1 - p)) (28 + 5 * g) (f (28 + 5 * g) - b)) := by rw [nG_upd (by omega)]; exact n3
  have d4 : upd (upd (upd f 6 (f 6 + (wage - p))) 1 (f 1 - p)) (28 + 5 * g) (f (28 + 5 * g) - b) (27 + 5 * g) = f (27 + 5 * g) := by rw [upd_ne (by omega), upd_ne (by omega), upd_ne (by omega)]
  refine gI hc4.1 n4 (x := f (27 + 5 * g)) (by rw [← d4]; rfl) (hPutG hc4 (i := 1) n4 (by omega) (fun z => by omega) fun G5 hc5 => hPut hc5 (by decide) fun G6 hc6 => k G6 ?_)
  have hc6 : HC ad G0 u G6 h A (upd (upd (upd (upd (upd f 6 (f 6 + (wage - p))) 1 (f 1 - p)) (28 + 5 * g) (f (28 + 5 * g) - b)) (27 + 5 * g) (f (27 + 5 * g) + (p - b))) 1 (f 1 - p + b)) := hc6
  have e : upd (upd (upd (upd (upd f 6 (f 6 + (wage - p))) 1 (f 1 - p)) (28 + 5 * g) (f (28 + 5 * g) - b)) (27 + 5 * g) (f (27 + 5 * g) + (p - b))) 1 (f 1 - p + b) = pPay f g wage := by
    rw [pPay, hpd, hbk]
    rw [show f 1 - p + b = f 1 + (b - p) by rw [Int32.sub_eq_add_neg, Int32.sub_eq_add_neg, Int32.add_assoc, Int32.add_comm b]]
    rw [upd_comm (i := 27 + 5 * g) (k := 1) (by omega), upd_comm (i := 28 + 5 * g) (k := 1) (by omega), upd_upd, upd_comm (i := 6) (k := 1) (by omega), upd_comm (i := 6) (k := 28 + 5 * g) (by omega), upd_comm (i := 6) (k := 27 + 5 * g) (by omega)]
  rw [e] at hc6
  exact hc6
theorem sp_work (hc : HC ad G0 u G h A f) (hb : gB4 ad G0) (hK0 : hK f) (hR : rm G0 (u + nC f + 1)) {g : Nat} (hg : g < nG f) {K : gS → Prop} (k : ∀ G' A' u', u' + nC (pWork f g).1 ≤ u + nC f → hGa A' = hGa A → HC ad G0 u' G' h A' (upd (pWork f g).1 4 (f 4 + (pWork f g).2)) → K G') : wp_X2_work ad G h (some (hGa A g)) X K := by
  have hg5 := hc.1.w.2.1.2
  unfold wp_X2_work
  refine ⟨hc.1.is, sp_energy hc.1 hb.ne hg (wNN_of ⟨gIsG hc.1 hg, ?_⟩)⟩
  unfold wp_X6_index
  refine gI hc.1 hg rfl ⟨hc.1.is, sp_firstOf hc.1 ?_⟩
  generalize hR9 : pWork f g = R at k
  have hR0 : pWorkL (nI g) (10 + pGreat f (nB f)) (nC f) f (pEnergy f g) 0 = R := hR9
  have e4 : upd f 4 (f 4 + 0) = f := upd_same (by rw [Int32.add_zero])
  refine gLoop_ms (fun mu (ff : gS → Nat → Nat → Int32 → Option Nat → Prop) => ∀ (G : gS) (A' : hA) (u' : Nat) (f' : pF) (r : Nat) (e mm : Int32), HC ad G0 u' G h A' (upd f' 4 (f 4 + mm)) → hGa A' = hGa A → hK f' → pSb f f' → nG f' = nG f → f' 4 = f 4 → nC f' = mu → u' + nC f' ≤ u + nC f → nC f' ≤ r → pWorkL (nI g) (10 + pGreat f (nB f)) r f' e mm = R → ff G h (hGa A g) e ((pFirst f' (nI g)).map (hCa A'))) ?_ gFuel (nC f) (gFuel_lt (by have := hc.1.w.2.2.2; omega)) G A u f (nC f) (pEnergy f g) 0 (by rw [e4]; exact hc) rfl hK0 (fun _ _ => rfl) rfl rfl rfl (Nat.le_refl _) (Nat.le_refl _) hR0
  intro mu ff hs G A' u' f' r e mm hc hA hK' hsb hnG h4 hmu hu hr hRr
  unfold wp_X2_work_15
  cases q : pFirst f' (nI g) with
  | none =>
    refine oN ?_
    have : R = (f', mm) := by
      rw [← hRr]
      cases r with
      | zero => rfl
      | succ r => rw [pWorkL, q]
    subst this
    exact k G A' u' hu hA hc
  | some w =>
    obtain ⟨hw, hwg, hwb⟩ := pFirst_inv q
    obtain ⟨⟨hg1, hg2⟩, hr1, hr2⟩ := hK'.2 w hw
    have hgw : pN f' (52 + 5 * w) = g := by
      rw [hwg] at hg1
      exact ((nI_eq (by omega) (by omega)).mp hg1).symm
    obtain ⟨r', rfl⟩ := Nat.exists_eq_succ_of_ne_zero (by omega : r ≠ 0)
    rw [pWorkL, q] at hRr
    have hRr : (if e < f' (55 + 5 * w) then (f', mm) else pWorkL (nI g) (10 + pGreat f (nB f)) r' (pStep f' w (10 + pGreat f (nB f))) (e - f' (55 + 5 * w)) (mm + 1)) = R := hRr
    have hwF : w < nC (upd f' 4 (f 4 + mm)) := by rw [nC_upd (by omega)]; exact hw
    have cell := hc.1.2.2.2.2.2.2.1 w hwF
    have ecell : hCf (upd f' 4 (f 4 + mm)) w = [.int (f' (51 + 5 * w)), .int (nI g), .int (nI (pN f' (53 + 5 * w))), .int (f' (54 + 5 * w)), .int (f' (55 + 5 * w))] := by
      rw [hCf, upd_ne (by omega), upd_ne (by omega), upd_ne (by omega), upd_ne (by omega), upd_ne (by omega), hwg, ← hr1]
    rw [ecell] at cell
    refine oS (wGetI_of cell rfl ⟨fun q2 => ?_, fun q2 => wGetI_of cell rfl (hGetD hc.1 (wGetI_of cell rfl (hGetD hc.1 (wGetI_of cell rfl (wNN_of ?_)))))⟩)
    · rw [if_pos q2] at hRr
      subst hRr
      exact k G A' u' hu hA hc
    · rw [if_neg q2] at hRr
      have hb4 : nB f ≤ 4 := by
        have := hK'.1.1.2
        have e : nB f' = nB f := pN_eq (hsb 8 (by omega))
        omega
      have esw : pGreat (upd f' 4 (f 4 + mm)) (nB (upd f' 4 (f 4 + mm))) = pGreat f (nB f) := by
        refine pSb.great (f' := upd f' 4 (f 4 + mm)) (fun j hj => ?_) hb4
        rw [upd_ne (by omega)]; exact hsb j hj
      refine dLd hc.1 rfl (by omega) ⟨hc.1.is, sp_sweepingPower hc.1 (hc.b4 hb) (wNN_of ?_)⟩
      rw [esw]
      generalize hsw : (10 : Int32) + pGreat f (nB f) = sw at *
      refine hPutD hc rfl (by omega) fun G13 hc13 => ?_
      have hc13 : HC ad G0 u' G13 h A' (pSweep (upd f' 4 (f 4 + mm)) (pN f' (53 + 5 * w)) sw) := hc13
      rw [pSweep_4 (by omega)] at hc13
      have hro := hc13.rm' (v := 1) (hR.le (by omega))
      refine wNew_nC (by omega) (by omega) fun c15 G14 s14 => ?_
      unfold wp_X12_init wp_J27_init
      refine wPut_sC s14.2.1 (ltb rfl) rfl fun G16 t16 => ?_
      have s16 := s14.set t16
      obtain ⟨hc16, z16⟩ := hc13.new s16 (by omega)
      have eC13 : nC (upd (pSweep f' (pN f' (53 + 5 * w)) sw) 4 (f 4 + mm)) = nC f' := by rw [nC_upd (by omega)]; exact pN_eq (pSweep_hi (by omega) (by omega))
      have cell16 := hc16.1.2.2.2.2.2.2.1 w (by rw [eC13]; exact hw)
      have ecell16 : hCf (upd (pSweep f' (pN f' (53 + 5 * w)) sw) 4 (f 4 + mm)) w = [.int (f' (51 + 5 * w)), .int (nI g), .int (nI (pN f' (53 + 5 * w))), .int (f' (54 + 5 * w)), .int (f' (55 + 5 * w))] := by
        rw [hCf, upd_ne (by omega), upd_ne (by omega), upd_ne (by omega), upd_ne (by omega), upd_ne (by omega), pSweep_hi (by omega) (by omega), pSweep_hi (by omega) (by omega), pSweep_hi (by omega) (by omega), pSweep_hi (by omega) (by omega), pSweep_hi (by omega) (by omega), hwg, ← hr1]
      rw [ecell16] at cell16
      refine ⟨hc16.1.is, sp_end hc16 (Or.inl rfl) (by rw [eC13]; exact hw) s16.2.1 fun G17 k17 hc17 => ⟨hc17.1.is, ?_⟩⟩
      rw [pEnd, if_pos rfl, upd_self, pDrop_upd (by omega) (by omega), upd_upd] at hc17
      have eG17 : nG (upd (pDrop (pSweep f' (pN f' (53 + 5 * w)) sw) w) 4 (f 4 + mm + 1)) = nG f := by
        rw [nG_upd (by omega), nG_drop, ← hnG]; exact pN_eq (pSweep_hi (by omega) (by omega))
      refine sp_pay hc17 (g := g) (by rw [eG17]; exact hg) (k17 _ _ _ _ (by omega) cell16) fun G18 hc18 => ?_
      rw [pPay_4 (by omega), pPay_drop (by omega)] at hc18
      have est : pDrop (pPay (pSweep f' (pN f' (53 + 5 * w)) sw) g (f' (54 + 5 * w))) w = pStep f' w sw := by rw [pStep, hgw]
      rw [est, Int32.add_assoc] at hc18
      obtain ⟨s1, s2, s3⟩ := pStep_ok (sw := sw) hK' hw
      have eG18 : nG (upd (pStep f' w sw) 4 (f 4 + (mm + 1))) = nG f := by rw [nG_upd (by omega), s1.eG]; exact hnG
      have hgc : gIs G18 (hGa A g) 9 := by
        have := gIsG hc18.1 (k := g) (by rw [eG18]; exact hg)
        rw [show hGa (dA A' w) = hGa A' from rfl, hA] at this
        exact this
      refine ⟨hgc, ?_⟩
      unfold wp_X6_index
      have hgi : wGetI G18 (hGa A g) 9 0 = wGetI G18 (hGa (dA A' w) g) 9 0 := by rw [show hGa (dA A' w) = hGa A' from rfl, hA]
      rw [hgi]
      refine gI hc18.1 (k := g) (by rw [eG18]; exact hg) rfl ⟨hc18.1.is, sp_firstOf hc18.1 ?_⟩
      rw [pFirst_4]
      exact hs (nC (pStep f' w sw)) (by rw [s2]; omega) G18 (dA A' w) (u' + 1) (pStep f' w sw) r' _ _ hc18 hA s1.1 (fun j hj => (pStep_sb hK' hw j hj).trans (hsb j hj)) (s1.eG.trans hnG) (s1.2.2.2.1.trans h4) rfl (by rw [s2]; omega) (by rw [s2]; omega) hRr
theorem sp_break (hc : HC ad G0 u G h A f) (hK0 : hK f) (hR : rm G0 (u + nC f + 1)) {g : Nat} (hg : g < nG f) {K : gS → Prop} (k : ∀ G' A' u', u' + nC (if f (29 + 5 * g) < 3 then f else pBreak f g) ≤ u + nC f → hGa A' = hGa A → HC ad G0 u' G' h A' (if f (29 + 5 * g) < 3 then f else pBreak f g) → K G') : wp_X2_breakContracts ad G h (some (hGa A g)) X K := by
  have hg5 := hc.1.w.2.1.2
  unfold wp_X2_breakContracts
  refine wNN_of ⟨gIsG hc.1 hg, ?_⟩
  unfold wp_X6_index
  refine gI hc.1 hg rfl ⟨hc.1.is, sp_firstOf hc.1 ?_⟩
  generalize hR9 : (if f (29 + 5 * g) < 3 then f else pBreak f g) = R at k
  refine gLoop_ms (fun mu (ff : gS → Nat → Nat → Option Nat → Prop) => ∀ (G : gS) (A' : hA) (u' : Nat) (f' : pF) (r : Nat), HC ad G0 u' G h A' f' → hGa A' = hGa A → hK f' → nG f' = nG f → nC f' = mu → u' + nC f' ≤ u + nC f → nC f' ≤ r → (if f' (29 + 5 * g) < 3 then f' else pBreakL (nI g) r f') = R → ff G h (hGa A g) ((pFirst f' (nI g)).map (hCa A'))) ?_ gFuel (nC f) (gFuel_lt (by have := hc.1.w.2.2.2; omega)) G A u f (nC f) hc rfl hK0 rfl rfl (Nat.le_refl _) (Nat.le_refl _) hR9
  intro mu ff hs G A' u' f' r hc hA hK' hnG hmu hu hr hRr
  unfold wp_X2_breakContracts_9
  have hgi : ∀ G'' k' K'', wGetI G'' (hGa A g) 9 k' K'' = wGetI G'' (hGa A' g) 9 k' K'' := fun _ _ _ => by rw [hA]
  rw [hgi]
  refine gI hc.1 (k := g) (by rw [hnG]; exact hg) rfl ⟨fun q1 => ?_, fun q1 => ?_⟩
  · rw [if_pos q1] at hRr
    subst hRr
    exact k G A' u' hu hA hc
  · rw [if_neg q1] at hRr
    cases q : pFirst f' (nI g) with
    | none =>
      refine oN ?_
      have : R = f' := by
        rw [← hRr]
        cases r with
        | zero => rfl
        | succ r => rw [pBreakL, q]
      subst this
      exact k G A' u' hu hA hc
    | some w =>
      obtain ⟨hw, hwg, hwb⟩ := pFirst_inv q
      obtain ⟨r', rfl⟩ := Nat.exists_eq_succ_of_ne_zero (by omega : r ≠ 0)
      rw [pBreakL, q] at hRr
      have hRr : pBreakL (nI g) r' (pBr f' w) = R := hRr
      have hro := hc.rm' (v := 1) (hR.le (by omega))
      refine oS (wNew_nC (by omega) (by omega) fun c15 G14 s14 => ?_)
      unfold wp_X13_init wp_J27_init
      refine wPut_sC s14.2.1 (ltb rfl) rfl fun G16 t16 => ?_
      have s16 := s14.set t16
      obtain ⟨hc16, z16⟩ := hc.new s16 (by omega)
      refine ⟨hc16.1.is, sp_end hc16 (Or.inr (Or.inr rfl)) hw s16.2.1 fun G17 k17 hc17 => ?_⟩
      have hc17 : HC ad G0 (u' + 1) G17 h (dA A' w) (pBr f' w) := hc17
      obtain ⟨s1, s2, s3⟩ := pBr_ok hK' hw
      have eG18 : nG (pBr f' w) = nG f := s1.eG.trans hnG
      have hgc : gIs G17 (hGa A g) 9 := by
        have := gIsG hc17.1 (k := g) (by rw [eG18]; exact hg)
        rw [show hGa (dA A' w) = hGa A' from rfl, hA] at this
        exact this
      refine ⟨hgc, ?_⟩
      unfold wp_X6_index
      have hgi : wGetI G17 (hGa A g) 9 0 = wGetI G17 (hGa (dA A' w) g) 9 0 := by rw [show hGa (dA A' w) = hGa A' from rfl, hA]
      rw [hgi]
      refine gI hc17.1 (k := g) (by rw [eG18]; exact hg) rfl ⟨hc17.1.is, sp_firstOf hc17.1 ?_⟩
      refine hs (nC (pBr f' w)) (by rw [s2]; omega) G17 (dA A' w) (u' + 1) (pBr f' w) r' hc17 hA s1.1 eG18 rfl (by rw [s2]; omega) (by rw [s2]; omega) ?_
      have e29 : pBr f' w (29 + 5 * g) = f' (29 + 5 * g) := by rw [pBr, upd_ne (by omega), pDrop_lo (by omega) (by omega)]
      rw [e29, if_neg q1]
      exact hRr
theorem sp_growDebt (hc : HC ad G0 u G h A f) {c d : Nat} (hj : hJ f c d) {g : Nat} (hg : g < nG f) (h7 : f 0 - f 0 / 7 * 7 = 0) {K : Int32 → gS → Prop} (k : ∀ G', HC ad G0 u G' h A (upd f (28 + 5 * g) (f (28 + 5 * g) + pMore f g)) → K (pMore f g) G') : wp_X7_growDebt ad G (hGa A g) X K := by
  obtain ⟨x, ex, hx, -, hx3⟩ := pMore_nI hj hg
  obtain ⟨-, -, ⟨b1, b2⟩, -⟩ := hj.2.2.2.1 g hg
  have key : ∀ v, v = f (28 + 5 * g) + pMore f g → wp_X7_growDebt_31 ad X K G (hGa A g) v := by
    intro v hv
    unfold wp_X7_growDebt_31
    refine gI hc.1 hg rfl (hPutG hc (i := 2) hg (by omega) (fun z => by omega) fun G2 hc2 => ?_)
    have e : v - f (28 + 5 * g) = pMore f g := by rw [hv, Int32.add_comm, Int32.add_sub_cancel]
    rw [e]
    exact k G2 (by rw [← hv]; exact hc2)
  unfold wp_X7_growDebt
  refine gI hc.1 hg rfl ⟨fun q => gI hc.1 hg rfl (gI hc.1 hg rfl (key _ ?_)), fun q => key _ ?_⟩
  · have h0 : 0 < pN f (28 + 5 * g) := Nat.pos_of_ne_zero fun z => q (by rw [b1, z]; rfl)
    have hx3 := hx3 ⟨h7, h0⟩
    have e1 : f (28 + 5 * g) + f (28 + 5 * g) / 10 + 1 = nI (pN f (28 + 5 * g) + pN f (28 + 5 * g) / 10 + 1) := by
      rw [b1, show (10 : Int32) = nI 10 from rfl, pk_div (by omega) (by omega) (by omega), nI_add, nI_1]
    rw [e1, ex, show (999 : Int32) = nI 999 from rfl, min_nI (by omega) (by omega), b1, nI_add, hx3]
    congr 1
    omega
  · have h0 : pN f (28 + 5 * g) = 0 := by rw [pN, q]; rfl
    rw [q, pMore, if_neg (fun z => by rw [q] at z; exact absurd z.2 (by decide))]
    rfl
theorem sp_passNight (hc : HC ad G0 u G h A f) (hb : gB4 ad G0) {c : Nat} (hi : hI f c) (hR : rm G0 (u + nC f + 1)) {K : gS → Prop} (k : ∀ G' A' u', u' + nC (pNight f) ≤ u + nC f → hGa A' = hGa A → HC ad G0 u' G' h A' (pNight f) → K G') : wp_X2_passNight ad G h X K := by
  have hg5 := hc.1.w.2.1.2
  unfold wp_X2_passNight
  refine hGetI hc.1 (by decide) (hPut hc (by decide) fun G hc => ?_)
  have hc : HC ad G0 u G h A (upd f 0 (f 0 + 1)) := hc
  have j1 : hJ (upd f 0 (f 0 + 1)) c (pN f 4) := hi.1.irr (Or.inl rfl)
  have g1 : nG (upd f 0 (f 0 + 1)) = nG f := nG_upd (by omega)
  have n1 : nC (upd f 0 (f 0 + 1)) = nC f := nC_upd (by omega)
  have e41 : upd f 0 (f 0 + 1) 4 = f 4 := upd_ne (by omega)
  have kk : ∀ G' A' u', u' + nC (upd (pNbL (nG f) (pNaL (nG f) (pDusty (upd f 0 (f 0 + 1))) 0).1) 4 (f 4 + (pNaL (nG f) (pDusty (upd f 0 (f 0 + 1))) 0).2)) ≤ u + nC f → hGa A' = hGa A → HC ad G0 u' G' h A' (upd (pNbL (nG f) (pNaL (nG f) (pDusty (upd f 0 (f 0 + 1))) 0).1) 4 (f 4 + (pNaL (nG f) (pDusty (upd f 0 (f 0 + 1))) 0).2)) → K G' := k
  clear k
  generalize hf1 : upd f 0 (f 0 + 1) = f1 at *
  have j2 := j1.dusty
  obtain ⟨-, g2, e42⟩ := pDusty_ok j1.k
  have n2 : nC (pDusty f1) = nC f := by
    refine Eq.trans (pN_eq ?_) n1
    simp only [pDusty]
    rw [if_neg (by omega)]
  generalize hf2 : pDusty f1 = f2 at *
  have loopB : ∀ (G : gS) (F3 : pF) (A' : hA) (u' d : Nat), HC ad G0 u' G h A' F3 → hGa A' = hGa A → hJ F3 c d → nG F3 = nG f → u' + nC F3 ≤ u + nC f → (∀ G' A' u', u' + nC (pNbL (nG f) F3) ≤ u + nC f → hGa A' = hGa A → HC ad G0 u' G' h A' (pNbL (nG f) F3) → K G') → wp_X2_passNight_111 ad X K G h := by
    intro G F3 A' u' d hc hA hj hg3 hu kk
    unfold wp_X2_passNight_111
    refine gLoop_up (nG f) (fun n (ff : gS → Nat → Int32 → Prop) => ∀ G A' u', HC ad G0 u' G h A' (pNbL n F3) → hGa A' = hGa A → u' + nC (pNbL n F3) ≤ u + nC f → ff G h (nI n)) ?_ gFuel 0 (by omega) (gFuel_lt (by omega)) G A' u' hc hA hu
    intro n ff hn hs G A' u' hc hA hu
    have sm := pNbL_ok hj.k n (by omega)
    have jn := hj.nbL n (by rw [hg3]; exact hn)
    have gn : nG (pNbL n F3) = nG f := sm.eG.trans hg3
    unfold wp_X2_passNight_113
    refine hSizeG hc.1 ?_
    rw [gn]
    by_cases en : n = nG f
    · subst en
      exact brT (Int32.le_refl _) (kk G A' u' hu hA hc)
    · have hs := hs (by omega)
      refine brF (nI_ge (by omega) (by omega)) (hElG hc.1 rfl (k := n) (by rw [gn]; omega) ⟨hc.1.is, sp_break hc jn.k (hR.le (by omega)) (by rw [gn]; omega) fun G9 A9 u9 hu9 hA9 hc9 => ?_⟩)
      have j9 : hJ (if pNbL n F3 (29 + 5 * n) < 3 then pNbL n F3 else pBreak (pNbL n F3) n) c d := by
        split
        · exact jn
        · exact hJ.breakL _ _ jn
      have g9 : nG (if pNbL n F3 (29 + 5 * n) < 3 then pNbL n F3 else pBreak (pNbL n F3) n) = nG f := by
        split
        · exact gn
        · exact (pBreakL_ok _ _ jn.k).eG.trans gn
      have eS : pNbL (n + 1) F3 = pGrow (if pNbL n F3 (29 + 5 * n) < 3 then pNbL n F3 else pBreak (pNbL n F3) n) n := rfl
      rw [eS] at hs
      generalize (if pNbL n F3 (29 + 5 * n) < 3 then pNbL n F3 else pBreak (pNbL n F3) n) = F9 at *
      have eC : nC (pGrow F9 n) = nC F9 := by rw [pGrow, nC_upd (by omega), nC_upd (by omega)]
      refine hGetI hc9.1 (by decide) (hGetI hc9.1 (by decide) ⟨fun q => ?_, fun q => ?_⟩)
      · have q : ¬ F9 0 - F9 0 / 7 * 7 = 0 := q
        have e0 : pMore F9 n = 0 := by rw [pMore, if_neg (fun z => q z.1)]
        unfold wp_X2_passNight_178
        refine hPut hc9 (by decide) fun G10 hc10 => ?_
        rw [← nI_succ]
        refine hs G10 A9 u9 ?_ (hA9.trans hA) (by rw [eC]; omega)
        rw [pGrow, e0, upd_same (show F9 (28 + 5 * n) = F9 (28 + 5 * n) + 0 by rw [Int32.add_zero])]
        exact hc10
      · have q : F9 0 - F9 0 / 7 * 7 = 0 := q
        have hA99 : hGa A9 = hGa A := hA9.trans hA
        refine hElG hc9.1 rfl (k := n) (by rw [g9]; omega) (wNN_of ⟨gIsG hc9.1 (by rw [g9]; omega), sp_growDebt hc9 j9 (by rw [g9]; omega) q fun G10 hc10 => ?_⟩)
        unfold wp_X2_passNight_178
        refine hPut hc10 (by decide) fun G11 hc11 => ?_
        rw [← nI_succ]
        exact hs G11 A9 u9 hc11 hA99 (by rw [eC]; omega)
  have loopA : ∀ (G : gS), HC ad G0 u G h A f2 → wp_X2_passNight_43 ad X K G h := by
    intro G hc
    unfold wp_X2_passNight_43
    refine gLoop_up (nG f) (fun n (ff : gS → Nat → Int32 → Prop) => ∀ G A' u', HC ad G0 u' G h A' (upd (pNaL n f2 0).1 4 (f 4 + (pNaL n f2 0).2)) → hGa A' = hGa A → u' + nC (pNaL n f2 0).1 ≤ u + nC f → ff G h (nI n)) ?_ gFuel 0 (by omega) (gFuel_lt (by omega)) G A u ?_ rfl (by show u + nC f2 ≤ _; omega)
    · intro n ff hn hs G A' u' hc hA hu
      have sm := pNaL_ok j2.k (m := 0) n (by omega)
      obtain ⟨kn, -, jn⟩ := j2.naL (m := 0) n (by omega)
      have gn : nG (pNaL n f2 0).1 = nG f := by rw [sm.eG, g2, g1]
      unfold wp_X2_passNight_45
      refine hSizeG hc.1 ?_
      rw [nG_upd (by omega), gn]
      by_cases en : n = nG f
      · subst en
        refine brT (Int32.le_refl _) (loopB G _ A' u' _ hc hA (jn.irr (Or.inr (Or.inl rfl))) (by rw [nG_upd (by omega)]; exact gn) (by rw [nC_upd (by omega)]; exact hu) fun G' A2 u2 hu2 hA2 hc2 => ?_)
        rw [pNbL_4] at hc2 hu2
        exact kk G' A2 u2 hu2 hA2 hc2
      · have hs := hs (by omega)
        have eS : pNaL (n + 1) f2 0 = pNa (pNaL n f2 0).1 n (pNaL n f2 0).2 := rfl
        rw [eS] at hs
        generalize hP : pNaL n f2 0 = P at *
        obtain ⟨f3, mm⟩ := P
        have hn3 : n < nG (upd f3 4 (f 4 + mm)) := by rw [nG_upd (by omega)]; show n < nG f3; rw [gn]; omega
        have r30 : upd f3 4 (f 4 + mm) (30 + 5 * n) = f3 (30 + 5 * n) := upd_ne (by omega)
        have r29 : upd f3 4 (f 4 + mm) (29 + 5 * n) = f3 (29 + 5 * n) := upd_ne (by omega)
        have hrest := (hc.1.2.2.2.2.2.1 n hn3).2
        rw [r30] at hrest
        refine brF (nI_ge (by omega) (by omega)) (hElG hc.1 rfl hn3 (wNN_of (gI hc.1 hn3 (x := f3 (30 + 5 * n)) (by rw [← r30]; rfl) ⟨fun q => ?_, fun q => gI hc.1 hn3 (x := f3 (29 + 5 * n)) (by rw [← r29]; rfl) ?_⟩)))
        · have ePn : pNa f3 n mm = ((pWork (upd f3 (29 + 5 * n) 0) n).1, mm + (pWork (upd f3 (29 + 5 * n) 0) n).2) := by rw [pNa, if_neg (by rw [q]; decide)]
          rw [show pNa (f3, mm).1 n (f3, mm).2 = pNa f3 n mm from rfl, ePn] at hs
          unfold wp_X2_passNight_90
          refine hPutG hc (i := 3) hn3 (by omega) (fun z => by omega) fun G2 hc2 => ?_
          rw [show 26 + 3 + 5 * n = 29 + 5 * n from rfl, upd_comm (by omega)] at hc2
          have hn4 : n < nG (upd (upd f3 (29 + 5 * n) 0) 4 (f 4 + mm)) := by rw [nG_upd (by omega), nG_upd (by omega)]; show n < nG f3; rw [gn]; omega
          have r30' : upd (upd f3 (29 + 5 * n) 0) 4 (f 4 + mm) (30 + 5 * n) = f3 (30 + 5 * n) := by rw [upd_ne (by omega), upd_ne (by omega)]
          refine gI hc2.1 hn4 (x := f3 (30 + 5 * n)) (by rw [← r30']; rfl) (brT' q ⟨hc2.1.is, ?_⟩)
          have k3 : hK (upd f3 (29 + 5 * n) 0) := sm.1.pu (by omega) (by omega) (by omega) (by omega)
          have k4 : hK (upd (upd f3 (29 + 5 * n) 0) 4 (f 4 + mm)) := k3.pu (by omega) (by omega) (by omega) (by omega)
          have nC4 : nC (upd (upd f3 (29 + 5 * n) 0) 4 (f 4 + mm)) = nC f3 := by rw [nC_upd (by omega), nC_upd (by omega)]
          refine sp_work hc2 hb k4 (by rw [nC4]; exact hR.le (by show u' + nC f3 + 1 ≤ _; have hu : u' + nC f3 ≤ u + nC f := hu; omega)) hn4 fun G3 A3 u3 hu3 hA3 hc3 => ?_
          rw [pWork_4 k3] at hu3 hc3
          rw [nC_upd (by omega), nC4] at hu3
          unfold wp_X2_passNight_105
          rw [← nI_succ]
          refine hs G3 A3 u3 ?_ (hA3.trans hA) (by have hu : u' + nC f3 ≤ u + nC f := hu; show u3 + nC (pWork (upd f3 (29 + 5 * n) 0) n).1 ≤ _; omega)
          have hc3 : HC ad G0 u3 G3 h A3 (upd (upd (pWork (upd f3 (29 + 5 * n) 0) n).1 4 (f 4 + mm)) 4 (upd (upd f3 (29 + 5 * n) 0) 4 (f 4 + mm) 4 + (pWork (upd f3 (29 + 5 * n) 0) n).2)) := hc3
          rw [upd_upd, upd_self, Int32.add_assoc] at hc3
          exact hc3
        · have q1 : f3 (30 + 5 * n) = 1 := hrest.resolve_left q
          have ePn : pNa f3 n mm = (upd f3 (29 + 5 * n) (f3 (29 + 5 * n) + 1), mm) := by rw [pNa, if_pos q1]
          rw [show pNa (f3, mm).1 n (f3, mm).2 = pNa f3 n mm from rfl, ePn] at hs
          unfold wp_X2_passNight_90
          refine hPutG hc (i := 3) hn3 (by omega) (fun z => by omega) fun G2 hc2 => ?_
          rw [show 26 + 3 + 5 * n = 29 + 5 * n from rfl, upd_comm (by omega)] at hc2
          have hn4 : n < nG (upd (upd f3 (29 + 5 * n) (f3 (29 + 5 * n) + 1)) 4 (f 4 + mm)) := by rw [nG_upd (by omega), nG_upd (by omega)]; show n < nG f3; rw [gn]; omega
          have r30' : upd (upd f3 (29 + 5 * n) (f3 (29 + 5 * n) + 1)) 4 (f 4 + mm) (30 + 5 * n) = f3 (30 + 5 * n) := by rw [upd_ne (by omega), upd_ne (by omega)]
          refine gI hc2.1 hn4 (x := f3 (30 + 5 * n)) (by rw [← r30']; rfl) (brF' q ?_)
          unfold wp_X2_passNight_105
          rw [← nI_succ]
          refine hs G2 A' u' hc2 hA ?_
          show u' + nC (upd f3 (29 + 5 * n) (f3 (29 + 5 * n) + 1)) ≤ _
          rw [nC_upd (by omega)]
          exact hu
    · show HC ad G0 u G h A (upd f2 4 (f 4 + 0))
      rw [Int32.add_zero, upd_same (by rw [e42, e41])]
      exact hc
  refine gLoop_up 6 (fun n (ff : gS → Nat → Int32 → Prop) => ∀ G, HC ad G0 u G h A (fun j => if 12 ≤ j ∧ j < 12 + n then (if f1 j + 3 < 99 then f1 j + 3 else 99) else f1 j) → ff G h (nI n)) ?_ gFuel 0 (by omega) (gFuel_lt (by omega)) G (by rw [show (fun j => if 12 ≤ j ∧ j < 12 + 0 then (if f1 j + 3 < 99 then f1 j + 3 else 99) else f1 j) = f1 from by funext j; rw [if_neg (by omega)]]; exact hc)
  intro n ff hn hs G hc
  unfold wp_X2_passNight_12
  by_cases en : n = 6
  · subst en
    refine brT (by decide) (loopA G ?_)
    rw [← hf2]
    exact hc
  · refine brF (nI_ge (b := 6) (by omega) (by omega)) (hGetD hc.1 (hGetD hc.1 (wNN_of (dLd hc.1 rfl (j := n) (by omega) (wNN_of (hPutD hc rfl (j := n) (by omega) fun G2 hc2 => ?_))))))
    rw [← nI_succ]
    refine hs (by omega) G2 ?_
    rw [if_neg (by omega : ¬ (12 ≤ 12 + n ∧ 12 + n < 12 + n))] at hc2
    rw [show (fun j => if 12 ≤ j ∧ j < 12 + (n + 1) then (if f1 j + 3 < 99 then f1 j + 3 else 99) else f1 j) = upd (fun j => if 12 ≤ j ∧ j < 12 + n then (if f1 j + 3 < 99 then f1 j + 3 else 99) else f1 j) (12 + n) (if f1 (12 + n) + 3 < 99 then f1 (12 + n) + 3 else 99) from ?_]
    · exact hc2
    · funext j
      simp only [upd]
      by_cases hj : j = 12 + n
      · subst hj; rw [if_pos (by omega), if_pos rfl]
      · rw [if_neg hj]
        by_cases h3 : 12 ≤ j ∧ j < 12 + n
        · rw [if_pos (by omega), if_pos h3]
        · rw [if_neg h3, if_neg (by omega)]
theorem sp_pass (hc : HC ad G0 u G h A f) (hb : gB4 ad G0) {c : Nat} (hi : hI f c) (hR : rm G0 (u + nC f + 1)) {n : Nat} (hn : n ≤ 60) {K : gS → Prop} (k : ∀ G' A' u', u' + nC (pNights n f) ≤ u + nC f → hGa A' = hGa A → HC ad G0 u' G' h A' (pNights n f) → K G') : wp_X2_pass ad G h (nI n) X K := by
  unfold wp_X2_pass
  refine gLoop_up n (fun r (ff : gS → Nat → Int32 → Int32 → Prop) => ∀ G A' u', HC ad G0 u' G h A' (pNights r f) → hGa A' = hGa A → u' + nC (pNights r f) ≤ u + nC f → ff G h (nI n) (nI r)) ?_ gFuel 0 (by omega) (gFuel_lt (by omega)) G A u hc rfl (Nat.le_refl _)
  intro r ff hr hs G A' u' hc hA hu
  unfold wp_X2_pass_2
  by_cases e : r = n
  · subst e
    exact brT (Int32.le_refl _) (k G A' u' hu hA hc)
  · refine brF (nI_ge (by omega) (by omega)) ⟨hc.1.is, sp_passNight hc hb (hi.nights r) (hR.le (by omega)) fun G2 A2 u2 hu2 hA2 hc2 => ?_⟩
    rw [← nI_succ]
    exact hs (by omega) G2 A2 u2 hc2 (hA2.trans hA) (by show u2 + nC (pNight (pNights r f)) ≤ _; omega)
theorem pWaits_nights : ∀ r, (pWaits r f 0).1 = pNights r f
  | 0 => rfl
  | r + 1 => by rw [pWaits, pNights, pWaits_nights r]
theorem pWaits_4 : ∀ r, (pWaits r f 0).1 4 = f 4 + (pWaits r f 0).2
  | 0 => by show f 4 = f 4 + 0; rw [Int32.add_zero]
  | r + 1 => by
    rw [pWaits]
    show pNight (pWaits r f 0).1 4 = f 4 + ((pWaits r f 0).2 + (pNight0 (pWaits r f 0).1).2)
    rw [pNight, upd_self, pWaits_4 r, Int32.add_assoc]
theorem sp_passNights (hc : HC ad G0 u G h A f) (hb : gB4 ad G0) {c : Nat} (hi : hI f c) (hR : rm G0 (u + 12)) {x : Int32} {K : Int32 → gS → Prop} (k0 : oK0 ad G0 (u + 1) 11 (oNight x f) X) (k : oK1 ad G0 (u + 8) h A (oNight x f) K) : wp_X2_passNights ad G h x X K := by
  have h8 := hc.1.w.2.2.2
  unfold wp_X2_passNights
  refine sp_isBetween (sp_demandH hc (hR.le (by omega)) rfl (fun q => ?_) (fun q => ?_))
  · have e1 : (oNight x f).1 = 1 := by show pHolds _ _ _ _ = 1; rw [q]; rfl
    exact fun a G' e => k0 (by rw [e1]; decide) a G' (by rw [e1]; exact e)
  · have e1 : (oNight x f).1 = 0 := by show pHolds _ _ _ _ = 0; rw [q]; rfl
    have k : ∀ G' A', HC ad G0 (u + 8) G' h A' (pWaits x.toNatClampNeg f 0).1 → K (pWaits x.toNatClampNeg f 0).2 G' := k e1
    obtain ⟨n, -, hn, rfl⟩ := pIn_n (a := 1) (b := 60) rfl rfl (by omega) (by omega) q
    rw [nI_clamp (by omega)] at k
    refine hGetI hc.1 (by decide) ⟨hc.1.is, sp_pass hc hb hi (hR.le (by omega)) hn fun G5 A5 u5 hu5 hA5 hc5 => hGetI hc5.1 (by decide) ?_⟩
    have e4 : pNights n f (hMap 9) - f (hMap 9) = (pWaits n f 0).2 := by
      show pNights n f 4 - f 4 = _
      rw [← pWaits_nights, pWaits_4, Int32.add_comm, Int32.add_sub_cancel]
    rw [e4]
    exact k G5 A5 (by rw [pWaits_nights]; exact hc5.mono (by omega))
theorem sp_cancel (hc : HC ad G0 u G h A f) (hK0 : hK f) (hR : rm G0 (u + 4)) {id : Int32} {K : Int32 → gS → Prop} (k0 : oK0 ad G0 (u + 1) 5 (oCancel id f) X) (k : oK1 ad G0 (u + 2) h A (oCancel id f) K) : wp_X2_cancel ad G h id X K := by
  have h8 := hc.1.w.2.2.2
  unfold wp_X2_cancel
  refine ⟨hc.1.is, sp_find hc.1 ?_⟩
  cases e : pFind f id (nC f) with
  | none =>
    have e1 : (oCancel id f).1 = 1 := by rw [oCancel, e]
    refine oN ?_
    unfold wp_X2_cancel_15
    exact sp_demandH hc (hR.le (by omega)) (b := false) rfl (fun _ q G' ee => k0 (by rw [e1]; decide) q G' (by rw [e1]; exact ee)) (fun z => by cases z)
  | some w =>
    obtain ⟨hw, hid⟩ := pFind_lt e
    have eo : oCancel id f = (0, pCrumbs f w, pCancel f w) := by rw [oCancel, e]
    rw [eo] at k
    have k : ∀ G' A', HC ad G0 (u + 2) G' h A' (pCancel f w) → K (pCrumbs f w) G' := k rfl
    obtain ⟨⟨hg1, hg2⟩, -⟩ := hK0.2 w hw
    have hg5 := hK0.1.2.1.2
    refine oS ?_
    unfold wp_X2_cancel_15
    refine sp_demandH hc (hR.le (by omega)) (b := true) rfl (fun z => by cases z) (fun _ => hGetI hc.1 (by decide) (wNN_of (cI hc.1 hw rfl ?_)))
    have ecr : (if f (54 + 5 * w) / 10 < f (hMap 5) then f (54 + 5 * w) / 10 else f (hMap 5)) = pCrumbs f w := by
      rw [pCrumbs]
      exact min_comm32 _ _
    rw [ecr]
    have hro := hc.rm' (v := 1) (hR.le (by omega))
    refine wNew_nC (by omega) (by omega) fun c15 G14 s14 => ?_
    unfold wp_X11_init wp_J27_init
    refine wPut_sC s14.2.1 (ltb rfl) rfl fun G16 t16 => ?_
    have s16 := s14.set t16
    obtain ⟨hc16, z16⟩ := hc.new s16 (by omega)
    have cell16 := hc16.1.2.2.2.2.2.2.1 w hw
    rw [hCf, hg1] at cell16
    refine ⟨hc16.1.is, sp_end hc16 (Or.inr (Or.inl rfl)) hw s16.2.1 fun G17 k17 hc17 => ?_⟩
    have hc17 : HC ad G0 (u + 1) G17 h (dA A w) (pDrop f w) := hc17
    refine hGetI hc17.1 (by decide) (hPutK hc17 (by decide) fun G18 k18 hc18 => hGetG hc18.1 (wGetI_of (k18 _ _ _ _ (by omega) (k17 _ _ _ _ (by omega) cell16)) rfl (wNN_of ?_)))
    have hc18 : HC ad G0 (u + 1) G18 h (dA A w) (upd (pDrop f w) 1 (pDrop f w 1 - pCrumbs f w)) := hc18
    have n18 : pN f (52 + 5 * w) < nG (upd (pDrop f w) 1 (pDrop f w 1 - pCrumbs f w)) := by rw [nG_upd (by omega), nG_drop]; exact hg2
    refine hc18.1.2.2.2.1.2.1.get rfl n18 (wCast_of (gIsG hc18.1 n18) (by decide) (wNN_of ⟨gIsG hc18.1 n18, ?_⟩))
    unfold wp_X7_take
    refine gI hc18.1 n18 rfl (hPutG hc18 (i := 1) n18 (by omega) (fun z => by omega) fun G19 hc19 => k G19 (dA A w) ?_)
    rw [show 26 + 1 + 5 * pN f (52 + 5 * w) = 27 + 5 * pN f (52 + 5 * w) from rfl, upd_ne (by omega), pDrop_lo (j := 1) (by omega) (by omega), pDrop_lo (j := 27 + 5 * pN f (52 + 5 * w)) (by omega) (by omega)] at hc19
    have e : upd (upd (pDrop f w) 1 (f 1 - pCrumbs f w)) (27 + 5 * pN f (52 + 5 * w)) (f (27 + 5 * pN f (52 + 5 * w)) + pCrumbs f w) = pCancel f w := by
      rw [pCancel, pDrop_upd (by omega) (by omega), pDrop_upd (by omega) (by omega)]
    rw [e] at hc19
    exact hc19.mono (by omega)
end HN
