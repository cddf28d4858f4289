/-! PURE: a household's changes -/
set_option maxRecDepth 20000
def rm (G : gS) (n : Nat) : Prop := n ≤ G.2.1 ∧ 10 * n ≤ G.2.2
theorem rm.le {G : gS} {n n' : Nat} (h : rm G n) (hn : n' ≤ n) : rm G n' := ⟨Nat.le_trans hn h.1, Nat.le_trans (Nat.mul_le_mul_left 10 hn) h.2⟩
/-- a change has failed: what is thrown, its kind -/
def eF (ad : Nat → Nat) (G0 : gS) (u q κ : Nat) (G' : gS) : Prop := gTo (fun _ => False) u (10 * u) G0 G' ∧ G'.1 q = some (gO true 17 [.null, va_rf (gOp (ad 5)), va_rf (gOp (ad 6)), .null, .null, .int 0, va_rf (some κ)]) ∧ G0.1 q = none
def kap (o : Nat) (c : Int32) : Nat := match o with
  | 0 => if c = 1 then 110 else 111
  | 1 => if c = 1 then 110 else 111
  | 2 => if c = 1 then 117 else 111
  | 3 => if c = 1 then 117 else 111
  | 4 => if c = 1 then 117 else if c = 2 then 110 else if c = 3 then 111 else 118
  | 5 => 119
  | 6 => if c = 1 then 117 else 111
  | 7 => if c = 1 then 117 else 111
  | 8 => if c = 1 then 117 else if c = 2 then 110 else 118
  | 9 => 110
  | 10 => if c = 1 then 110 else 118
  | _ => 110
section HX
variable {ad : Nat → Nat} {G0 G : gS} {u h : Nat} {A : hA} {f : Nat → Int32} {X : Nat → gS → Prop}
theorem HC.rm' (hc : HC ad G0 u G h A f) {v : Nat} (h : rm G0 (u + v)) : v ≤ G.2.1 ∧ 10 * v ≤ G.2.2 := hc.room h.1 h.2
theorem sp_demandH (hc : HC ad G0 u G h A f) (hR : rm G0 (u + 1)) {b : Bool} {x : Int32} (hx : x = bI b) {κ : Nat} {K : gS → Prop} (k0 : b = false → ∀ q G', eF ad G0 (u + 1) q κ G' → X q G') (k1 : b = true → K G) : wp_X1_demand ad G x (some κ) X K := by
  have := hc.rm' hR
  exact sp_demand hx (by omega) (by omega) (fun q a G' s => k0 q a G' ⟨hc.2.2.all s.to (fun b z => False.elim z) (Nat.le_refl _) (by omega), s.2.1, hc.2.2.nul s.1⟩) k1
/-- the ends of a change -/
abbrev oK0 (ad : Nat → Nat) (G0 : gS) (u : Nat) (o : Nat) (r : pR) (X : Nat → gS → Prop) : Prop := r.1 ≠ 0 → ∀ q G', eF ad G0 u q (ad (kap o r.1)) G' → X q G'
abbrev oK1 (ad : Nat → Nat) (G0 : gS) (u h : Nat) (A : hA) (r : pR) (K : Int32 → gS → Prop) : Prop := r.1 = 0 → ∀ G' A', HC ad G0 u G' h A' r.2.2 → K r.2.1 G'
theorem sp_addGoblin (hc : HC ad G0 u G h A f) (hR : rm G0 (u + 4)) {s : Int32} {K : Int32 → gS → Prop} (k0 : oK0 ad G0 (u + 1) 0 (oGoblin s f) X) (k : oK1 ad G0 (u + 2) h A (oGoblin s f) K) : wp_X2_addGoblin ad G h s X K := by
  have hw := hc.1.w
  have key : ∀ x, pIn s 1 9 = true → x = bI (decide (f 9 < 5)) → wp_X2_addGoblin_30 ad X K G h s x := by
    intro x h1 hx
    unfold wp_X2_addGoblin_30
    refine sp_demandH hc (hR.le (by omega)) hx (fun q => ?_) (fun q => ?_)
    · have e1 : (oGoblin s f).1 = 2 := by show pHolds _ _ _ _ = 2; rw [h1, q]; rfl
      exact fun a G' e => k0 (by rw [e1]; decide) a G' (by rw [e1]; exact e)
    · have e1 : (oGoblin s f).1 = 0 := by show pHolds _ _ _ _ = 0; rw [h1, q]; rfl
      have k := k e1
      have hn : nG f < 5 := by
        rw [decide_eq_true_iff, hw.2.1.1] at q
        exact (nI_ltI (b := 5) (by have := hw.2.1.2; omega) (by omega)).mp q
      have hro := hc.rm' hR
      refine hGetG hc.1 (wNew_nC (by omega) (by omega) fun c4 G3 s3 => ?_)
      have hc3 := (hc.new s3 (by omega)).1
      refine hSizeG hc3.1 ?_
      unfold wp_X8_init wp_X7_init wp_X6_init
      refine wPut_sC s3.2.1 (ltb rfl) rfl fun G4 t4 => wPut_sC t4.1 (ltb rfl) rfl fun G9 t9 => wNN_of ?_
      have s9 := (s3.set t4).set t9
      obtain ⟨hc9, q0⟩ := hc.new s9 (by omega)
      have hro9 := hc9.rm' (v := 3) (hR.le (by omega))
      refine hc9.1.2.2.2.1.2.1.add (q := c4) (by omega) (fun k hk e => ?_) (gIsO_of s9.2.1) (by omega) (by omega) fun G11 e' C' t el hC he => ?_
      · have := (hc.1.2.2.2.2.2.1 k hk).1
        rw [e, s9.1] at this; cases this
      · have hff : ∀ j, (j ≠ 9 ∧ (j < 26 + 5 * nG f ∨ 31 + 5 * nG f ≤ j)) → pAddGoblin f s j = f j := fun j hj => by
          rw [pAddGoblin, upd_ne hj.1, if_neg (by omega)]
        have hin : ∀ i, i < 5 → pAddGoblin f s (26 + i + 5 * nG f) = if i = 0 then s else 0 := fun i hi => by
          rw [pAddGoblin, upd_ne (by omega), if_pos (by omega)]
          by_cases z : i = 0
          · rw [if_pos z, if_pos (by omega)]
          · rw [if_neg z, if_neg (by omega)]
        obtain ⟨hc11, hN⟩ := hAddG (f' := pAddGoblin f s) hc9 q0 (by
          rw [s9.2.1]
          have e0 : hGf (pAddGoblin f s) (nG f) = [.int (nI (nG f)), .int 0, .int 0, .int s, .int 0, .int 0] := by
            rw [hGf]
            rw [show 27 + 5 * nG f = 26 + 1 + 5 * nG f from rfl, show 28 + 5 * nG f = 26 + 2 + 5 * nG f from rfl, show 30 + 5 * nG f = 26 + 4 + 5 * nG f from rfl, show 29 + 5 * nG f = 26 + 3 + 5 * nG f from rfl, hin 1 (by omega), hin 2 (by omega), hin 4 (by omega), hin 3 (by omega), show 26 + 5 * nG f = 26 + 0 + 5 * nG f by omega, hin 0 (by omega)]
            rfl
          rw [e0]; rfl) hn hff (by rw [pAddGoblin, upd_self]) (Or.inl (by rw [show 30 + 5 * nG f = 26 + 4 + 5 * nG f from rfl, hin 4 (by omega)]; rfl)) t el hC he
        have kk := k G11 _ hc11
        refine hSizeG hc11.1 ?_
        rw [hN, nI_pred, ← hw.2.1.1]
        exact kk
  unfold wp_X2_addGoblin
  refine sp_isBetween (sp_demandH hc (hR.le (by omega)) rfl (fun q => ?_) (fun q => hSizeG hc.1 ⟨fun z => key _ q ?_, fun z => key _ q ?_⟩))
  · have e1 : (oGoblin s f).1 = 1 := by show pHolds _ _ _ _ = 1; rw [q]; rfl
    exact fun a G' e => k0 (by rw [e1]; decide) a G' (by rw [e1]; exact e)
  · rw [← hw.2.1.1] at z
    rw [decide_eq_false (fun q2 => absurd q2 (Int32.not_lt.mpr z))]; rfl
  · rw [← hw.2.1.1] at z
    rw [decide_eq_true (Int32.not_le.mp z)]; rfl
theorem sp_addBroom (hc : HC ad G0 u G h A f) (hR : rm G0 (u + 4)) {s : Int32} {K : Int32 → gS → Prop} (k0 : oK0 ad G0 (u + 1) 1 (oBroom s f) X) (k : oK1 ad G0 (u + 2) h A (oBroom s f) K) : wp_X2_addBroom ad G h s X K := by
  have hw := hc.1.w
  have key : ∀ x, pIn s 1 20 = true → x = bI (decide (f 8 < 4)) → wp_X2_addBroom_30 ad X K G h s x := by
    intro x h1 hx
    unfold wp_X2_addBroom_30
    refine sp_demandH hc (hR.le (by omega)) hx (fun q => ?_) (fun q => ?_)
    · have e1 : (oBroom s f).1 = 2 := by show pHolds _ _ _ _ = 2; rw [h1, q]; rfl
      exact fun a G' e => k0 (by rw [e1]; decide) a G' (by rw [e1]; exact e)
    · have e1 : (oBroom s f).1 = 0 := by show pHolds _ _ _ _ = 0; rw [h1, q]; rfl
      have k := k e1
      have hn : nB f < 4 := by
        rw [decide_eq_true_iff, hw.1.1] at q
        exact (nI_ltI (b := 4) (by have := hw.1.2; omega) (by omega)).mp q
      have hro := hc.rm' hR
      refine hGetB hc.1 (wNew_nC (by omega) (by omega) fun c4 G3 s3 => ?_)
      unfold wp_X9_init
      refine wPut_sC s3.2.1 (ltb rfl) rfl fun G4 t4 => wPut_sC t4.1 (ltb rfl) rfl fun G9 t9 => wNN_of ?_
      have s9 := (s3.set t4).set t9
      obtain ⟨hc9, q0⟩ := hc.new s9 (by omega)
      have hro9 := hc9.rm' (v := 3) (hR.le (by omega))
      refine hc9.1.2.2.2.1.1.add (q := c4) (by omega) (fun k hk e => ?_) (gIsO_of s9.2.1) (by omega) (by omega) fun G11 e' C' t el hC he => ?_
      · have := (hc.1.2.2.2.2.1 k hk).1
        rw [e, s9.1] at this; cases this
      · have hff : ∀ j, (j ≠ 8 ∧ (j < 18 + 2 * nB f ∨ 20 + 2 * nB f ≤ j)) → pAddBroom f s j = f j := fun j hj => by
          rw [pAddBroom, upd_ne hj.1, upd_ne (by omega), upd_ne (by omega)]
        obtain ⟨hc11, hN⟩ := hAddB (f' := pAddBroom f s) hc9 q0 (by
          rw [s9.2.1]
          have e0 : hBf ad (pAddBroom f s) (nB f) = [.int s, va_rf (some (ad 0))] := by
            rw [hBf, pAddBroom, upd_ne (by omega), upd_ne (by omega), upd_self, upd_ne (by omega), upd_self]
            rfl
          rw [e0]; rfl) hn hff (by rw [pAddBroom, upd_self]) (Or.inl (by rw [pAddBroom, upd_ne (by omega), upd_self])) t el hC he
        have kk := k G11 _ hc11
        refine hSizeB hc11.1 ?_
        rw [hN, nI_pred, ← hw.1.1]
        exact kk
  unfold wp_X2_addBroom
  refine sp_isBetween (sp_demandH hc (hR.le (by omega)) rfl (fun q => ?_) (fun q => hSizeB hc.1 ⟨fun z => key _ q ?_, fun z => key _ q ?_⟩))
  · have e1 : (oBroom s f).1 = 1 := by show pHolds _ _ _ _ = 1; rw [q]; rfl
    exact fun a G' e => k0 (by rw [e1]; decide) a G' (by rw [e1]; exact e)
  · rw [← hw.1.1] at z
    rw [decide_eq_false (fun q2 => absurd q2 (Int32.not_lt.mpr z))]; rfl
  · rw [← hw.1.1] at z
    rw [decide_eq_true (Int32.not_le.mp z)]; rfl
theorem sp_setStanding (hc : HC ad G0 u G h A f) (had : ad 0 ≠ ad 1) (hR : rm G0 (u + 4)) {o : Nat} (ho : o = 2 ∨ o = 3) {x b : Int32} (hx : x = 0 ∨ x = 1) {K : Int32 → gS → Prop} (k0 : oK0 ad G0 (u + 1) o (oBan x b f) X) (k : oK1 ad G0 (u + 2) h A (oBan x b f) K) : wp_X2_setStanding ad G h b (some (if x = 1 then ad 1 else ad 0)) X K := by
  have hw := hc.1.w
  have k1 : kap o 1 = 117 := by rcases ho with rfl | rfl <;> rfl
  have k2 : kap o 2 = 111 := by rcases ho with rfl | rfl <;> rfl
  unfold wp_X2_setStanding
  refine ⟨hc.1.is, sp_isBroom hc.1 (sp_demandH hc (hR.le (by omega)) rfl (fun q => ?_) (fun q => ?_))⟩
  · have e1 : (oBan x b f).1 = 1 := by show pHolds _ _ _ _ = 1; rw [q]; rfl
    exact fun a G' e => k0 (by rw [e1]; decide) a G' (by rw [e1, k1]; exact e)
  · obtain ⟨n, hn, rfl, en⟩ := pBi_t hw q
    obtain ⟨hb1, hb2⟩ := hc.1.2.2.2.2.1 n hn
    have key : ∀ y, y = bI (decide (f (19 + 2 * n) ≠ x)) → wp_X2_setStanding_35 ad X K G h (nI n) (some (if x = 1 then ad 1 else ad 0)) y := by
      intro y hy
      unfold wp_X2_setStanding_35
      refine sp_demandH hc (hR.le (by omega)) hy (fun q2 => ?_) (fun q2 => ?_)
      · have e1 : (oBan x (nI n) f).1 = 2 := by show pHolds _ _ _ _ = 2; rw [q, en, q2]; rfl
        exact fun a G' e => k0 (by rw [e1]; decide) a G' (by rw [e1, k2]; exact e)
      · have e1 : (oBan x (nI n) f).1 = 0 := by show pHolds _ _ _ _ = 0; rw [q, en, q2]; rfl
        have k := k e1
        refine hElB hc.1 rfl hn (wNN_of (hPutB hc had hn hx fun G7 hc7 => ⟨hc7.1.is, sp_usedBrooms hc7.1 had ?_⟩))
        have kk := k G7 A (by show HC _ _ _ _ _ _ (pBan f (pBi f (nI n)) x); rw [en]; exact hc7.mono (by omega))
        rw [nB_upd (by omega)]
        have kk : K (pUsed (pBan f (pBi f (nI n)) x) (nB f)) G7 := kk
        rw [en] at kk
        exact kk
    refine hElB hc.1 rfl hn (wNN_of (wGetQ_of hb1 (x := some (if f (19 + 2 * n) = 1 then ad 1 else ad 0)) rfl ⟨fun z => key _ ?_, fun z => key _ ?_⟩))
    · have z := Option.some.inj z
      have : f (19 + 2 * n) = x := by
        rcases hb2 with y | y <;> rcases hx with y2 | y2 <;> rw [y, y2] at z ⊢
        · rw [if_neg (by decide), if_pos rfl] at z; exact absurd z had
        · rw [if_pos rfl, if_neg (by decide)] at z; exact absurd z.symm had
      rw [decide_eq_false (fun w => w this)]; rfl
    · rw [decide_eq_true (show f (19 + 2 * n) ≠ x from fun w => z (by rw [w]))]; rfl
theorem sp_setResting (hc : HC ad G0 u G h A f) (hR : rm G0 (u + 4)) {o : Nat} (ho : o = 6 ∨ o = 7) {x g : Int32} (hx : x = 0 ∨ x = 1) {K : Int32 → gS → Prop} (k0 : oK0 ad G0 (u + 1) o (oRest x g f) X) (k : oK1 ad G0 (u + 2) h A (oRest x g f) K) : wp_X2_setResting ad G h g x X K := by
  have hw := hc.1.w
  have k1 : kap o 1 = 117 := by rcases ho with rfl | rfl <;> rfl
  have k2 : kap o 2 = 111 := by rcases ho with rfl | rfl <;> rfl
  unfold wp_X2_setResting
  refine ⟨hc.1.is, sp_isGoblin hc.1 (sp_demandH hc (hR.le (by omega)) rfl (fun q => ?_) (fun q => ?_))⟩
  · have e1 : (oRest x g f).1 = 1 := by show pHolds _ _ _ _ = 1; rw [q]; rfl
    exact fun a G' e => k0 (by rw [e1]; decide) a G' (by rw [e1, k1]; exact e)
  · obtain ⟨n, hn, rfl, en⟩ := pGi_t hw q
    have key : ∀ y, y = bI (decide (f (30 + 5 * n) ≠ x)) → wp_X2_setResting_37 ad X K G h x (hGa A n) y := by
      intro y hy
      unfold wp_X2_setResting_37
      refine sp_demandH hc (hR.le (by omega)) hy (fun q2 => ?_) (fun q2 => ⟨?_, ?_⟩)
      · have e1 : (oRest x (nI n) f).1 = 2 := by show pHolds _ _ _ _ = 2; rw [q, en, q2]; rfl
        exact fun a G' e => k0 (by rw [e1]; decide) a G' (by rw [e1, k2]; exact e)
      · rcases hx with rfl | rfl <;> exact ⟨rfl, rfl⟩
      · have e1 : (oRest x (nI n) f).1 = 0 := by show pHolds _ _ _ _ = 0; rw [q, en, q2]; rfl
        have k := k e1
        refine hPutG hc (i := 4) hn (by omega) (fun _ => hx) fun G2 hc2 => ?_
        rw [show 26 + 4 + 5 * n = 30 + 5 * n from rfl] at hc2
        have kk := k G2 A (by show HC _ _ _ _ _ _ (pRestF f (pGi f (nI n)) x); rw [en]; exact hc2.mono (by omega))
        have kk : K (if x = 1 then pRest (pRestF f (pGi f (nI n)) x) (nG f) else f (29 + 5 * pGi f (nI n))) G2 := kk
        rw [en] at kk
        have e9 : nG (upd f (30 + 5 * n) x) = nG f := nG_upd (by omega)
        rcases hx with rfl | rfl
        · rw [if_neg (by decide)] at kk
          refine brT rfl (gI hc2.1 (k := n) (by rw [e9]; exact hn) (x := f (29 + 5 * n)) ?_ kk)
          show some (Value.int (upd f (30 + 5 * n) 0 (29 + 5 * n))) = _
          rw [upd_ne (by omega)]
        · rw [if_pos rfl] at kk
          refine brF (by decide) ⟨hc2.1.is, sp_restingCount hc2.1 ?_⟩
          rw [e9]
          exact kk
    refine hElG hc.1 rfl hn (wNN_of (gI hc.1 hn rfl ⟨fun z => key _ ?_, fun z => key _ ?_⟩))
    · rw [decide_eq_false (fun w => w z)]; rfl
    · rw [decide_eq_true z]; rfl
theorem sp_fund (hc : HC ad G0 u G h A f) (hR : rm G0 (u + 4)) {x : Int32} {K : Int32 → gS → Prop} (k0 : oK0 ad G0 (u + 1) 9 (oFund x f) X) (k : oK1 ad G0 (u + 2) h A (oFund x f) K) : wp_X2_fund ad G h x X K := by
  unfold wp_X2_fund
  refine sp_isBetween (sp_demandH hc (hR.le (by omega)) rfl (fun q => ?_) (fun q => ?_))
  · have e1 : (oFund x f).1 = 1 := by show pHolds _ _ _ _ = 1; rw [q]; rfl
    exact fun a G' e => k0 (by rw [e1]; decide) a G' (by rw [e1]; exact e)
  · have e1 : (oFund x f).1 = 0 := by show pHolds _ _ _ _ = 0; rw [q]; rfl
    have k := k e1
    refine hGetI hc.1 (by decide) (hPut hc (by decide) fun G2 hc2 => hGetI hc2.1 (by decide) (hPut hc2 (by decide) fun G3 hc3 => hGetI hc3.1 (by decide) ?_))
    have hc3 : HC ad G0 u G3 h A (upd (upd f 1 (f 1 + x)) 2 (f 2 + x)) := hc3
    exact k G3 A (hc3.mono (by omega))
theorem sp_spend (hc : HC ad G0 u G h A f) (hR : rm G0 (u + 4)) {x : Int32} {K : Int32 → gS → Prop} (k0 : oK0 ad G0 (u + 1) 10 (oSpend x f) X) (k : oK1 ad G0 (u + 2) h A (oSpend x f) K) : wp_X2_spend ad G h x X K := by
  have key : ∀ y, pIn x 1 999 = true → y = bI (decide (x ≤ f 1)) → wp_X2_spend_26 ad X K G h x y := by
    intro y q hy
    unfold wp_X2_spend_26
    refine sp_demandH hc (hR.le (by omega)) hy (fun q2 => ?_) (fun q2 => ?_)
    · have e1 : (oSpend x f).1 = 2 := by show pHolds _ _ _ _ = 2; rw [q, q2]; rfl
      exact fun a G' e => k0 (by rw [e1]; decide) a G' (by rw [e1]; exact e)
    · have e1 : (oSpend x f).1 = 0 := by show pHolds _ _ _ _ = 0; rw [q, q2]; rfl
      have k := k e1
      refine hGetI hc.1 (by decide) (hPut hc (by decide) fun G2 hc2 => hGetI hc2.1 (by decide) (hPut hc2 (by decide) fun G3 hc3 => hGetI hc3.1 (by decide) ?_))
      have hc3 : HC ad G0 u G3 h A (upd (upd f 1 (f 1 - x)) 3 (f 3 + x)) := hc3
      exact k G3 A (hc3.mono (by omega))
  unfold wp_X2_spend
  refine sp_isBetween (sp_demandH hc (hR.le (by omega)) rfl (fun q => ?_) (fun q => hGetI hc.1 (by decide) ⟨fun z => key _ q ?_, fun z => key _ q ?_⟩))
  · have e1 : (oSpend x f).1 = 1 := by show pHolds _ _ _ _ = 1; rw [q]; rfl
    exact fun a G' e => k0 (by rw [e1]; decide) a G' (by rw [e1]; exact e)
  · have z : f 1 < x := z
    rw [decide_eq_false (fun q2 => absurd q2 (Int32.not_le.mpr z))]; rfl
  · have z : ¬ f 1 < x := z
    rw [decide_eq_true (Int32.not_lt.mp z)]; rfl
theorem sp_lend (hc : HC ad G0 u G h A f) (hR : rm G0 (u + 4)) {g x : Int32} {K : Int32 → gS → Prop} (k0 : oK0 ad G0 (u + 1) 8 (oLend g x f) X) (k : oK1 ad G0 (u + 2) h A (oLend g x f) K) : wp_X2_lend ad G h g x X K := by
  have hw := hc.1.w
  unfold wp_X2_lend wp_X2_lend_60
  refine ⟨hc.1.is, sp_isGoblin hc.1 (sp_demandH hc (hR.le (by omega)) rfl (fun q => ?_) (fun q => ?_))⟩
  · have e1 : (oLend g x f).1 = 1 := by show pHolds _ _ _ _ = 1; rw [q]; rfl
    exact fun a G' e => k0 (by rw [e1]; decide) a G' (by rw [e1]; exact e)
  obtain ⟨n, hn, rfl, en⟩ := pGi_t hw q
  refine sp_isBetween (sp_demandH hc (hR.le (by omega)) rfl (fun q2 => ?_) (fun q2 => ?_))
  · have e1 : (oLend (nI n) x f).1 = 2 := by show pHolds _ _ _ _ = 2; rw [q, q2]; rfl
    exact fun a G' e => k0 (by rw [e1]; decide) a G' (by rw [e1]; exact e)
  have key : ∀ y, y = bI (decide (x ≤ f 1) && decide (f (28 + 5 * n) + x ≤ 200)) → wp_X2_lend_61 ad X K G h x (some (hGa A n)) y := by
    intro y hy
    unfold wp_X2_lend_61
    refine sp_demandH hc (hR.le (by omega)) hy (fun q3 => ?_) (fun q3 => ?_)
    · have e1 : (oLend (nI n) x f).1 = 3 := by show pHolds _ _ _ _ = 3; rw [q, q2, en, q3]; rfl
      exact fun a G' e => k0 (by rw [e1]; decide) a G' (by rw [e1]; exact e)
    · have e1 : (oLend (nI n) x f).1 = 0 := by show pHolds _ _ _ _ = 0; rw [q, q2, en, q3]; rfl
      have k := k e1
      refine hGetI hc.1 (by decide) (hPut hc (by decide) fun G3 hc3 => wNN_of ?_)
      have hc3 : HC ad G0 u G3 h A (upd f 1 (f 1 - x)) := hc3
      have n3 : n < nG (upd f 1 (f 1 - x)) := by rw [nG_upd (by omega)]; exact hn
      refine ⟨gIsG hc3.1 n3, ?_⟩
      unfold wp_X7_borrow
      refine gI hc3.1 n3 rfl (hPutG hc3 (i := 1) n3 (by omega) (fun z => by omega) fun G4 hc4 => ?_)
      rw [show 26 + 1 + 5 * n = 27 + 5 * n from rfl, upd_ne (by omega : 27 + 5 * n ≠ 1)] at hc4
      have n4 : n < nG (upd (upd f 1 (f 1 - x)) (27 + 5 * n) (f (27 + 5 * n) + x)) := by rw [nG_upd (by omega)]; exact n3
      refine gI hc4.1 n4 rfl (hPutG hc4 (i := 2) n4 (by omega) (fun z => by omega) fun G5 hc5 => ?_)
      rw [show 26 + 2 + 5 * n = 28 + 5 * n from rfl, upd_ne (by omega : 28 + 5 * n ≠ 27 + 5 * n), upd_ne (by omega : 28 + 5 * n ≠ 1)] at hc5
      have n5 : n < nG (upd (upd (upd f 1 (f 1 - x)) (27 + 5 * n) (f (27 + 5 * n) + x)) (28 + 5 * n) (f (28 + 5 * n) + x)) := by rw [nG_upd (by omega)]; exact n4
      refine ⟨gIsG hc5.1 n5, ?_⟩
      unfold wp_X7_debt
      refine gI hc5.1 n5 (x := f (28 + 5 * n) + x) ?_ ?_
      · show some (Value.int (upd _ (28 + 5 * n) _ (28 + 5 * n))) = _
        rw [upd_self]
      · have kk := k G5 A (by show HC _ _ _ _ _ _ (pLend f (pGi f (nI n)) x); rw [en]; exact hc5.mono (by omega))
        have kk : K (f (28 + 5 * pGi f (nI n)) + x) G5 := kk
        rw [en] at kk
        exact kk
  refine hElG hc.1 rfl hn (hGetI hc.1 (by decide) ⟨fun z => key _ ?_, fun z => wNN_of ⟨gIsG hc.1 hn, ?_⟩⟩)
  · have z : f 1 < x := z
    rw [decide_eq_false (fun q2 => absurd q2 (Int32.not_le.mpr z))]; rfl
  · have z : ¬ f 1 < x := z
    unfold wp_X7_debt
    refine gI hc.1 hn rfl ⟨fun z2 => key _ ?_, fun z2 => key _ ?_⟩
    · rw [decide_eq_false (fun q2 => absurd q2 (Int32.not_le.mpr z2)), Bool.and_false]; rfl
    · rw [decide_eq_true (Int32.not_lt.mp z), decide_eq_true (Int32.not_lt.mp z2)]; rfl
theorem sp_hire (hc : HC ad G0 u G h A f) (hR : rm G0 (u + 4)) {g r w e : Int32} {K : Int32 → gS → Prop} (k0 : oK0 ad G0 (u + 1) 4 (oHire g r w e f) X) (k : oK1 ad G0 (u + 2) h A (oHire g r w e f) K) : wp_X2_hire ad G h g r w e X K := by
  have hw := hc.1.w
  have k96 : ∀ x, (pIn g 0 (f 9 - 1) && pIn r 0 5) = true → (pIn w 1 50 && pIn e 1 20) = true → decide (f 11 < 8) = true → x = bI (!pHas f g r (nC f)) → wp_X2_hire_96 ad X K G h g r w e x := by
    intro x q1 q2 q3 hx
    unfold wp_X2_hire_96
    refine sp_demandH hc (hR.le (by omega)) hx (fun q => ?_) (fun q => ?_)
    · have e1 : (oHire g r w e f).1 = 4 := by show pHolds _ _ _ _ = 4; rw [q1, q2, q3, q]; rfl
      exact fun a G' ee => k0 (by rw [e1]; decide) a G' (by rw [e1]; exact ee)
    · have e1 : (oHire g r w e f).1 = 0 := by show pHolds _ _ _ _ = 0; rw [q1, q2, q3, q]; rfl
      have k := k e1
      have hn : nC f < 8 := by
        rw [decide_eq_true_iff, hw.2.2.1] at q3
        exact (nI_ltI (b := 8) (by have := hw.2.2.2; omega) (by omega)).mp q3
      have hro := hc.rm' hR
      refine hGetC hc.1 (wNew_nC (by omega) (by omega) fun c4 G3 s3 => ?_)
      have hc3 := (hc.new s3 (by omega)).1
      refine hGetI hc3.1 (by decide) ?_
      unfold wp_X10_init
      refine wPut_sC s3.2.1 (ltb rfl) rfl fun G4 t4 => wPut_sC t4.1 (ltb rfl) rfl fun G5 t5 => wPut_sC t5.1 (ltb rfl) rfl fun G6 t6 => wPut_sC t6.1 (ltb rfl) rfl fun G7 t7 => wPut_sC t7.1 (ltb rfl) rfl fun G9 t9 => wNN_of ?_
      have s9 := ((((s3.set t4).set t5).set t6).set t7).set t9
      obtain ⟨hc9, q0⟩ := hc.new s9 (by omega)
      have hro9 := hc9.rm' (v := 3) (hR.le (by omega))
      refine hc9.1.2.2.2.1.2.2.add (q := c4) (by omega) (fun k hk ee => ?_) (gIsO_of s9.2.1) (by omega) (by omega) fun G11 e' C' t el hC he => ?_
      · have := hc.1.2.2.2.2.2.2.1 k hk
        rw [ee, s9.1] at this; cases this
      · have hff : ∀ j, (j ≠ 11 ∧ (j < 51 + 5 * nC f ∨ 56 + 5 * nC f ≤ j)) → upd (upd (upd (upd (upd (upd f (51 + 5 * nC f) (f 10)) (52 + 5 * nC f) g) (53 + 5 * nC f) r) (54 + 5 * nC f) w) (55 + 5 * nC f) e) 11 (f 11 + 1) j = f j := fun j hj => by
          rw [upd_ne hj.1, upd_ne (by omega), upd_ne (by omega), upd_ne (by omega), upd_ne (by omega), upd_ne (by omega)]
        obtain ⟨hc11, hN⟩ := hAddC (f' := upd (upd (upd (upd (upd (upd f (51 + 5 * nC f) (f 10)) (52 + 5 * nC f) g) (53 + 5 * nC f) r) (54 + 5 * nC f) w) (55 + 5 * nC f) e) 11 (f 11 + 1)) hc9 (by
          rw [s9.2.1]
          have e0 : hCf (upd (upd (upd (upd (upd (upd f (51 + 5 * nC f) (f 10)) (52 + 5 * nC f) g) (53 + 5 * nC f) r) (54 + 5 * nC f) w) (55 + 5 * nC f) e) 11 (f 11 + 1)) (nC f) = [.int (f 10), .int g, .int r, .int w, .int e] := by
            rw [hCf]
            rw [upd_ne (by omega : 51 + 5 * nC f ≠ 11), upd_ne (by omega : 51 + 5 * nC f ≠ 55 + 5 * nC f), upd_ne (by omega : 51 + 5 * nC f ≠ 54 + 5 * nC f), upd_ne (by omega : 51 + 5 * nC f ≠ 53 + 5 * nC f), upd_ne (by omega : 51 + 5 * nC f ≠ 52 + 5 * nC f), upd_self]
            rw [upd_ne (by omega : 52 + 5 * nC f ≠ 11), upd_ne (by omega : 52 + 5 * nC f ≠ 55 + 5 * nC f), upd_ne (by omega : 52 + 5 * nC f ≠ 54 + 5 * nC f), upd_ne (by omega : 52 + 5 * nC f ≠ 53 + 5 * nC f), upd_self]
            rw [upd_ne (by omega : 53 + 5 * nC f ≠ 11), upd_ne (by omega : 53 + 5 * nC f ≠ 55 + 5 * nC f), upd_ne (by omega : 53 + 5 * nC f ≠ 54 + 5 * nC f), upd_self]
            rw [upd_ne (by omega : 54 + 5 * nC f ≠ 11), upd_ne (by omega : 54 + 5 * nC f ≠ 55 + 5 * nC f), upd_self]
            rw [upd_ne (by omega : 55 + 5 * nC f ≠ 11), upd_self]
          rw [e0]; rfl) hn hff (by rw [upd_self]) t el hC he
        refine hGetI hc11.1 (by decide) (hPut hc11 (by decide) fun G12 hc12 => hGetI hc12.1 (by decide) ?_)
        have e10 : upd (upd (upd (upd (upd (upd f (51 + 5 * nC f) (f 10)) (52 + 5 * nC f) g) (53 + 5 * nC f) r) (54 + 5 * nC f) w) (55 + 5 * nC f) e) 11 (f 11 + 1) 10 = f 10 := by
          rw [upd_ne (by omega), upd_ne (by omega), upd_ne (by omega), upd_ne (by omega), upd_ne (by omega), upd_ne (by omega)]
        have hc12 : HC ad G0 (u + 1 + 1) G12 h _ (upd (upd (upd (upd (upd (upd (upd f (51 + 5 * nC f) (f 10)) (52 + 5 * nC f) g) (53 + 5 * nC f) r) (54 + 5 * nC f) w) (55 + 5 * nC f) e) 11 (f 11 + 1)) 10 (upd (upd (upd (upd (upd (upd f (51 + 5 * nC f) (f 10)) (52 + 5 * nC f) g) (53 + 5 * nC f) r) (54 + 5 * nC f) w) (55 + 5 * nC f) e) 11 (f 11 + 1) 10 + 1)) := hc12
        rw [e10] at hc12
        have kk := k G12 _ hc12
        show K (upd (upd (upd (upd (upd (upd (upd f (51 + 5 * nC f) (f 10)) (52 + 5 * nC f) g) (53 + 5 * nC f) r) (54 + 5 * nC f) w) (55 + 5 * nC f) e) 11 (f 11 + 1)) 10 (upd (upd (upd (upd (upd (upd f (51 + 5 * nC f) (f 10)) (52 + 5 * nC f) g) (53 + 5 * nC f) r) (54 + 5 * nC f) w) (55 + 5 * nC f) e) 11 (f 11 + 1) 10 + 1) 10 - 1) G12
        rw [upd_self, e10, Int32.add_sub_cancel]
        exact kk
  have k77 : ∀ x, (pIn g 0 (f 9 - 1) && pIn r 0 5) = true → (pIn w 1 50 && pIn e 1 20) = true → x = bI (decide (f 11 < 8)) → wp_X2_hire_77 ad X K G h g r w e x := by
    intro x q1 q2 hx
    unfold wp_X2_hire_77
    refine sp_demandH hc (hR.le (by omega)) hx (fun q => ?_) (fun q => ⟨hc.1.is, sp_hasContract hc.1 (bI_br' (fun z => k96 _ q1 q2 q ?_) (fun z => k96 _ q1 q2 q ?_))⟩)
    · have e1 : (oHire g r w e f).1 = 3 := by show pHolds _ _ _ _ = 3; rw [q1, q2, q]; rfl
      exact fun a G' ee => k0 (by rw [e1]; decide) a G' (by rw [e1]; exact ee)
    · rw [z]; rfl
    · rw [z]; rfl
  have k53 : ∀ x, (pIn g 0 (f 9 - 1) && pIn r 0 5) = true → x = bI (pIn w 1 50 && pIn e 1 20) → wp_X2_hire_53 ad X K G h g r w e x := by
    intro x q1 hx
    unfold wp_X2_hire_53
    refine sp_demandH hc (hR.le (by omega)) hx (fun q => ?_) (fun q => hSizeC hc.1 ⟨fun z => k77 _ q1 q ?_, fun z => k77 _ q1 q ?_⟩)
    · have e1 : (oHire g r w e f).1 = 2 := by show pHolds _ _ _ _ = 2; rw [q1, q]; rfl
      exact fun a G' ee => k0 (by rw [e1]; decide) a G' (by rw [e1]; exact ee)
    · rw [← hw.2.2.1] at z
      rw [decide_eq_false (fun q2 => absurd q2 (Int32.not_lt.mpr z))]; rfl
    · rw [← hw.2.2.1] at z
      rw [decide_eq_true (Int32.not_le.mp z)]; rfl
  have k22 : ∀ x, x = bI (pIn g 0 (f 9 - 1) && pIn r 0 5) → wp_X2_hire_22 ad X K G h g r w e x := by
    intro x hx
    unfold wp_X2_hire_22 wp_X2_hire_52
    refine sp_demandH hc (hR.le (by omega)) hx (fun q => ?_) (fun q => sp_isBetween (bI_br (fun z => k53 _ q ?_) (fun z => sp_isBetween (bI_br (fun z2 => k53 _ q ?_) (fun z2 => k53 _ q ?_)))))
    · have e1 : (oHire g r w e f).1 = 1 := by show pHolds _ _ _ _ = 1; rw [q]; rfl
      exact fun a G' ee => k0 (by rw [e1]; decide) a G' (by rw [e1]; exact ee)
    · rw [z]; rfl
    · rw [z2, Bool.and_false]; rfl
    · rw [z, z2]; rfl
  unfold wp_X2_hire wp_X2_hire_21
  refine ⟨hc.1.is, sp_isGoblin hc.1 (bI_br (fun z => k22 _ ?_) (fun z => sp_isBetween (bI_br (fun z2 => k22 _ ?_) (fun z2 => k22 _ ?_))))⟩
  · rw [z]; rfl
  · rw [z2, Bool.and_false]; rfl
  · rw [z, z2]; rfl
end HX
