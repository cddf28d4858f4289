/-! walk 3 (printed by gen/walk.py) -/
set_option maxRecDepth 20000
def wp_X0_isResting_15 (ad : Nat → Nat) (X : Nat → gS → Prop) (K : Int32 → gS → Prop) (G : gS) (xs0 : Int64) (xs1 : Int32) (os2 : Option Nat) : Prop :=
  wNN os2 fun c1 => wAstL G c1 xs1 xs0 fun G2 => K (0 : Int32) G2
theorem w_X0_isResting_15 {C : gCx} (hC : gOk C "GoblinHouseholdLaw" cX0_isResting [(0, 16, 19, 23)] (some .int) "isResting" 4 11 298) {K : Int32 → gS → Prop} {X : Nat → gS → Prop} (hK : ∀ r G, K r G → cxK C (some (vI r)) G) (hX : ∀ q G, X q G → cxX C q G) {G : gS} {xs0 : Int64} {xs1 : Int32} {os2 : Option Nat} (h : wp_X0_isResting_15 (cxA C) X K G xs0 xs1 os2) : gGo C G 15 [] [vL xs0, vI xs1, vQ os2] := by
  unfold wp_X0_isResting_15 at h
  rcases os2 with _ | c1
  · exact (gNN0 h).elim
  replace h := gNN1 h
  refine g_astL hC (pc := 15) h dX0_isResting_15 (fun G2 h => ?_)
  refine g_goto hC (pc := 16) 22 (by decide) dX0_isResting_16 ?_
  refine g_iconst hC (pc := 22) (v := (0 : Int32)) (by decide) dX0_isResting_22 ?_
  exact g_iret hC (pc := 23) (hK _ _ h) dX0_isResting_23
def wp_X0_isResting_19 (ad : Nat → Nat) (X : Nat → gS → Prop) (K : Int32 → gS → Prop) (G : gS) (ts0 : Nat) : Prop :=
  K (1 : Int32) G
theorem w_X0_isResting_19 {C : gCx} (hC : gOk C "GoblinHouseholdLaw" cX0_isResting [(0, 16, 19, 23)] (some .int) "isResting" 4 11 298) {K : Int32 → gS → Prop} {X : Nat → gS → Prop} (hK : ∀ r G, K r G → cxK C (some (vI r)) G) (hX : ∀ q G, X q G → cxX C q G) {G : gS} {ts0 : Nat} (h : wp_X0_isResting_19 (cxA C) X K G ts0) : gGo C G 19 [] [vQ (some ts0)] := by
  unfold wp_X0_isResting_19 at h
  refine g_astore_n hC (pc := 19) (lv' := [(3, vQ (some ts0))]) rfl (by decide) rfl dX0_isResting_19 ?_
  refine g_iconst hC (pc := 20) (v := (1 : Int32)) (by decide) dX0_isResting_20 ?_
  exact g_iret hC (pc := 21) (hK _ _ h) dX0_isResting_21
def wp_X0_isResting (ad : Nat → Nat) (G : gS) (o0 : Option Nat) (x1 : Int32) (o2 : Option Nat) (X : Nat → gS → Prop) (K : Int32 → gS → Prop) : Prop :=
  wNN o0 fun c1 => (gIs G c1 1 ∧ wp_X1_isResting ad G c1 x1 (fun y3 G4 => (gHas G4 y3 20 ∧ (wp_X0_isResting_19 ad X K G4 y3))) (fun r5 G2 => (r5 = (0 : Int32) → wp_X0_isResting_15 ad X K G2 (0 : Int64) (0 : Int32) o2) ∧ (¬ r5 = (0 : Int32) → wp_X0_isResting_15 ad X K G2 (1 : Int64) (0 : Int32) o2)))
theorem w_X0_isResting {C : gCx} (hC : gOk C "GoblinHouseholdLaw" cX0_isResting [(0, 16, 19, 23)] (some .int) "isResting" 4 11 298) {K : Int32 → gS → Prop} {X : Nat → gS → Prop} (hK : ∀ r G, K r G → cxK C (some (vI r)) G) (hX : ∀ q G, X q G → cxX C q G) {G : gS} {o0 : Option Nat} {x1 : Int32} {o2 : Option Nat} (h : wp_X0_isResting (cxA C) G o0 x1 o2 X K) : gGo C G 0 [(0, vQ o0), (1, vI x1), (2, vQ o2)] [] := by
  unfold wp_X0_isResting at h
  refine g_aload_n hC (pc := 0) 2 rfl rfl dX0_isResting_0 ?_
  refine g_iconst hC (pc := 1) (v := (0 : Int32)) (by decide) dX0_isResting_1 ?_
  refine g_aload_n hC (pc := 2) 0 rfl rfl dX0_isResting_2 ?_
  refine g_iload_n hC (pc := 3) 1 rfl rfl dX0_isResting_3 ?_
  rcases o0 with _ | c1
  · exact (gNN0 h).elim
  replace h := gNN1 h
  obtain ⟨hi, h⟩ := h
  refine g_callV hC (pc := 4) (ci := 1) (As := [vI x1]) gc_X1_isResting (m_X1_isResting hC.fl h) rfl hi q1798 q1799 q1800 (gle rfl) (gle rfl) rfl (gle rfl) rfl dX0_isResting_4 (gk_i fun r5 G2 h => ?_) (fun y3 G4 h hio => ?_)
  · refine g_if_eq hC (pc := 7) 14 h (by decide) dX0_isResting_7 (fun h => ?_) (fun h => ?_)
    · refine g_lconst hC (pc := 14) (v := (0 : Int64)) (by decide) dX0_isResting_14 ?_
      exact g_sub [] rfl (w_X0_isResting_15 hC hK hX h)
    · refine g_lconst hC (pc := 10) (v := (1 : Int64)) (by decide) dX0_isResting_10 ?_
      refine g_goto hC (pc := 11) 15 (by decide) dX0_isResting_11 ?_
      exact g_sub [] rfl (w_X0_isResting_15 hC hK hX h)
  · obtain ⟨hq, h⟩ := h
    refine g_catchI hC (pc := 4) (ci := 20) rfl hq 0 rfl (fun _ h => nomatch h) rfl (by decide) q1312 (List.mem_of_getElem? (i := 2) rfl) rfl ?_
    exact g_sub [] rfl (w_X0_isResting_19 hC hK hX h)
theorem gc_X0_isResting : gCodeW yX0_isResting cX0_isResting 4 (some .int) [(0, 16, 19, 23)] 3 := ⟨q1797, q93, ⟨by decide, by decide⟩, rfl⟩
theorem m_X0_isResting {l : Launch} (hfl : l.stackTraces = false) {E : gE} {G : gS} {o0 : Option Nat} {x1 : Int32} {o2 : Option Nat} {X : Nat → gS → Prop} {K : Int32 → gS → Prop} (h : wp_X0_isResting (gAd E) G o0 x1 o2 X K) : gMet l yX0_isResting (wsW_ yX0_isResting cX0_isResting 4 (some .int) [(0, 16, 19, 23)]) 11 298 [vQ o0, vI x1, vQ o2] E G (gRi K) X :=
  g_metW hfl (plainFor_of_name (by decide +kernel)) rfl rfl rfl (gle rfl) (fun p e R s m args below meth c hC => w_X0_isResting hC (fun _ _ h => h) (fun _ _ h => h) h)
def wp_X3_isResting (ad : Nat → Nat) (G : gS) (t0 : Nat) (x1 : Int32) (X : Nat → gS → Prop) (K : Int32 → gS → Prop) : Prop :=
  (gIs G t0 0 ∧ wp_X3_asks ad G t0 x1 (4 : Int32) X (fun r2 G1 => (¬ r2 = (1 : Int32) → K (0 : Int32) G1) ∧ (r2 = (1 : Int32) → K (1 : Int32) G1)))
theorem w_X3_isResting {C : gCx} (hC : gOk C "GoblinHouseholdModel" cX3_isResting [] (some .boolean) "isResting" 2 5 149) {K : Int32 → gS → Prop} {X : Nat → gS → Prop} (hK : ∀ r G, K r G → cxK C (some (vI r)) G) (hX : ∀ q G, X q G → cxX C q G) {G : gS} {t0 : Nat} {x1 : Int32} (h : wp_X3_isResting (cxA C) G t0 x1 X K) : gGo C G 0 [(0, vQ (some t0)), (1, vI x1)] [] := by
  unfold wp_X3_isResting at h
  refine g_aload_n hC (pc := 0) 0 rfl rfl dX3_isResting_0 ?_
  refine g_iload_n hC (pc := 1) 1 rfl rfl dX3_isResting_1 ?_
  refine g_iconst hC (pc := 2) (v := (4 : Int32)) (by decide) dX3_isResting_2 ?_
  obtain ⟨hi, h⟩ := h
  refine g_callV hC (pc := 3) (ci := 0) (As := [vI x1, vI (4 : Int32)]) gc_X3_asks (m_X3_asks hC.fl h) rfl hi q2765 q2767 qs74 (gle rfl) (gle rfl) rfl (gle rfl) rfl dX3_isResting_3 (gk_i fun r2 G1 h => ?_) (fun _ _ h hio => g_out0 hC (hX _ _ h) hio)
  refine g_iconst hC (pc := 6) (v := (1 : Int32)) (by decide) dX3_isResting_6 ?_
  refine g_icmp_ne hC (pc := 7) 14 h (by decide) dX3_isResting_7 (fun h => ?_) (fun h => ?_)
  · refine g_iconst hC (pc := 14) (v := (0 : Int32)) (by decide) dX3_isResting_14 ?_
    exact g_zret hC (pc := 15) rfl (hK _ _ h) dX3_isResting_15
  · refine g_iconst hC (pc := 10) (v := (1 : Int32)) (by decide) dX3_isResting_10 ?_
    refine g_goto hC (pc := 11) 15 (by decide) dX3_isResting_11 ?_
    exact g_zret hC (pc := 15) rfl (hK _ _ h) dX3_isResting_15
theorem gc_X3_isResting : gCode yX3_isResting cX3_isResting 2 (some .boolean) 1 := ⟨q2784, q105, ⟨by decide, by decide⟩, rfl⟩
theorem m_X3_isResting {l : Launch} (hfl : l.stackTraces = false) {E : gE} {G : gS} {t0 : Nat} {x1 : Int32} {X : Nat → gS → Prop} {K : Int32 → gS → Prop} (h : wp_X3_isResting (gAd E) G t0 x1 X K) : gMet l yX3_isResting (ws_ yX3_isResting cX3_isResting 2 (some .boolean)) 5 149 [vQ (some t0), vI x1] E G (gRi K) X :=
  g_met hfl (plainFor_of_name (by decide +kernel)) rfl rfl rfl (gle rfl) (fun p e R s m args below meth c hC => w_X3_isResting hC (fun _ _ h => h) (fun _ _ h => h) h)
def wp_X1_energy (ad : Nat → Nat) (G : gS) (t0 : Nat) (x1 : Int32) (X : Nat → gS → Prop) (K : Int32 → gS → Prop) : Prop :=
  wGetQ G t0 1 0 fun q1 => (gIs G t0 1 ∧ wp_X1_goblinFor ad G t0 x1 X (fun q3 G2 => wNN q1 fun c4 => (gIs G2 c4 2 ∧ wp_X2_energy ad G2 c4 q3 X (fun r6 G5 => K r6 G5))))
theorem w_X1_energy {C : gCx} (hC : gOk C "GoblinHousehold" cX1_energy [] (some .int) "energy" 2 10 269) {K : Int32 → gS → Prop} {X : Nat → gS → Prop} (hK : ∀ r G, K r G → cxK C (some (vI r)) G) (hX : ∀ q G, X q G → cxX C q G) {G : gS} {t0 : Nat} {x1 : Int32} (h : wp_X1_energy (cxA C) G t0 x1 X K) : gGo C G 0 [(0, vQ (some t0)), (1, vI x1)] [] := by
  unfold wp_X1_energy at h
  refine g_aload_n hC (pc := 0) 0 rfl rfl dX1_energy_0 ?_
  refine g_getQ hC (pc := 1) in_X1 (ci := 1) rfl 0 (by decide) q292 (Or.inl rfl) h dX1_energy_1 (fun q1 h => ?_)
  refine g_aload_n hC (pc := 4) 0 rfl rfl dX1_energy_4 ?_
  refine g_iload_n hC (pc := 5) 1 rfl rfl dX1_energy_5 ?_
  obtain ⟨hi, h⟩ := h
  refine g_callV hC (pc := 6) (ci := 1) (As := [vI x1]) gc_X1_goblinFor (m_X1_goblinFor hC.fl h) rfl hi q1766 q1768 qs26 (gle rfl) (gle rfl) rfl (gle rfl) rfl dX1_energy_6 (gk_q fun q3 G2 h => ?_) (fun _ _ h hio => g_out0 hC (hX _ _ h) hio)
  rcases q1 with _ | c4
  · exact (gNN0 h).elim
  replace h := gNN1 h
  obtain ⟨hi, h⟩ := h
  refine g_callV hC (pc := 9) (ci := 2) (As := [vQ q3]) gc_X2_energy (m_X2_energy hC.fl h) rfl hi q1809 q779 q780 (gle rfl) (gle rfl) rfl (gle rfl) rfl dX1_energy_9 (gk_i fun r6 G5 h => ?_) (fun _ _ h hio => g_out0 hC (hX _ _ h) hio)
  exact g_iret hC (pc := 12) (hK _ _ h) dX1_energy_12
theorem gc_X1_energy : gCode yX1_energy cX1_energy 2 (some .int) 1 := ⟨q1808, q94, ⟨by decide, by decide⟩, rfl⟩
theorem m_X1_energy {l : Launch} (hfl : l.stackTraces = false) {E : gE} {G : gS} {t0 : Nat} {x1 : Int32} {X : Nat → gS → Prop} {K : Int32 → gS → Prop} (h : wp_X1_energy (gAd E) G t0 x1 X K) : gMet l yX1_energy (ws_ yX1_energy cX1_energy 2 (some .int)) 10 269 [vQ (some t0), vI x1] E G (gRi K) X :=
  g_met hfl (plainFor_of_name (by decide +kernel)) rfl rfl rfl (gle rfl) (fun p e R s m args below meth c hC => w_X1_energy hC (fun _ _ h => h) (fun _ _ h => h) h)
def wp_X0_energy_12 (ad : Nat → Nat) (X : Nat → gS → Prop) (K : Int32 → gS → Prop) (G : gS) (ts0 : Nat) : Prop :=
  K (1 : Int32) G
theorem w_X0_energy_12 {C : gCx} (hC : gOk C "GoblinHouseholdLaw" cX0_energy [(0, 9, 12, 23)] (some .int) "energy" 4 11 298) {K : Int32 → gS → Prop} {X : Nat → gS → Prop} (hK : ∀ r G, K r G → cxK C (some (vI r)) G) (hX : ∀ q G, X q G → cxX C q G) {G : gS} {ts0 : Nat} (h : wp_X0_energy_12 (cxA C) X K G ts0) : gGo C G 12 [] [vQ (some ts0)] := by
  unfold wp_X0_energy_12 at h
  refine g_astore_n hC (pc := 12) (lv' := [(3, vQ (some ts0))]) rfl (by decide) rfl dX0_energy_12 ?_
  refine g_iconst hC (pc := 13) (v := (1 : Int32)) (by decide) dX0_energy_13 ?_
  exact g_iret hC (pc := 14) (hK _ _ h) dX0_energy_14
def wp_X0_energy (ad : Nat → Nat) (G : gS) (o0 : Option Nat) (x1 : Int32) (o2 : Option Nat) (X : Nat → gS → Prop) (K : Int32 → gS → Prop) : Prop :=
  wNN o0 fun c1 => (gIs G c1 1 ∧ wp_X1_energy ad G c1 x1 (fun y3 G4 => (gHas G4 y3 20 ∧ (wp_X0_energy_12 ad X K G4 y3))) (fun r5 G2 => wNN o2 fun c6 => wAstL G2 c6 (0 : Int32) ((r5).toInt64) fun G7 => K (0 : Int32) G7))
theorem w_X0_energy {C : gCx} (hC : gOk C "GoblinHouseholdLaw" cX0_energy [(0, 9, 12, 23)] (some .int) "energy" 4 11 298) {K : Int32 → gS → Prop} {X : Nat → gS → Prop} (hK : ∀ r G, K r G → cxK C (some (vI r)) G) (hX : ∀ q G, X q G → cxX C q G) {G : gS} {o0 : Option Nat} {x1 : Int32} {o2 : Option Nat} (h : wp_X0_energy (cxA C) G o0 x1 o2 X K) : gGo C G 0 [(0, vQ o0), (1, vI x1), (2, vQ o2)] [] := by
  unfold wp_X0_energy at h
  refine g_aload_n hC (pc := 0) 2 rfl rfl dX0_energy_0 ?_
  refine g_iconst hC (pc := 1) (v := (0 : Int32)) (by decide) dX0_energy_1 ?_
  refine g_aload_n hC (pc := 2) 0 rfl rfl dX0_energy_2 ?_
  refine g_iload_n hC (pc := 3) 1 rfl rfl dX0_energy_3 ?_
  rcases o0 with _ | c1
  · exact (gNN0 h).elim
  replace h := gNN1 h
  obtain ⟨hi, h⟩ := h
  refine g_callV hC (pc := 4) (ci := 1) (As := [vI x1]) gc_X1_energy (m_X1_energy hC.fl h) rfl hi q1805 q1806 q1807 (gle rfl) (gle rfl) rfl (gle rfl) rfl dX0_energy_4 (gk_i fun r5 G2 h => ?_) (fun y3 G4 h hio => ?_)
  · refine g_i2l hC (pc := 7) dX0_energy_7 ?_
    rcases o2 with _ | c6
    · exact (gNN0 h).elim
    replace h := gNN1 h
    refine g_astL hC (pc := 8) h dX0_energy_8 (fun G7 h => ?_)
    refine g_goto hC (pc := 9) 15 (by decide) dX0_energy_9 ?_
    refine g_iconst hC (pc := 15) (v := (0 : Int32)) (by decide) dX0_energy_15 ?_
    exact g_iret hC (pc := 16) (hK _ _ h) dX0_energy_16
  · obtain ⟨hq, h⟩ := h
    refine g_catchI hC (pc := 4) (ci := 20) rfl hq 0 rfl (fun _ h => nomatch h) rfl (by decide) q1312 (List.mem_of_getElem? (i := 2) rfl) rfl ?_
    exact g_sub [] rfl (w_X0_energy_12 hC hK hX h)
theorem gc_X0_energy : gCodeW yX0_energy cX0_energy 4 (some .int) [(0, 9, 12, 23)] 3 := ⟨q1804, q93, ⟨by decide, by decide⟩, rfl⟩
theorem m_X0_energy {l : Launch} (hfl : l.stackTraces = false) {E : gE} {G : gS} {o0 : Option Nat} {x1 : Int32} {o2 : Option Nat} {X : Nat → gS → Prop} {K : Int32 → gS → Prop} (h : wp_X0_energy (gAd E) G o0 x1 o2 X K) : gMet l yX0_energy (wsW_ yX0_energy cX0_energy 4 (some .int) [(0, 9, 12, 23)]) 11 298 [vQ o0, vI x1, vQ o2] E G (gRi K) X :=
  g_metW hfl (plainFor_of_name (by decide +kernel)) rfl rfl rfl (gle rfl) (fun p e R s m args below meth c hC => w_X0_energy hC (fun _ _ h => h) (fun _ _ h => h) h)
def wp_X3_energy (ad : Nat → Nat) (G : gS) (t0 : Nat) (x1 : Int32) (X : Nat → gS → Prop) (K : Int32 → gS → Prop) : Prop :=
  (gIs G t0 0 ∧ wp_X3_isGoblin ad G t0 x1 X (fun r2 G1 => (gIs G1 t0 0 ∧ wp_X3_goes ad G1 t0 r2 X (fun r4 G3 => (r4 = (0 : Int32) → K (0 : Int32) G3) ∧ (¬ r4 = (0 : Int32) → (gIs G3 t0 0 ∧ wp_X3_energyOf ad G3 t0 x1 X (fun r6 G5 => K r6 G5)))))))
theorem w_X3_energy {C : gCx} (hC : gOk C "GoblinHouseholdModel" cX3_energy [] (some .int) "energy" 2 5 148) {K : Int32 → gS → Prop} {X : Nat → gS → Prop} (hK : ∀ r G, K r G → cxK C (some (vI r)) G) (hX : ∀ q G, X q G → cxX C q G) {G : gS} {t0 : Nat} {x1 : Int32} (h : wp_X3_energy (cxA C) G t0 x1 X K) : gGo C G 0 [(0, vQ (some t0)), (1, vI x1)] [] := by
  unfold wp_X3_energy at h
  refine g_aload_n hC (pc := 0) 0 rfl rfl dX3_energy_0 ?_
  refine g_aload_n hC (pc := 1) 0 rfl rfl dX3_energy_1 ?_
  refine g_iload_n hC (pc := 2) 1 rfl rfl dX3_energy_2 ?_
  obtain ⟨hi, h⟩ := h
  refine g_callV hC (pc := 3) (ci := 0) (As := [vI x1]) gc_X3_isGoblin (m_X3_isGoblin hC.fl h) rfl hi q2628 q2630 qs55 (gle rfl) (gle rfl) rfl (gle rfl) rfl dX3_energy_3 (gk_i fun r2 G1 h => ?_) (fun _ _ h hio => g_out0 hC (hX _ _ h) hio)
  obtain ⟨hi, h⟩ := h
  refine g_callV hC (pc := 6) (ci := 0) (As := [vI r2]) gc_X3_goes (m_X3_goes hC.fl h) rfl hi q2546 q2548 qs43 (gle rfl) (gle rfl) rfl (gle rfl) rfl dX3_energy_6 (gk_i fun r4 G3 h => ?_) (fun _ _ h hio => g_out0 hC (hX _ _ h) hio)
  refine g_if_eq hC (pc := 9) 20 h (by decide) dX3_energy_9 (fun h => ?_) (fun h => ?_)
  · refine g_iconst hC (pc := 20) (v := (0 : Int32)) (by decide) dX3_energy_20 ?_
    exact g_iret hC (pc := 21) (hK _ _ h) dX3_energy_21
  · refine g_aload_n hC (pc := 12) 0 rfl rfl dX3_energy_12 ?_
    refine g_iload_n hC (pc := 13) 1 rfl rfl dX3_energy_13 ?_
    obtain ⟨hi, h⟩ := h
    refine g_callV hC (pc := 14) (ci := 0) (As := [vI x1]) gc_X3_energyOf (m_X3_energyOf hC.fl h) rfl hi q2720 q2722 qs70 (gle rfl) (gle rfl) rfl (gle rfl) rfl dX3_energy_14 (gk_i fun r6 G5 h => ?_) (fun _ _ h hio => g_out0 hC (hX _ _ h) hio)
    refine g_goto hC (pc := 17) 21 (by decide) dX3_energy_17 ?_
    exact g_iret hC (pc := 21) (hK _ _ h) dX3_energy_21
theorem gc_X3_energy : gCode yX3_energy cX3_energy 2 (some .int) 1 := ⟨q2788, q105, ⟨by decide, by decide⟩, rfl⟩
theorem m_X3_energy {l : Launch} (hfl : l.stackTraces = false) {E : gE} {G : gS} {t0 : Nat} {x1 : Int32} {X : Nat → gS → Prop} {K : Int32 → gS → Prop} (h : wp_X3_energy (gAd E) G t0 x1 X K) : gMet l yX3_energy (ws_ yX3_energy cX3_energy 2 (some .int)) 5 148 [vQ (some t0), vI x1] E G (gRi K) X :=
  g_met hfl (plainFor_of_name (by decide +kernel)) rfl rfl rfl (gle rfl) (fun p e R s m args below meth c hC => w_X3_energy hC (fun _ _ h => h) (fun _ _ h => h) h)
def wp_X7_wealth (ad : Nat → Nat) (G : gS) (t0 : Nat) (X : Nat → gS → Prop) (K : Int32 → gS → Prop) : Prop :=
  wGetI G t0 9 1 fun i1 => wGetI G t0 9 2 fun i2 => K (i1 - i2) G
theorem w_X7_wealth {C : gCx} (hC : gOk C "GoblinHousehold$Debtor" cX7_wealth [] (some .int) "wealth" 1 0 0) {K : Int32 → gS → Prop} {X : Nat → gS → Prop} (hK : ∀ r G, K r G → cxK C (some (vI r)) G) (hX : ∀ q G, X q G → cxX C q G) {G : gS} {t0 : Nat} (h : wp_X7_wealth (cxA C) G t0 X K) : gGo C G 0 [(0, vQ (some t0))] [] := by
  unfold wp_X7_wealth at h
  refine g_aload_n hC (pc := 0) 0 rfl rfl dX7_wealth_0 ?_
  refine g_getI hC (pc := 1) in_X8 (ci := 9) rfl 1 (by decide) q937 (Or.inl rfl) h dX7_wealth_1 (fun i1 h => ?_)
  refine g_aload_n hC (pc := 4) 0 rfl rfl dX7_wealth_4 ?_
  refine g_getI hC (pc := 5) in_X8 (ci := 9) rfl 2 (by decide) q938 (Or.inl rfl) h dX7_wealth_5 (fun i2 h => ?_)
  refine g_isub hC (pc := 8) dX7_wealth_8 ?_
  exact g_iret hC (pc := 9) (hK _ _ h) dX7_wealth_9
theorem gc_X7_wealth : gCode yX7_wealth cX7_wealth 1 (some .int) 0 := ⟨q1830, q111, ⟨by decide, by decide⟩, rfl⟩
theorem m_X7_wealth {l : Launch} (hfl : l.stackTraces = false) {E : gE} {G : gS} {t0 : Nat} {X : Nat → gS → Prop} {K : Int32 → gS → Prop} (h : wp_X7_wealth (gAd E) G t0 X K) : gMet l yX7_wealth (ws_ yX7_wealth cX7_wealth 1 (some .int)) 0 0 [vQ (some t0)] E G (gRi K) X :=
  g_met hfl (plainFor_of_name (by decide +kernel)) rfl rfl rfl (gle rfl) (fun p e R s m args below meth c hC => w_X7_wealth hC (fun _ _ h => h) (fun _ _ h => h) h)
def wp_X8_isRicherThan_47 (ad : Nat → Nat) (X : Nat → gS → Prop) (K : Int32 → gS → Prop) (G : gS) : Prop :=
  K (1 : Int32) G
theorem w_X8_isRicherThan_47 {C : gCx} (hC : gOk C "GoblinHousehold$Goblin" cX8_isRicherThan [] (some .boolean) "isRicherThan" 3 1 28) {K : Int32 → gS → Prop} {X : Nat → gS → Prop} (hK : ∀ r G, K r G → cxK C (some (vI r)) G) (hX : ∀ q G, X q G → cxX C q G) {G : gS} (h : wp_X8_isRicherThan_47 (cxA C) X K G ) : gGo C G 47 [] [] := by
  unfold wp_X8_isRicherThan_47 at h
  refine g_iconst hC (pc := 47) (v := (1 : Int32)) (by decide) dX8_isRicherThan_47 ?_
  refine g_goto hC (pc := 48) 52 (by decide) dX8_isRicherThan_48 ?_
  exact g_zret hC (pc := 52) rfl (hK _ _ h) dX8_isRicherThan_52
def wp_X8_isRicherThan_27 (ad : Nat → Nat) (X : Nat → gS → Prop) (K : Int32 → gS → Prop) (G : gS) (t0 : Nat) (t1 : Nat) (xs0 : Int32) : Prop :=
  ((0 : Int32) < xs0 → wp_X8_isRicherThan_47 ad X K G) ∧ (¬ (0 : Int32) < xs0 → (¬ xs0 = (0 : Int32) → K (0 : Int32) G) ∧ (xs0 = (0 : Int32) → (gIs G t0 9 ∧ wp_X6_index ad G t0  X (fun r2 G1 => (gIs G1 t1 9 ∧ wp_X6_index ad G1 t1  X (fun r4 G3 => (r4 ≤ r2 → K (0 : Int32) G3) ∧ (¬ r4 ≤ r2 → wp_X8_isRicherThan_47 ad X K G3)))))))
theorem w_X8_isRicherThan_27 {C : gCx} (hC : gOk C "GoblinHousehold$Goblin" cX8_isRicherThan [] (some .boolean) "isRicherThan" 3 1 28) {K : Int32 → gS → Prop} {X : Nat → gS → Prop} (hK : ∀ r G, K r G → cxK C (some (vI r)) G) (hX : ∀ q G, X q G → cxX C q G) {G : gS} {t0 : Nat} {t1 : Nat} {xs0 : Int32} (h : wp_X8_isRicherThan_27 (cxA C) X K G t0 t1 xs0) : gGo C G 27 [(0, vQ (some t0)), (1, vQ (some t1))] [vI xs0] := by
  unfold wp_X8_isRicherThan_27 at h
  refine g_istore_n hC (pc := 27) (lv' := [(2, vI xs0), (0, vQ (some t0)), (1, vQ (some t1))]) rfl (by decide) rfl dX8_isRicherThan_27 ?_
  refine g_iload_n hC (pc := 28) 0 rfl rfl dX8_isRicherThan_28 ?_
  refine g_if_gt hC (pc := 29) 47 h (by decide) dX8_isRicherThan_29 (fun h => ?_) (fun h => ?_)
  · exact g_sub [] rfl (w_X8_isRicherThan_47 hC hK hX h)
  · refine g_iload_n hC (pc := 32) 0 rfl rfl dX8_isRicherThan_32 ?_
    refine g_if_ne hC (pc := 33) 51 h (by decide) dX8_isRicherThan_33 (fun h => ?_) (fun h => ?_)
    · refine g_iconst hC (pc := 51) (v := (0 : Int32)) (by decide) dX8_isRicherThan_51 ?_
      exact g_zret hC (pc := 52) rfl (hK _ _ h) dX8_isRicherThan_52
    · refine g_aload_n hC (pc := 36) 1 rfl rfl dX8_isRicherThan_36 ?_
      obtain ⟨hi, h⟩ := h
      refine g_callU hC (pc := 37) (ci := 9) (As := []) gc_X6_index (m_X6_index hC.fl h) (x := ⟨"GoblinHousehold$Goblin", "index", "()I"⟩) (owner := "GoblinHousehold$Being") rfl hi q1107 q1108 q1111 q1112 ⟨by decide, by decide⟩ rfl q1110 q1111 (gle rfl) (gle rfl) rfl (gle rfl) rfl dX8_isRicherThan_37 (gk_i fun r2 G1 h => ?_) (fun _ _ h hio => g_out0 hC (hX _ _ h) hio)
      refine g_aload_n hC (pc := 40) 2 rfl rfl dX8_isRicherThan_40 ?_
      obtain ⟨hi, h⟩ := h
      refine g_callU hC (pc := 41) (ci := 9) (As := []) gc_X6_index (m_X6_index hC.fl h) (x := ⟨"GoblinHousehold$Goblin", "index", "()I"⟩) (owner := "GoblinHousehold$Being") rfl hi q1107 q1108 q1111 q1112 ⟨by decide, by decide⟩ rfl q1110 q1111 (gle rfl) (gle rfl) rfl (gle rfl) rfl dX8_isRicherThan_41 (gk_i fun r4 G3 h => ?_) (fun _ _ h hio => g_out0 hC (hX _ _ h) hio)
      refine g_icmp_ge hC (pc := 44) 51 h (by decide) dX8_isRicherThan_44 (fun h => ?_) (fun h => ?_)
      · refine g_iconst hC (pc := 51) (v := (0 : Int32)) (by decide) dX8_isRicherThan_51 ?_
        exact g_zret hC (pc := 52) rfl (hK _ _ h) dX8_isRicherThan_52
      · exact g_sub [] rfl (w_X8_isRicherThan_47 hC hK hX h)
def wp_X8_isRicherThan (ad : Nat → Nat) (G : gS) (t0 : Nat) (o1 : Option Nat) (X : Nat → gS → Prop) (K : Int32 → gS → Prop) : Prop :=
  (gIs G t0 9 ∧ wp_X7_wealth ad G t0  X (fun r2 G1 => wNN o1 fun c3 => (gIs G1 c3 9 ∧ wp_X7_wealth ad G1 c3  X (fun r5 G4 => (¬ (r2 - r5) = (0 : Int32) → wp_X8_isRicherThan_27 ad X K G4 t0 c3 (r2 - r5)) ∧ ((r2 - r5) = (0 : Int32) → wGetI G4 t0 9 3 fun i6 => wGetI G4 c3 9 3 fun i7 => wp_X8_isRicherThan_27 ad X K G4 t0 c3 (i6 - i7))))))
theorem w_X8_isRicherThan {C : gCx} (hC : gOk C "GoblinHousehold$Goblin" cX8_isRicherThan [] (some .boolean) "isRicherThan" 3 1 28) {K : Int32 → gS → Prop} {X : Nat → gS → Prop} (hK : ∀ r G, K r G → cxK C (some (vI r)) G) (hX : ∀ q G, X q G → cxX C q G) {G : gS} {t0 : Nat} {o1 : Option Nat} (h : wp_X8_isRicherThan (cxA C) G t0 o1 X K) : gGo C G 0 [(0, vQ (some t0)), (1, vQ o1)] [] := by
  unfold wp_X8_isRicherThan at h
  refine g_aload_n hC (pc := 0) 0 rfl rfl dX8_isRicherThan_0 ?_
  obtain ⟨hi, h⟩ := h
  refine g_callU hC (pc := 1) (ci := 9) (As := []) gc_X7_wealth (m_X7_wealth hC.fl h) (x := ⟨"GoblinHousehold$Goblin", "wealth", "()I"⟩) (owner := "GoblinHousehold$Debtor") rfl hi q1825 q1826 q1829 q1830 ⟨by decide, by decide⟩ rfl q1828 q1829 (gle rfl) (gle rfl) rfl (gle rfl) rfl dX8_isRicherThan_1 (gk_i fun r2 G1 h => ?_) (fun _ _ h hio => g_out0 hC (hX _ _ h) hio)
  refine g_aload_n hC (pc := 4) 1 rfl rfl dX8_isRicherThan_4 ?_
  rcases o1 with _ | c3
  · exact (gNN0 h).elim
  replace h := gNN1 h
  obtain ⟨hi, h⟩ := h
  refine g_callU hC (pc := 5) (ci := 9) (As := []) gc_X7_wealth (m_X7_wealth hC.fl h) (x := ⟨"GoblinHousehold$Goblin", "wealth", "()I"⟩) (owner := "GoblinHousehold$Debtor") rfl hi q1825 q1826 q1829 q1830 ⟨by decide, by decide⟩ rfl q1828 q1829 (gle rfl) (gle rfl) rfl (gle rfl) rfl dX8_isRicherThan_5 (gk_i fun r5 G4 h => ?_) (fun _ _ h hio => g_out0 hC (hX _ _ h) hio)
  refine g_isub hC (pc := 8) dX8_isRicherThan_8 ?_
  refine g_istore_n hC (pc := 9) (lv' := [(2, vI (r2 - r5)), (0, vQ (some t0)), (1, vQ (some c3))]) rfl (by decide) rfl dX8_isRicherThan_9 ?_
  refine g_iload_n hC (pc := 10) 0 rfl rfl dX8_isRicherThan_10 ?_
  refine g_if_ne hC (pc := 11) 26 h (by decide) dX8_isRicherThan_11 (fun h => ?_) (fun h => ?_)
  · refine g_iload_n hC (pc := 26) 0 rfl rfl dX8_isRicherThan_26 ?_
    exact g_sub [1, 2] rfl (w_X8_isRicherThan_27 hC hK hX h)
  · refine g_aload_n hC (pc := 14) 1 rfl rfl dX8_isRicherThan_14 ?_
    refine g_getI hC (pc := 15) in_X8 (ci := 9) rfl 3 (by decide) q928 (Or.inl rfl) h dX8_isRicherThan_15 (fun i6 h => ?_)
    refine g_aload_n hC (pc := 18) 2 rfl rfl dX8_isRicherThan_18 ?_
    refine g_getI hC (pc := 19) in_X8 (ci := 9) rfl 3 (by decide) q928 (Or.inl rfl) h dX8_isRicherThan_19 (fun i7 h => ?_)
    refine g_isub hC (pc := 22) dX8_isRicherThan_22 ?_
    refine g_goto hC (pc := 23) 27 (by decide) dX8_isRicherThan_23 ?_
    exact g_sub [1, 2] rfl (w_X8_isRicherThan_27 hC hK hX h)
theorem gc_X8_isRicherThan : gCode yX8_isRicherThan cX8_isRicherThan 3 (some .boolean) 1 := ⟨q1824, q112, ⟨by decide, by decide⟩, rfl⟩
theorem m_X8_isRicherThan {l : Launch} (hfl : l.stackTraces = false) {E : gE} {G : gS} {t0 : Nat} {o1 : Option Nat} {X : Nat → gS → Prop} {K : Int32 → gS → Prop} (h : wp_X8_isRicherThan (gAd E) G t0 o1 X K) : gMet l yX8_isRicherThan (ws_ yX8_isRicherThan cX8_isRicherThan 3 (some .boolean)) 1 28 [vQ (some t0), vQ o1] E G (gRi K) X :=
  g_met hfl (plainFor_of_name (by decide +kernel)) rfl rfl rfl (gle rfl) (fun p e R s m args below meth c hC => w_X8_isRicherThan hC (fun _ _ h => h) (fun _ _ h => h) h)
def wp_X2_goblinAt_79 (ad : Nat → Nat) (X : Nat → gS → Prop) (K : Int32 → gS → Prop) (J2 : gS → Nat → Int32 → Int32 → Prop) (J20 : gS → Nat → Int32 → Int32 → Int32 → Int32 → Prop) (G : gS) (t0 : Nat) (x1 : Int32) (x2 : Int32) (x4 : Int32) (xs0 : Int32) (xs1 : Int32) : Prop :=
  J20 G t0 x1 x2 (xs1 + xs0) (x4 + (1 : Int32))
theorem w_X2_goblinAt_79 {C : gCx} (hC : gOk C "GoblinHousehold$Household" cX2_goblinAt [] (some .int) "goblinAt" 5 3 88) {K : Int32 → gS → Prop} {X : Nat → gS → Prop} (hK : ∀ r G, K r G → cxK C (some (vI r)) G) (hX : ∀ q G, X q G → cxX C q G) {J2 : gS → Nat → Int32 → Int32 → Prop} {J20 : gS → Nat → Int32 → Int32 → Int32 → Int32 → Prop} (hJ2 : ∀ G z0 z1 z2, J2 G z0 z1 z2 → gGo C G 2 [(0, vQ (some z0)), (1, vI z1), (2, vI z2)] []) (hJ20 : ∀ G z0 z1 z2 z3 z4, J20 G z0 z1 z2 z3 z4 → gGo C G 20 [(0, vQ (some z0)), (1, vI z1), (2, vI z2), (3, vI z3), (4, vI z4)] []) {G : gS} {t0 : Nat} {x1 : Int32} {x2 : Int32} {x4 : Int32} {xs0 : Int32} {xs1 : Int32} (h : wp_X2_goblinAt_79 (cxA C) X K J2 J20 G t0 x1 x2 x4 xs0 xs1) : gGo C G 79 [(0, vQ (some t0)), (1, vI x1), (2, vI x2), (4, vI x4)] [vI xs0, vI xs1] := by
  unfold wp_X2_goblinAt_79 at h
  refine g_iadd hC (pc := 79) dX2_goblinAt_79 ?_
  refine g_istore_n hC (pc := 80) (lv' := [(3, vI (xs1 + xs0)), (0, vQ (some t0)), (1, vI x1), (2, vI x2), (4, vI x4)]) rfl (by decide) rfl dX2_goblinAt_80 ?_
  refine g_iinc hC (pc := 81) 4 (d := (1 : Int32)) (v := (x4 + (1 : Int32))) (lv' := [(4, vI (x4 + (1 : Int32))), (3, vI (xs1 + xs0)), (0, vQ (some t0)), (1, vI x1), (2, vI x2)]) rfl (by decide) rfl (by decide) rfl dX2_goblinAt_81 ?_
  refine g_goto hC (pc := 84) 20 (by decide) dX2_goblinAt_84 ?_
  exact g_sub [2, 3, 4, 1, 0] rfl (hJ20 _ _ _ _ _ _ h)
def wp_X2_goblinAt_78 (ad : Nat → Nat) (X : Nat → gS → Prop) (K : Int32 → gS → Prop) (J2 : gS → Nat → Int32 → Int32 → Prop) (J20 : gS → Nat → Int32 → Int32 → Int32 → Int32 → Prop) (G : gS) (t0 : Nat) (x1 : Int32) (x2 : Int32) (x4 : Int32) (xs0 : Int32) : Prop :=
  wp_X2_goblinAt_79 ad X K J2 J20 G t0 x1 x2 x4 (0 : Int32) xs0
theorem w_X2_goblinAt_78 {C : gCx} (hC : gOk C "GoblinHousehold$Household" cX2_goblinAt [] (some .int) "goblinAt" 5 3 88) {K : Int32 → gS → Prop} {X : Nat → gS → Prop} (hK : ∀ r G, K r G → cxK C (some (vI r)) G) (hX : ∀ q G, X q G → cxX C q G) {J2 : gS → Nat → Int32 → Int32 → Prop} {J20 : gS → Nat → Int32 → Int32 → Int32 → Int32 → Prop} (hJ2 : ∀ G z0 z1 z2, J2 G z0 z1 z2 → gGo C G 2 [(0, vQ (some z0)), (1, vI z1), (2, vI z2)] []) (hJ20 : ∀ G z0 z1 z2 z3 z4, J20 G z0 z1 z2 z3 z4 → gGo C G 20 [(0, vQ (some z0)), (1, vI z1), (2, vI z2), (3, vI z3), (4, vI z4)] []) {G : gS} {t0 : Nat} {x1 : Int32} {x2 : Int32} {x4 : Int32} {xs0 : Int32} (h : wp_X2_goblinAt_78 (cxA C) X K J2 J20 G t0 x1 x2 x4 xs0) : gGo C G 78 [(0, vQ (some t0)), (1, vI x1), (2, vI x2), (4, vI x4)] [vI xs0] := by
  unfold wp_X2_goblinAt_78 at h
  refine g_iconst hC (pc := 78) (v := (0 : Int32)) (by decide) dX2_goblinAt_78 ?_
  exact g_sub [0, 1, 2, 3] rfl (w_X2_goblinAt_79 hC hK hX hJ2 hJ20 h)
def wp_X2_goblinAt_87 (ad : Nat → Nat) (X : Nat → gS → Prop) (K : Int32 → gS → Prop) (J2 : gS → Nat → Int32 → Int32 → Prop) (G : gS) (t0 : Nat) (x1 : Int32) (x2 : Int32) (x3 : Int32) : Prop :=
  (¬ x3 = x1 → J2 G t0 x1 (x2 + (1 : Int32))) ∧ (x3 = x1 → K x2 G)
theorem w_X2_goblinAt_87 {C : gCx} (hC : gOk C "GoblinHousehold$Household" cX2_goblinAt [] (some .int) "goblinAt" 5 3 88) {K : Int32 → gS → Prop} {X : Nat → gS → Prop} (hK : ∀ r G, K r G → cxK C (some (vI r)) G) (hX : ∀ q G, X q G → cxX C q G) {J2 : gS → Nat → Int32 → Int32 → Prop} (hJ2 : ∀ G z0 z1 z2, J2 G z0 z1 z2 → gGo C G 2 [(0, vQ (some z0)), (1, vI z1), (2, vI z2)] []) {G : gS} {t0 : Nat} {x1 : Int32} {x2 : Int32} {x3 : Int32} (h : wp_X2_goblinAt_87 (cxA C) X K J2 G t0 x1 x2 x3) : gGo C G 87 [(0, vQ (some t0)), (1, vI x1), (2, vI x2), (3, vI x3)] [] := by
  unfold wp_X2_goblinAt_87 at h
  refine g_iload_n hC (pc := 87) 3 rfl rfl dX2_goblinAt_87 ?_
  refine g_iload_n hC (pc := 88) 1 rfl rfl dX2_goblinAt_88 ?_
  refine g_icmp_ne hC (pc := 89) 94 h (by decide) dX2_goblinAt_89 (fun h => ?_) (fun h => ?_)
  · refine g_iinc hC (pc := 94) 2 (d := (1 : Int32)) (v := (x2 + (1 : Int32))) (lv' := [(2, vI (x2 + (1 : Int32))), (0, vQ (some t0)), (1, vI x1), (3, vI x3)]) rfl (by decide) rfl (by decide) rfl dX2_goblinAt_94 ?_
    refine g_goto hC (pc := 97) 2 (by decide) dX2_goblinAt_97 ?_
    exact g_sub [1, 2, 0] rfl (hJ2 _ _ _ _ h)
  · refine g_iload_n hC (pc := 92) 2 rfl rfl dX2_goblinAt_92 ?_
    exact g_iret hC (pc := 93) (hK _ _ h) dX2_goblinAt_93
def wp_X2_goblinAt_20 (ad : Nat → Nat) (X : Nat → gS → Prop) (K : Int32 → gS → Prop) (J2 : gS → Nat → Int32 → Int32 → Prop) (J20 : gS → Nat → Int32 → Int32 → Int32 → Int32 → Prop) (G : gS) (t0 : Nat) (x1 : Int32) (x2 : Int32) (x3 : Int32) (x4 : Int32) : Prop :=
  wGetQ G t0 2 2 fun q1 => wNN q1 fun c2 => (gIs G c2 3 ∧ wp_J2_size ad G c2  X (fun r4 G3 => (r4 ≤ x4 → wp_X2_goblinAt_87 ad X K J2 G3 t0 x1 x2 x3) ∧ (¬ r4 ≤ x4 → (x4 = x2 → wp_X2_goblinAt_78 ad X K J2 J20 G3 t0 x1 x2 x4 x3) ∧ (¬ x4 = x2 → wGetQ G3 t0 2 2 fun q5 => wNN q5 fun c6 => (gIs G3 c6 3 ∧ wp_J2_get ad G3 c6 x4 X (fun q8 G7 => wCast G7 q8 [9] (wGetQ G7 t0 2 2 fun q9 => wNN q9 fun c10 => (gIs G7 c10 3 ∧ wp_J2_get ad G7 c10 x2 X (fun q12 G11 => wCast G11 q12 [9] (wNN q8 fun c13 => (gIs G11 c13 9 ∧ wp_X8_isRicherThan ad G11 c13 q12 X (fun r15 G14 => (r15 = (0 : Int32) → wp_X2_goblinAt_78 ad X K J2 J20 G14 t0 x1 x2 x4 x3) ∧ (¬ r15 = (0 : Int32) → wp_X2_goblinAt_79 ad X K J2 J20 G14 t0 x1 x2 x4 (1 : Int32) x3)))))))))))))
theorem w_X2_goblinAt_20 {C : gCx} (hC : gOk C "GoblinHousehold$Household" cX2_goblinAt [] (some .int) "goblinAt" 5 3 88) {K : Int32 → gS → Prop} {X : Nat → gS → Prop} (hK : ∀ r G, K r G → cxK C (some (vI r)) G) (hX : ∀ q G, X q G → cxX C q G) {J2 : gS → Nat → Int32 → Int32 → Prop} (hJ2 : ∀ G z0 z1 z2, J2 G z0 z1 z2 → gGo C G 2 [(0, vQ (some z0)), (1, vI z1), (2, vI z2)] []) (n : Nat) : ∀ (G : gS) (t0 : Nat) (x1 : Int32) (x2 : Int32) (x3 : Int32) (x4 : Int32), gLoop (fun _ _ _ _ _ _ => False) (wp_X2_goblinAt_20 (cxA C) X K J2) n G t0 x1 x2 x3 x4 → gGo C G 20 [(0, vQ (some t0)), (1, vI x1), (2, vI x2), (3, vI x3), (4, vI x4)] [] := by
  induction n with
  | zero => intro G t0 x1 x2 x3 x4 h; exact h.elim
  | succ n ih =>
    intro G t0 x1 x2 x3 x4 h
    have hJ20 := ih
    replace h : wp_X2_goblinAt_20 (cxA C) X K J2 _ G t0 x1 x2 x3 x4 := h
    unfold wp_X2_goblinAt_20 at h
    refine g_iload hC (pc := 20) 4 rfl dX2_goblinAt_20 ?_
    refine g_aload_n hC (pc := 22) 0 rfl rfl dX2_goblinAt_22 ?_
    refine g_getQ hC (pc := 23) in_X2 (ci := 2) rfl 2 (by decide) q192 (Or.inl rfl) h dX2_goblinAt_23 (fun q1 h => ?_)
    rcases q1 with _ | c2
    · exact (gNN0 h).elim
    replace h := gNN1 h
    obtain ⟨hi, h⟩ := h
    refine g_callF hC (pc := 26) (ci := 3) (As := []) gc_J2_size (m_J2_size hC.fl h) rfl hi q359 (List.mem_of_getElem? (i := 0) rfl) rfl q323 q325 (gle rfl) (gle rfl) rfl (gle rfl) rfl dX2_goblinAt_26 (gk_i fun r4 G3 h => ?_) (fun _ _ h hio => g_out0 hC (hX _ _ h) hio)
    refine g_icmp_ge hC (pc := 31) 87 h (by decide) dX2_goblinAt_31 (fun h => ?_) (fun h => ?_)
    · exact g_sub [0, 1, 2, 3] rfl (w_X2_goblinAt_87 hC hK hX hJ2 h)
    · refine g_iload_n hC (pc := 34) 3 rfl rfl dX2_goblinAt_34 ?_
      refine g_iload hC (pc := 35) 4 rfl dX2_goblinAt_35 ?_
      refine g_iload_n hC (pc := 37) 2 rfl rfl dX2_goblinAt_37 ?_
      refine g_icmp_eq hC (pc := 38) 78 h (by decide) dX2_goblinAt_38 (fun h => ?_) (fun h => ?_)
      · exact g_sub [0, 1, 2, 4] rfl (w_X2_goblinAt_78 hC hK hX hJ2 hJ20 h)
      · refine g_aload_n hC (pc := 41) 0 rfl rfl dX2_goblinAt_41 ?_
        refine g_getQ hC (pc := 42) in_X2 (ci := 2) rfl 2 (by decide) q192 (Or.inl rfl) h dX2_goblinAt_42 (fun q5 h => ?_)
        refine g_iload hC (pc := 45) 4 rfl dX2_goblinAt_45 ?_
        rcases q5 with _ | c6
        · exact (gNN0 h).elim
        replace h := gNN1 h
        obtain ⟨hi, h⟩ := h
        refine g_callF hC (pc := 47) (ci := 3) (As := [vI x4]) gc_J2_get (m_J2_get hC.fl h) rfl hi q361 (List.mem_of_getElem? (i := 2) rfl) rfl q364 q366 (gle rfl) (gle rfl) rfl (gle rfl) rfl dX2_goblinAt_47 (gk_q fun q8 G7 h => ?_) (fun _ _ h hio => g_out0 hC (hX _ _ h) hio)
        refine g_cast hC (pc := 52) q706 h (List.forall_mem_cons.mpr ⟨⟨_, rfl, Or.inr ⟨rfl, by decide⟩⟩, fun _ h => nomatch h⟩) dX2_goblinAt_52 (fun h => ?_)
        refine g_aload_n hC (pc := 55) 0 rfl rfl dX2_goblinAt_55 ?_
        refine g_getQ hC (pc := 56) in_X2 (ci := 2) rfl 2 (by decide) q192 (Or.inl rfl) h dX2_goblinAt_56 (fun q9 h => ?_)
        refine g_iload_n hC (pc := 59) 2 rfl rfl dX2_goblinAt_59 ?_
        rcases q9 with _ | c10
        · exact (gNN0 h).elim
        replace h := gNN1 h
        obtain ⟨hi, h⟩ := h
        refine g_callF hC (pc := 60) (ci := 3) (As := [vI x2]) gc_J2_get (m_J2_get hC.fl h) rfl hi q361 (List.mem_of_getElem? (i := 2) rfl) rfl q364 q366 (gle rfl) (gle rfl) rfl (gle rfl) rfl dX2_goblinAt_60 (gk_q fun q12 G11 h => ?_) (fun _ _ h hio => g_out0 hC (hX _ _ h) hio)
        refine g_cast hC (pc := 65) q706 h (List.forall_mem_cons.mpr ⟨⟨_, rfl, Or.inr ⟨rfl, by decide⟩⟩, fun _ h => nomatch h⟩) dX2_goblinAt_65 (fun h => ?_)
        rcases q8 with _ | c13
        · exact (gNN0 h).elim
        replace h := gNN1 h
        obtain ⟨hi, h⟩ := h
        refine g_callV hC (pc := 68) (ci := 9) (As := [vQ q12]) gc_X8_isRicherThan (m_X8_isRicherThan hC.fl h) rfl hi q1821 q1822 q1823 (gle rfl) (gle rfl) rfl (gle rfl) rfl dX2_goblinAt_68 (gk_i fun r15 G14 h => ?_) (fun _ _ h hio => g_out0 hC (hX _ _ h) hio)
        refine g_if_eq hC (pc := 71) 78 h (by decide) dX2_goblinAt_71 (fun h => ?_) (fun h => ?_)
        · exact g_sub [0, 1, 2, 4] rfl (w_X2_goblinAt_78 hC hK hX hJ2 hJ20 h)
        · refine g_iconst hC (pc := 74) (v := (1 : Int32)) (by decide) dX2_goblinAt_74 ?_
          refine g_goto hC (pc := 75) 79 (by decide) dX2_goblinAt_75 ?_
          exact g_sub [0, 1, 2, 4] rfl (w_X2_goblinAt_79 hC hK hX hJ2 hJ20 h)
def wp_X2_goblinAt_2 (ad : Nat → Nat) (X : Nat → gS → Prop) (K : Int32 → gS → Prop) (J2 : gS → Nat → Int32 → Int32 → Prop) (G : gS) (t0 : Nat) (x1 : Int32) (x2 : Int32) : Prop :=
  wGetQ G t0 2 2 fun q1 => wNN q1 fun c2 => (gIs G c2 3 ∧ wp_J2_size ad G c2  X (fun r4 G3 => (r4 ≤ x2 → K (-1 : Int32) G3) ∧ (¬ r4 ≤ x2 → gLoop (fun _ _ _ _ _ _ => False) (wp_X2_goblinAt_20 ad X K J2) gFuel G3 t0 x1 x2 (0 : Int32) (0 : Int32))))
theorem w_X2_goblinAt_2 {C : gCx} (hC : gOk C "GoblinHousehold$Household" cX2_goblinAt [] (some .int) "goblinAt" 5 3 88) {K : Int32 → gS → Prop} {X : Nat → gS → Prop} (hK : ∀ r G, K r G → cxK C (some (vI r)) G) (hX : ∀ q G, X q G → cxX C q G) (n : Nat) : ∀ (G : gS) (t0 : Nat) (x1 : Int32) (x2 : Int32), gLoop (fun _ _ _ _ => False) (wp_X2_goblinAt_2 (cxA C) X K) n G t0 x1 x2 → gGo C G 2 [(0, vQ (some t0)), (1, vI x1), (2, vI x2)] [] := by
  induction n with
  | zero => intro G t0 x1 x2 h; exact h.elim
  | succ n ih =>
    intro G t0 x1 x2 h
    have hJ2 := ih
    replace h : wp_X2_goblinAt_2 (cxA C) X K _ G t0 x1 x2 := h
    unfold wp_X2_goblinAt_2 at h
    refine g_iload_n hC (pc := 2) 2 rfl rfl dX2_goblinAt_2 ?_
    refine g_aload_n hC (pc := 3) 0 rfl rfl dX2_goblinAt_3 ?_
    refine g_getQ hC (pc := 4) in_X2 (ci := 2) rfl 2 (by decide) q192 (Or.inl rfl) h dX2_goblinAt_4 (fun q1 h => ?_)
    rcases q1 with _ | c2
    · exact (gNN0 h).elim
    replace h := gNN1 h
    obtain ⟨hi, h⟩ := h
    refine g_callF hC (pc := 7) (ci := 3) (As := []) gc_J2_size (m_J2_size hC.fl h) rfl hi q359 (List.mem_of_getElem? (i := 0) rfl) rfl q323 q325 (gle rfl) (gle rfl) rfl (gle rfl) rfl dX2_goblinAt_7 (gk_i fun r4 G3 h => ?_) (fun _ _ h hio => g_out0 hC (hX _ _ h) hio)
    refine g_icmp_ge hC (pc := 12) 100 h (by decide) dX2_goblinAt_12 (fun h => ?_) (fun h => ?_)
    · refine g_iconst hC (pc := 100) (v := (-1 : Int32)) (by decide) dX2_goblinAt_100 ?_
      exact g_iret hC (pc := 101) (hK _ _ h) dX2_goblinAt_101
    · refine g_iconst hC (pc := 15) (v := (0 : Int32)) (by decide) dX2_goblinAt_15 ?_
      refine g_istore_n hC (pc := 16) (lv' := [(3, vI (0 : Int32)), (0, vQ (some t0)), (1, vI x1), (2, vI x2)]) rfl (by decide) rfl dX2_goblinAt_16 ?_
      refine g_iconst hC (pc := 17) (v := (0 : Int32)) (by decide) dX2_goblinAt_17 ?_
      refine g_istore hC (pc := 18) (lv' := [(4, vI (0 : Int32)), (3, vI (0 : Int32)), (0, vQ (some t0)), (1, vI x1), (2, vI x2)]) (by decide) rfl dX2_goblinAt_18 ?_
      exact g_sub [2, 3, 4, 1, 0] rfl (w_X2_goblinAt_20 hC hK hX hJ2 gFuel _ _ _ _ _ _ h)
def wp_X2_goblinAt (ad : Nat → Nat) (G : gS) (t0 : Nat) (x1 : Int32) (X : Nat → gS → Prop) (K : Int32 → gS → Prop) : Prop :=
  gLoop (fun _ _ _ _ => False) (wp_X2_goblinAt_2 ad X K) gFuel G t0 x1 (0 : Int32)
theorem w_X2_goblinAt {C : gCx} (hC : gOk C "GoblinHousehold$Household" cX2_goblinAt [] (some .int) "goblinAt" 5 3 88) {K : Int32 → gS → Prop} {X : Nat → gS → Prop} (hK : ∀ r G, K r G → cxK C (some (vI r)) G) (hX : ∀ q G, X q G → cxX C q G) {G : gS} {t0 : Nat} {x1 : Int32} (h : wp_X2_goblinAt (cxA C) G t0 x1 X K) : gGo C G 0 [(0, vQ (some t0)), (1, vI x1)] [] := by
  unfold wp_X2_goblinAt at h
  refine g_iconst hC (pc := 0) (v := (0 : Int32)) (by decide) dX2_goblinAt_0 ?_
  refine g_istore_n hC (pc := 1) (lv' := [(2, vI (0 : Int32)), (0, vQ (some t0)), (1, vI x1)]) rfl (by decide) rfl dX2_goblinAt_1 ?_
  exact g_sub [1, 2, 0] rfl (w_X2_goblinAt_2 hC hK hX gFuel _ _ _ _ h)
theorem gc_X2_goblinAt : gCode yX2_goblinAt cX2_goblinAt 5 (some .int) 1 := ⟨q1820, q95, ⟨by decide, by decide⟩, rfl⟩
theorem m_X2_goblinAt {l : Launch} (hfl : l.stackTraces = false) {E : gE} {G : gS} {t0 : Nat} {x1 : Int32} {X : Nat → gS → Prop} {K : Int32 → gS → Prop} (h : wp_X2_goblinAt (gAd E) G t0 x1 X K) : gMet l yX2_goblinAt (ws_ yX2_goblinAt cX2_goblinAt 5 (some .int)) 3 88 [vQ (some t0), vI x1] E G (gRi K) X :=
  g_met hfl (plainFor_of_name (by decide +kernel)) rfl rfl rfl (gle rfl) (fun p e R s m args below meth c hC => w_X2_goblinAt hC (fun _ _ h => h) (fun _ _ h => h) h)
def wp_X1_goblinByWealth (ad : Nat → Nat) (G : gS) (t0 : Nat) (x1 : Int32) (X : Nat → gS → Prop) (K : Int32 → gS → Prop) : Prop :=
  wGetQ G t0 1 0 fun q1 => wNN q1 fun c2 => (gIs G c2 2 ∧ wp_X2_goblinAt ad G c2 x1 X (fun r4 G3 => wp_X1_found ad G3 r4 X (fun r6 G5 => K r6 G5)))
theorem w_X1_goblinByWealth {C : gCx} (hC : gOk C "GoblinHousehold" cX1_goblinByWealth [] (some .int) "goblinByWealth" 2 10 268) {K : Int32 → gS → Prop} {X : Nat → gS → Prop} (hK : ∀ r G, K r G → cxK C (some (vI r)) G) (hX : ∀ q G, X q G → cxX C q G) {G : gS} {t0 : Nat} {x1 : Int32} (h : wp_X1_goblinByWealth (cxA C) G t0 x1 X K) : gGo C G 0 [(0, vQ (some t0)), (1, vI x1)] [] := by
  unfold wp_X1_goblinByWealth at h
  refine g_aload_n hC (pc := 0) 0 rfl rfl dX1_goblinByWealth_0 ?_
  refine g_getQ hC (pc := 1) in_X1 (ci := 1) rfl 0 (by decide) q292 (Or.inl rfl) h dX1_goblinByWealth_1 (fun q1 h => ?_)
  refine g_iload_n hC (pc := 4) 1 rfl rfl dX1_goblinByWealth_4 ?_
  rcases q1 with _ | c2
  · exact (gNN0 h).elim
  replace h := gNN1 h
  obtain ⟨hi, h⟩ := h
  refine g_callV hC (pc := 5) (ci := 2) (As := [vI x1]) gc_X2_goblinAt (m_X2_goblinAt hC.fl h) rfl hi q1817 q1818 q1819 (gle rfl) (gle rfl) rfl (gle rfl) rfl dX1_goblinByWealth_5 (gk_i fun r4 G3 h => ?_) (fun _ _ h hio => g_out0 hC (hX _ _ h) hio)
  refine g_callS hC (pc := 8) (b := 0) (As := [vI r4]) gc_X1_found (m_X1_found hC.fl h) q1730 q1731 (gle rfl) (gle rfl) rfl (gle rfl) rfl dX1_goblinByWealth_8 (gk_i fun r6 G5 h => ?_) (fun _ _ h hio => g_out0 hC (hX _ _ h) hio)
  exact g_iret hC (pc := 11) (hK _ _ h) dX1_goblinByWealth_11
theorem gc_X1_goblinByWealth : gCode yX1_goblinByWealth cX1_goblinByWealth 2 (some .int) 1 := ⟨q1816, q94, ⟨by decide, by decide⟩, rfl⟩
theorem m_X1_goblinByWealth {l : Launch} (hfl : l.stackTraces = false) {E : gE} {G : gS} {t0 : Nat} {x1 : Int32} {X : Nat → gS → Prop} {K : Int32 → gS → Prop} (h : wp_X1_goblinByWealth (gAd E) G t0 x1 X K) : gMet l yX1_goblinByWealth (ws_ yX1_goblinByWealth cX1_goblinByWealth 2 (some .int)) 10 268 [vQ (some t0), vI x1] E G (gRi K) X :=
  g_met hfl (plainFor_of_name (by decide +kernel)) rfl rfl rfl (gle rfl) (fun p e R s m args below meth c hC => w_X1_goblinByWealth hC (fun _ _ h => h) (fun _ _ h => h) h)
def wp_X0_goblinByWealth_12 (ad : Nat → Nat) (X : Nat → gS → Prop) (K : Int32 → gS → Prop) (G : gS) (ts0 : Nat) : Prop :=
  K (1 : Int32) G
theorem w_X0_goblinByWealth_12 {C : gCx} (hC : gOk C "GoblinHouseholdLaw" cX0_goblinByWealth [(0, 9, 12, 37)] (some .int) "goblinByWealth" 4 11 297) {K : Int32 → gS → Prop} {X : Nat → gS → Prop} (hK : ∀ r G, K r G → cxK C (some (vI r)) G) (hX : ∀ q G, X q G → cxX C q G) {G : gS} {ts0 : Nat} (h : wp_X0_goblinByWealth_12 (cxA C) X K G ts0) : gGo C G 12 [] [vQ (some ts0)] := by
  unfold wp_X0_goblinByWealth_12 at h
  refine g_astore_n hC (pc := 12) (lv' := [(3, vQ (some ts0))]) rfl (by decide) rfl dX0_goblinByWealth_12 ?_
  refine g_iconst hC (pc := 13) (v := (1 : Int32)) (by decide) dX0_goblinByWealth_13 ?_
  exact g_iret hC (pc := 14) (hK _ _ h) dX0_goblinByWealth_14
def wp_X0_goblinByWealth (ad : Nat → Nat) (G : gS) (o0 : Option Nat) (x1 : Int32) (o2 : Option Nat) (X : Nat → gS → Prop) (K : Int32 → gS → Prop) : Prop :=
  wNN o0 fun c1 => (gIs G c1 1 ∧ wp_X1_goblinByWealth ad G c1 x1 (fun y3 G4 => (gHas G4 y3 23 ∧ (wp_X0_goblinByWealth_12 ad X K G4 y3))) (fun r5 G2 => wNN o2 fun c6 => wAstL G2 c6 (0 : Int32) ((r5).toInt64) fun G7 => K (0 : Int32) G7))
theorem w_X0_goblinByWealth {C : gCx} (hC : gOk C "GoblinHouseholdLaw" cX0_goblinByWealth [(0, 9, 12, 37)] (some .int) "goblinByWealth" 4 11 297) {K : Int32 → gS → Prop} {X : Nat → gS → Prop} (hK : ∀ r G, K r G → cxK C (some (vI r)) G) (hX : ∀ q G, X q G → cxX C q G) {G : gS} {o0 : Option Nat} {x1 : Int32} {o2 : Option Nat} (h : wp_X0_goblinByWealth (cxA C) G o0 x1 o2 X K) : gGo C G 0 [(0, vQ o0), (1, vI x1), (2, vQ o2)] [] := by
  unfold wp_X0_goblinByWealth at h
  refine g_aload_n hC (pc := 0) 2 rfl rfl dX0_goblinByWealth_0 ?_
  refine g_iconst hC (pc := 1) (v := (0 : Int32)) (by decide) dX0_goblinByWealth_1 ?_
  refine g_aload_n hC (pc := 2) 0 rfl rfl dX0_goblinByWealth_2 ?_
  refine g_iload_n hC (pc := 3) 1 rfl rfl dX0_goblinByWealth_3 ?_
  rcases o0 with _ | c1
  · exact (gNN0 h).elim
  replace h := gNN1 h
  obtain ⟨hi, h⟩ := h
  refine g_callV hC (pc := 4) (ci := 1) (As := [vI x1]) gc_X1_goblinByWealth (m_X1_goblinByWealth hC.fl h) rfl hi q1813 q1814 q1815 (gle rfl) (gle rfl) rfl (gle rfl) rfl dX0_goblinByWealth_4 (gk_i fun r5 G2 h => ?_) (fun y3 G4 h hio => ?_)
  · refine g_i2l hC (pc := 7) dX0_goblinByWealth_7 ?_
    rcases o2 with _ | c6
    · exact (gNN0 h).elim
    replace h := gNN1 h
    refine g_astL hC (pc := 8) h dX0_goblinByWealth_8 (fun G7 h => ?_)
    refine g_goto hC (pc := 9) 15 (by decide) dX0_goblinByWealth_9 ?_
    refine g_iconst hC (pc := 15) (v := (0 : Int32)) (by decide) dX0_goblinByWealth_15 ?_
    exact g_iret hC (pc := 16) (hK _ _ h) dX0_goblinByWealth_16
  · obtain ⟨hq, h⟩ := h
    refine g_catchI hC (pc := 4) (ci := 23) rfl hq 0 rfl (fun _ h => nomatch h) rfl (by decide) q1418 (List.mem_of_getElem? (i := 8) rfl) rfl ?_
    exact g_sub [] rfl (w_X0_goblinByWealth_12 hC hK hX h)
theorem gc_X0_goblinByWealth : gCodeW yX0_goblinByWealth cX0_goblinByWealth 4 (some .int) [(0, 9, 12, 37)] 3 := ⟨q1812, q93, ⟨by decide, by decide⟩, rfl⟩
theorem m_X0_goblinByWealth {l : Launch} (hfl : l.stackTraces = false) {E : gE} {G : gS} {o0 : Option Nat} {x1 : Int32} {o2 : Option Nat} {X : Nat → gS → Prop} {K : Int32 → gS → Prop} (h : wp_X0_goblinByWealth (gAd E) G o0 x1 o2 X K) : gMet l yX0_goblinByWealth (wsW_ yX0_goblinByWealth cX0_goblinByWealth 4 (some .int) [(0, 9, 12, 37)]) 11 297 [vQ o0, vI x1, vQ o2] E G (gRi K) X :=
  g_metW hfl (plainFor_of_name (by decide +kernel)) rfl rfl rfl (gle rfl) (fun p e R s m args below meth c hC => w_X0_goblinByWealth hC (fun _ _ h => h) (fun _ _ h => h) h)
def wp_X3_goblinByWealth_113 (ad : Nat → Nat) (X : Nat → gS → Prop) (K : Int32 → gS → Prop) (J4 : gS → Nat → Int32 → Int32 → Int32 → Prop) (J21 : gS → Nat → Int32 → Int32 → Int32 → Int32 → Int32 → Prop) (G : gS) (t0 : Nat) (x1 : Int32) (x2 : Int32) (x3 : Int32) (x5 : Int32) (xs0 : Int32) (xs1 : Int32) : Prop :=
  J21 G t0 x1 x2 x3 (xs1 + xs0) (x5 + (1 : Int32))
theorem w_X3_goblinByWealth_113 {C : gCx} (hC : gOk C "GoblinHouseholdModel" cX3_goblinByWealth [] (some .int) "goblinByWealth" 8 4 119) {K : Int32 → gS → Prop} {X : Nat → gS → Prop} (hK : ∀ r G, K r G → cxK C (some (vI r)) G) (hX : ∀ q G, X q G → cxX C q G) {J4 : gS → Nat → Int32 → Int32 → Int32 → Prop} {J21 : gS → Nat → Int32 → Int32 → Int32 → Int32 → Int32 → Prop} (hJ4 : ∀ G z0 z1 z2 z3, J4 G z0 z1 z2 z3 → gGo C G 4 [(0, vQ (some z0)), (1, vI z1), (2, vI z2), (3, vI z3)] []) (hJ21 : ∀ G z0 z1 z2 z3 z4 z5, J21 G z0 z1 z2 z3 z4 z5 → gGo C G 21 [(0, vQ (some z0)), (1, vI z1), (2, vI z2), (3, vI z3), (4, vI z4), (5, vI z5)] []) {G : gS} {t0 : Nat} {x1 : Int32} {x2 : Int32} {x3 : Int32} {x5 : Int32} {xs0 : Int32} {xs1 : Int32} (h : wp_X3_goblinByWealth_113 (cxA C) X K J4 J21 G t0 x1 x2 x3 x5 xs0 xs1) : gGo C G 113 [(0, vQ (some t0)), (1, vI x1), (2, vI x2), (3, vI x3), (5, vI x5)] [vI xs0, vI xs1] := by
  unfold wp_X3_goblinByWealth_113 at h
  refine g_iadd hC (pc := 113) dX3_goblinByWealth_113 ?_
  refine g_istore hC (pc := 114) (lv' := [(4, vI (xs1 + xs0)), (0, vQ (some t0)), (1, vI x1), (2, vI x2), (3, vI x3), (5, vI x5)]) (by decide) rfl dX3_goblinByWealth_114 ?_
  refine g_iinc hC (pc := 116) 5 (d := (1 : Int32)) (v := (x5 + (1 : Int32))) (lv' := [(5, vI (x5 + (1 : Int32))), (4, vI (xs1 + xs0)), (0, vQ (some t0)), (1, vI x1), (2, vI x2), (3, vI x3)]) rfl (by decide) rfl (by decide) rfl dX3_goblinByWealth_116 ?_
  refine g_goto hC (pc := 119) 21 (by decide) dX3_goblinByWealth_119 ?_
  exact g_sub [2, 3, 4, 5, 1, 0] rfl (hJ21 _ _ _ _ _ _ _ h)
def wp_X3_goblinByWealth_108 (ad : Nat → Nat) (X : Nat → gS → Prop) (K : Int32 → gS → Prop) (J4 : gS → Nat → Int32 → Int32 → Int32 → Prop) (J21 : gS → Nat → Int32 → Int32 → Int32 → Int32 → Int32 → Prop) (G : gS) (t0 : Nat) (x1 : Int32) (x2 : Int32) (x3 : Int32) (x5 : Int32) (xs0 : Int32) : Prop :=
  wp_X3_goblinByWealth_113 ad X K J4 J21 G t0 x1 x2 x3 x5 (1 : Int32) xs0
theorem w_X3_goblinByWealth_108 {C : gCx} (hC : gOk C "GoblinHouseholdModel" cX3_goblinByWealth [] (some .int) "goblinByWealth" 8 4 119) {K : Int32 → gS → Prop} {X : Nat → gS → Prop} (hK : ∀ r G, K r G → cxK C (some (vI r)) G) (hX : ∀ q G, X q G → cxX C q G) {J4 : gS → Nat → Int32 → Int32 → Int32 → Prop} {J21 : gS → Nat → Int32 → Int32 → Int32 → Int32 → Int32 → Prop} (hJ4 : ∀ G z0 z1 z2 z3, J4 G z0 z1 z2 z3 → gGo C G 4 [(0, vQ (some z0)), (1, vI z1), (2, vI z2), (3, vI z3)] []) (hJ21 : ∀ G z0 z1 z2 z3 z4 z5, J21 G z0 z1 z2 z3 z4 z5 → gGo C G 21 [(0, vQ (some z0)), (1, vI z1), (2, vI z2), (3, vI z3), (4, vI z4), (5, vI z5)] []) {G : gS} {t0 : Nat} {x1 : Int32} {x2 : Int32} {x3 : Int32} {x5 : Int32} {xs0 : Int32} (h : wp_X3_goblinByWealth_108 (cxA C) X K J4 J21 G t0 x1 x2 x3 x5 xs0) : gGo C G 108 [(0, vQ (some t0)), (1, vI x1), (2, vI x2), (3, vI x3), (5, vI x5)] [vI xs0] := by
  unfold wp_X3_goblinByWealth_108 at h
  refine g_iconst hC (pc := 108) (v := (1 : Int32)) (by decide) dX3_goblinByWealth_108 ?_
  refine g_goto hC (pc := 109) 113 (by decide) dX3_goblinByWealth_109 ?_
  exact g_sub [0, 1, 2, 3, 4] rfl (w_X3_goblinByWealth_113 hC hK hX hJ4 hJ21 h)
def wp_X3_goblinByWealth_112 (ad : Nat → Nat) (X : Nat → gS → Prop) (K : Int32 → gS → Prop) (J4 : gS → Nat → Int32 → Int32 → Int32 → Prop) (J21 : gS → Nat → Int32 → Int32 → Int32 → Int32 → Int32 → Prop) (G : gS) (t0 : Nat) (x1 : Int32) (x2 : Int32) (x3 : Int32) (x5 : Int32) (xs0 : Int32) : Prop :=
  wp_X3_goblinByWealth_113 ad X K J4 J21 G t0 x1 x2 x3 x5 (0 : Int32) xs0
theorem w_X3_goblinByWealth_112 {C : gCx} (hC : gOk C "GoblinHouseholdModel" cX3_goblinByWealth [] (some .int) "goblinByWealth" 8 4 119) {K : Int32 → gS → Prop} {X : Nat → gS → Prop} (hK : ∀ r G, K r G → cxK C (some (vI r)) G) (hX : ∀ q G, X q G → cxX C q G) {J4 : gS → Nat → Int32 → Int32 → Int32 → Prop} {J21 : gS → Nat → Int32 → Int32 → Int32 → Int32 → Int32 → Prop} (hJ4 : ∀ G z0 z1 z2 z3, J4 G z0 z1 z2 z3 → gGo C G 4 [(0, vQ (some z0)), (1, vI z1), (2, vI z2), (3, vI z3)] []) (hJ21 : ∀ G z0 z1 z2 z3 z4 z5, J21 G z0 z1 z2 z3 z4 z5 → gGo C G 21 [(0, vQ (some z0)), (1, vI z1), (2, vI z2), (3, vI z3), (4, vI z4), (5, vI z5)] []) {G : gS} {t0 : Nat} {x1 : Int32} {x2 : Int32} {x3 : Int32} {x5 : Int32} {xs0 : Int32} (h : wp_X3_goblinByWealth_112 (cxA C) X K J4 J21 G t0 x1 x2 x3 x5 xs0) : gGo C G 112 [(0, vQ (some t0)), (1, vI x1), (2, vI x2), (3, vI x3), (5, vI x5)] [vI xs0] := by
  unfold wp_X3_goblinByWealth_112 at h
  refine g_iconst hC (pc := 112) (v := (0 : Int32)) (by decide) dX3_goblinByWealth_112 ?_
  exact g_sub [0, 1, 2, 3, 4] rfl (w_X3_goblinByWealth_113 hC hK hX hJ4 hJ21 h)
def wp_X3_goblinByWealth_133 (ad : Nat → Nat) (X : Nat → gS → Prop) (K : Int32 → gS → Prop) (J4 : gS → Nat → Int32 → Int32 → Int32 → Prop) (G : gS) (t0 : Nat) (x1 : Int32) (x3 : Int32) (xs0 : Int32) : Prop :=
  J4 G t0 x1 xs0 (x3 + (1 : Int32))
theorem w_X3_goblinByWealth_133 {C : gCx} (hC : gOk C "GoblinHouseholdModel" cX3_goblinByWealth [] (some .int) "goblinByWealth" 8 4 119) {K : Int32 → gS → Prop} {X : Nat → gS → Prop} (hK : ∀ r G, K r G → cxK C (some (vI r)) G) (hX : ∀ q G, X q G → cxX C q G) {J4 : gS → Nat → Int32 → Int32 → Int32 → Prop} (hJ4 : ∀ G z0 z1 z2 z3, J4 G z0 z1 z2 z3 → gGo C G 4 [(0, vQ (some z0)), (1, vI z1), (2, vI z2), (3, vI z3)] []) {G : gS} {t0 : Nat} {x1 : Int32} {x3 : Int32} {xs0 : Int32} (h : wp_X3_goblinByWealth_133 (cxA C) X K J4 G t0 x1 x3 xs0) : gGo C G 133 [(0, vQ (some t0)), (1, vI x1), (3, vI x3)] [vI xs0] := by
  unfold wp_X3_goblinByWealth_133 at h
  refine g_istore_n hC (pc := 133) (lv' := [(2, vI xs0), (0, vQ (some t0)), (1, vI x1), (3, vI x3)]) rfl (by decide) rfl dX3_goblinByWealth_133 ?_
  refine g_iinc hC (pc := 134) 3 (d := (1 : Int32)) (v := (x3 + (1 : Int32))) (lv' := [(3, vI (x3 + (1 : Int32))), (2, vI xs0), (0, vQ (some t0)), (1, vI x1)]) rfl (by decide) rfl (by decide) rfl dX3_goblinByWealth_134 ?_
  refine g_goto hC (pc := 137) 4 (by decide) dX3_goblinByWealth_137 ?_
  exact g_sub [2, 3, 1, 0] rfl (hJ4 _ _ _ _ _ h)
def wp_X3_goblinByWealth_122 (ad : Nat → Nat) (X : Nat → gS → Prop) (K : Int32 → gS → Prop) (J4 : gS → Nat → Int32 → Int32 → Int32 → Prop) (G : gS) (t0 : Nat) (x1 : Int32) (x2 : Int32) (x3 : Int32) (x4 : Int32) : Prop :=
  (¬ x4 = x1 → wp_X3_goblinByWealth_133 ad X K J4 G t0 x1 x3 x2) ∧ (x4 = x1 → wp_X3_goblinByWealth_133 ad X K J4 G t0 x1 x3 x3)
theorem w_X3_goblinByWealth_122 {C : gCx} (hC : gOk C "GoblinHouseholdModel" cX3_goblinByWealth [] (some .int) "goblinByWealth" 8 4 119) {K : Int32 → gS → Prop} {X : Nat → gS → Prop} (hK : ∀ r G, K r G → cxK C (some (vI r)) G) (hX : ∀ q G, X q G → cxX C q G) {J4 : gS → Nat → Int32 → Int32 → Int32 → Prop} (hJ4 : ∀ G z0 z1 z2 z3, J4 G z0 z1 z2 z3 → gGo C G 4 [(0, vQ (some z0)), (1, vI z1), (2, vI z2), (3, vI z3)] []) {G : gS} {t0 : Nat} {x1 : Int32} {x2 : Int32} {x3 : Int32} {x4 : Int32} (h : wp_X3_goblinByWealth_122 (cxA C) X K J4 G t0 x1 x2 x3 x4) : gGo C G 122 [(0, vQ (some t0)), (1, vI x1), (2, vI x2), (3, vI x3), (4, vI x4)] [] := by
  unfold wp_X3_goblinByWealth_122 at h
  refine g_iload hC (pc := 122) 4 rfl dX3_goblinByWealth_122 ?_
  refine g_iload_n hC (pc := 124) 1 rfl rfl dX3_goblinByWealth_124 ?_
  refine g_icmp_ne hC (pc := 125) 132 h (by decide) dX3_goblinByWealth_125 (fun h => ?_) (fun h => ?_)
  · refine g_iload_n hC (pc := 132) 2 rfl rfl dX3_goblinByWealth_132 ?_
    exact g_sub [0, 1, 3] rfl (w_X3_goblinByWealth_133 hC hK hX hJ4 h)
  · refine g_iload_n hC (pc := 128) 3 rfl rfl dX3_goblinByWealth_128 ?_
    refine g_goto hC (pc := 129) 133 (by decide) dX3_goblinByWealth_129 ?_
    exact g_sub [0, 1, 3] rfl (w_X3_goblinByWealth_133 hC hK hX hJ4 h)
def wp_X3_goblinByWealth_21 (ad : Nat → Nat) (X : Nat → gS → Prop) (K : Int32 → gS → Prop) (J4 : gS → Nat → Int32 → Int32 → Int32 → Prop) (J21 : gS → Nat → Int32 → Int32 → Int32 → Int32 → Int32 → Prop) (G : gS) (t0 : Nat) (x1 : Int32) (x2 : Int32) (x3 : Int32) (x4 : Int32) (x5 : Int32) : Prop :=
  wGetQ G t0 0 0 fun q1 => wNN q1 fun c2 => wAldI G c2 (9 : Int32) fun i3 => (i3 ≤ x5 → wp_X3_goblinByWealth_122 ad X K J4 G t0 x1 x2 x3 x4) ∧ (¬ i3 ≤ x5 → (gIs G t0 0 ∧ wp_X3_of ad G t0 x5 (1 : Int32) X (fun r5 G4 => (gIs G4 t0 0 ∧ wp_X3_of ad G4 t0 x5 (2 : Int32) X (fun r7 G6 => (gIs G6 t0 0 ∧ wp_X3_of ad G6 t0 x3 (1 : Int32) X (fun r9 G8 => (gIs G8 t0 0 ∧ wp_X3_of ad G8 t0 x3 (2 : Int32) X (fun r11 G10 => (gIs G10 t0 0 ∧ wp_X3_of ad G10 t0 x5 (0 : Int32) X (fun r13 G12 => (gIs G12 t0 0 ∧ wp_X3_of ad G12 t0 x3 (0 : Int32) X (fun r15 G14 => ((0 : Int32) < (((r5 - r7) - r9) + r11) → wp_X3_goblinByWealth_108 ad X K J4 J21 G14 t0 x1 x2 x3 x5 x4) ∧ (¬ (0 : Int32) < (((r5 - r7) - r9) + r11) → (¬ (((r5 - r7) - r9) + r11) = (0 : Int32) → wp_X3_goblinByWealth_112 ad X K J4 J21 G14 t0 x1 x2 x3 x5 x4) ∧ ((((r5 - r7) - r9) + r11) = (0 : Int32) → ((0 : Int32) < (r13 - r15) → wp_X3_goblinByWealth_108 ad X K J4 J21 G14 t0 x1 x2 x3 x5 x4) ∧ (¬ (0 : Int32) < (r13 - r15) → (¬ (r13 - r15) = (0 : Int32) → wp_X3_goblinByWealth_112 ad X K J4 J21 G14 t0 x1 x2 x3 x5 x4) ∧ ((r13 - r15) = (0 : Int32) → (x3 ≤ x5 → wp_X3_goblinByWealth_112 ad X K J4 J21 G14 t0 x1 x2 x3 x5 x4) ∧ (¬ x3 ≤ x5 → wp_X3_goblinByWealth_108 ad X K J4 J21 G14 t0 x1 x2 x3 x5 x4))))))))))))))))))
theorem w_X3_goblinByWealth_21 {C : gCx} (hC : gOk C "GoblinHouseholdModel" cX3_goblinByWealth [] (some .int) "goblinByWealth" 8 4 119) {K : Int32 → gS → Prop} {X : Nat → gS → Prop} (hK : ∀ r G, K r G → cxK C (some (vI r)) G) (hX : ∀ q G, X q G → cxX C q G) {J4 : gS → Nat → Int32 → Int32 → Int32 → Prop} (hJ4 : ∀ G z0 z1 z2 z3, J4 G z0 z1 z2 z3 → gGo C G 4 [(0, vQ (some z0)), (1, vI z1), (2, vI z2), (3, vI z3)] []) (n : Nat) : ∀ (G : gS) (t0 : Nat) (x1 : Int32) (x2 : Int32) (x3 : Int32) (x4 : Int32) (x5 : Int32), gLoop (fun _ _ _ _ _ _ _ => False) (wp_X3_goblinByWealth_21 (cxA C) X K J4) n G t0 x1 x2 x3 x4 x5 → gGo C G 21 [(0, vQ (some t0)), (1, vI x1), (2, vI x2), (3, vI x3), (4, vI x4), (5, vI x5)] [] := by
  induction n with
  | zero => intro G t0 x1 x2 x3 x4 x5 h; exact h.elim
  | succ n ih =>
    intro G t0 x1 x2 x3 x4 x5 h
    have hJ21 := ih
    replace h : wp_X3_goblinByWealth_21 (cxA C) X K J4 _ G t0 x1 x2 x3 x4 x5 := h
    unfold wp_X3_goblinByWealth_21 at h
    refine g_iload hC (pc := 21) 5 rfl dX3_goblinByWealth_21 ?_
    refine g_aload_n hC (pc := 23) 0 rfl rfl dX3_goblinByWealth_23 ?_
    refine g_getQ hC (pc := 24) in_X3 (ci := 0) rfl 0 (by decide) q2477 (Or.inl rfl) h dX3_goblinByWealth_24 (fun q1 h => ?_)
    refine g_bipush hC (pc := 27) (v := (9 : Int32)) (by decide) dX3_goblinByWealth_27 ?_
    rcases q1 with _ | c2
    · exact (gNN0 h).elim
    replace h := gNN1 h
    refine g_aldI hC (pc := 29) h dX3_goblinByWealth_29 (fun i3 h => ?_)
    refine g_icmp_ge hC (pc := 30) 122 h (by decide) dX3_goblinByWealth_30 (fun h => ?_) (fun h => ?_)
    · exact g_sub [0, 1, 2, 3, 4] rfl (w_X3_goblinByWealth_122 hC hK hX hJ4 h)
    · refine g_aload_n hC (pc := 33) 0 rfl rfl dX3_goblinByWealth_33 ?_
      refine g_iload hC (pc := 34) 5 rfl dX3_goblinByWealth_34 ?_
      refine g_iconst hC (pc := 36) (v := (1 : Int32)) (by decide) dX3_goblinByWealth_36 ?_
      obtain ⟨hi, h⟩ := h
      refine g_callV hC (pc := 37) (ci := 0) (As := [vI x5, vI (1 : Int32)]) gc_X3_of (m_X3_of hC.fl h) rfl hi q2632 q2634 qs56 (gle rfl) (gle rfl) rfl (gle rfl) rfl dX3_goblinByWealth_37 (gk_i fun r5 G4 h => ?_) (fun _ _ h hio => g_out0 hC (hX _ _ h) hio)
      refine g_aload_n hC (pc := 40) 0 rfl rfl dX3_goblinByWealth_40 ?_
      refine g_iload hC (pc := 41) 5 rfl dX3_goblinByWealth_41 ?_
      refine g_iconst hC (pc := 43) (v := (2 : Int32)) (by decide) dX3_goblinByWealth_43 ?_
      obtain ⟨hi, h⟩ := h
      refine g_callV hC (pc := 44) (ci := 0) (As := [vI x5, vI (2 : Int32)]) gc_X3_of (m_X3_of hC.fl h) rfl hi q2632 q2634 qs56 (gle rfl) (gle rfl) rfl (gle rfl) rfl dX3_goblinByWealth_44 (gk_i fun r7 G6 h => ?_) (fun _ _ h hio => g_out0 hC (hX _ _ h) hio)
      refine g_isub hC (pc := 47) dX3_goblinByWealth_47 ?_
      refine g_aload_n hC (pc := 48) 0 rfl rfl dX3_goblinByWealth_48 ?_
      refine g_iload_n hC (pc := 49) 3 rfl rfl dX3_goblinByWealth_49 ?_
      refine g_iconst hC (pc := 50) (v := (1 : Int32)) (by decide) dX3_goblinByWealth_50 ?_
      obtain ⟨hi, h⟩ := h
      refine g_callV hC (pc := 51) (ci := 0) (As := [vI x3, vI (1 : Int32)]) gc_X3_of (m_X3_of hC.fl h) rfl hi q2632 q2634 qs56 (gle rfl) (gle rfl) rfl (gle rfl) rfl dX3_goblinByWealth_51 (gk_i fun r9 G8 h => ?_) (fun _ _ h hio => g_out0 hC (hX _ _ h) hio)
      refine g_isub hC (pc := 54) dX3_goblinByWealth_54 ?_
      refine g_aload_n hC (pc := 55) 0 rfl rfl dX3_goblinByWealth_55 ?_
      refine g_iload_n hC (pc := 56) 3 rfl rfl dX3_goblinByWealth_56 ?_
      refine g_iconst hC (pc := 57) (v := (2 : Int32)) (by decide) dX3_goblinByWealth_57 ?_
      obtain ⟨hi, h⟩ := h
      refine g_callV hC (pc := 58) (ci := 0) (As := [vI x3, vI (2 : Int32)]) gc_X3_of (m_X3_of hC.fl h) rfl hi q2632 q2634 qs56 (gle rfl) (gle rfl) rfl (gle rfl) rfl dX3_goblinByWealth_58 (gk_i fun r11 G10 h => ?_) (fun _ _ h hio => g_out0 hC (hX _ _ h) hio)
      refine g_iadd hC (pc := 61) dX3_goblinByWealth_61 ?_
      refine g_istore hC (pc := 62) (lv' := [(6, vI (((r5 - r7) - r9) + r11)), (0, vQ (some t0)), (1, vI x1), (2, vI x2), (3, vI x3), (4, vI x4), (5, vI x5)]) (by decide) rfl dX3_goblinByWealth_62 ?_
      refine g_aload_n hC (pc := 64) 1 rfl rfl dX3_goblinByWealth_64 ?_
      refine g_iload hC (pc := 65) 6 rfl dX3_goblinByWealth_65 ?_
      refine g_iconst hC (pc := 67) (v := (0 : Int32)) (by decide) dX3_goblinByWealth_67 ?_
      obtain ⟨hi, h⟩ := h
      refine g_callV hC (pc := 68) (ci := 0) (As := [vI x5, vI (0 : Int32)]) gc_X3_of (m_X3_of hC.fl h) rfl hi q2632 q2634 qs56 (gle rfl) (gle rfl) rfl (gle rfl) rfl dX3_goblinByWealth_68 (gk_i fun r13 G12 h => ?_) (fun _ _ h hio => g_out0 hC (hX _ _ h) hio)
      refine g_aload_n hC (pc := 71) 1 rfl rfl dX3_goblinByWealth_71 ?_
      refine g_iload_n hC (pc := 72) 4 rfl rfl dX3_goblinByWealth_72 ?_
      refine g_iconst hC (pc := 73) (v := (0 : Int32)) (by decide) dX3_goblinByWealth_73 ?_
      obtain ⟨hi, h⟩ := h
      refine g_callV hC (pc := 74) (ci := 0) (As := [vI x3, vI (0 : Int32)]) gc_X3_of (m_X3_of hC.fl h) rfl hi q2632 q2634 qs56 (gle rfl) (gle rfl) rfl (gle rfl) rfl dX3_goblinByWealth_74 (gk_i fun r15 G14 h => ?_) (fun _ _ h hio => g_out0 hC (hX _ _ h) hio)
      refine g_isub hC (pc := 77) dX3_goblinByWealth_77 ?_
      refine g_istore hC (pc := 78) (lv' := [(7, vI (r13 - r15)), (6, vI (((r5 - r7) - r9) + r11)), (0, vQ (some t0)), (1, vI x1), (2, vI x2), (3, vI x3), (4, vI x4), (5, vI x5)]) (by decide) rfl dX3_goblinByWealth_78 ?_
      refine g_iload hC (pc := 80) 6 rfl dX3_goblinByWealth_80 ?_
      refine g_iload hC (pc := 82) 1 rfl dX3_goblinByWealth_82 ?_
      refine g_if_gt hC (pc := 84) 108 h (by decide) dX3_goblinByWealth_84 (fun h => ?_) (fun h => ?_)
      · exact g_sub [2, 3, 4, 5, 7] rfl (w_X3_goblinByWealth_108 hC hK hX hJ4 hJ21 h)
      · refine g_iload hC (pc := 87) 1 rfl dX3_goblinByWealth_87 ?_
        refine g_if_ne hC (pc := 89) 112 h (by decide) dX3_goblinByWealth_89 (fun h => ?_) (fun h => ?_)
        · exact g_sub [2, 3, 4, 5, 7] rfl (w_X3_goblinByWealth_112 hC hK hX hJ4 hJ21 h)
        · refine g_iload hC (pc := 92) 0 rfl dX3_goblinByWealth_92 ?_
          refine g_if_gt hC (pc := 94) 108 h (by decide) dX3_goblinByWealth_94 (fun h => ?_) (fun h => ?_)
          · exact g_sub [2, 3, 4, 5, 7] rfl (w_X3_goblinByWealth_108 hC hK hX hJ4 hJ21 h)
          · refine g_iload hC (pc := 97) 0 rfl dX3_goblinByWealth_97 ?_
            refine g_if_ne hC (pc := 99) 112 h (by decide) dX3_goblinByWealth_99 (fun h => ?_) (fun h => ?_)
            · exact g_sub [2, 3, 4, 5, 7] rfl (w_X3_goblinByWealth_112 hC hK hX hJ4 hJ21 h)
            · refine g_iload hC (pc := 102) 7 rfl dX3_goblinByWealth_102 ?_
              refine g_iload_n hC (pc := 104) 5 rfl rfl dX3_goblinByWealth_104 ?_
              refine g_icmp_ge hC (pc := 105) 112 h (by decide) dX3_goblinByWealth_105 (fun h => ?_) (fun h => ?_)
              · exact g_sub [2, 3, 4, 5, 7] rfl (w_X3_goblinByWealth_112 hC hK hX hJ4 hJ21 h)
              · exact g_sub [2, 3, 4, 5, 7] rfl (w_X3_goblinByWealth_108 hC hK hX hJ4 hJ21 h)
def wp_X3_goblinByWealth_151 (ad : Nat → Nat) (X : Nat → gS → Prop) (K : Int32 → gS → Prop) (G : gS) (x2 : Int32) (xs0 : Int32) (ts1 : Nat) : Prop :=
  (gIs G ts1 0 ∧ wp_X3_goes ad G ts1 xs0 X (fun r2 G1 => (r2 = (0 : Int32) → K (0 : Int32) G1) ∧ (¬ r2 = (0 : Int32) → K x2 G1)))
theorem w_X3_goblinByWealth_151 {C : gCx} (hC : gOk C "GoblinHouseholdModel" cX3_goblinByWealth [] (some .int) "goblinByWealth" 8 4 119) {K : Int32 → gS → Prop} {X : Nat → gS → Prop} (hK : ∀ r G, K r G → cxK C (some (vI r)) G) (hX : ∀ q G, X q G → cxX C q G) {G : gS} {x2 : Int32} {xs0 : Int32} {ts1 : Nat} (h : wp_X3_goblinByWealth_151 (cxA C) X K G x2 xs0 ts1) : gGo C G 151 [(2, vI x2)] [vI xs0, vQ (some ts1)] := by
  unfold wp_X3_goblinByWealth_151 at h
  obtain ⟨hi, h⟩ := h
  refine g_callV hC (pc := 151) (ci := 0) (As := [vI xs0]) gc_X3_goes (m_X3_goes hC.fl h) rfl hi q2546 q2548 qs43 (gle rfl) (gle rfl) rfl (gle rfl) rfl dX3_goblinByWealth_151 (gk_i fun r2 G1 h => ?_) (fun _ _ h hio => g_out0 hC (hX _ _ h) hio)
  refine g_if_eq hC (pc := 154) 161 h (by decide) dX3_goblinByWealth_154 (fun h => ?_) (fun h => ?_)
  · refine g_iconst hC (pc := 161) (v := (0 : Int32)) (by decide) dX3_goblinByWealth_161 ?_
    exact g_iret hC (pc := 162) (hK _ _ h) dX3_goblinByWealth_162
  · refine g_iload_n hC (pc := 157) 0 rfl rfl dX3_goblinByWealth_157 ?_
    refine g_goto hC (pc := 158) 162 (by decide) dX3_goblinByWealth_158 ?_
    exact g_iret hC (pc := 162) (hK _ _ h) dX3_goblinByWealth_162
def wp_X3_goblinByWealth_140 (ad : Nat → Nat) (X : Nat → gS → Prop) (K : Int32 → gS → Prop) (G : gS) (t0 : Nat) (x2 : Int32) : Prop :=
  (x2 = (-1 : Int32) → wp_X3_goblinByWealth_151 ad X K G x2 (0 : Int32) t0) ∧ (¬ x2 = (-1 : Int32) → wp_X3_goblinByWealth_151 ad X K G x2 (1 : Int32) t0)
theorem w_X3_goblinByWealth_140 {C : gCx} (hC : gOk C "GoblinHouseholdModel" cX3_goblinByWealth [] (some .int) "goblinByWealth" 8 4 119) {K : Int32 → gS → Prop} {X : Nat → gS → Prop} (hK : ∀ r G, K r G → cxK C (some (vI r)) G) (hX : ∀ q G, X q G → cxX C q G) {G : gS} {t0 : Nat} {x2 : Int32} (h : wp_X3_goblinByWealth_140 (cxA C) X K G t0 x2) : gGo C G 140 [(0, vQ (some t0)), (2, vI x2)] [] := by
  unfold wp_X3_goblinByWealth_140 at h
  refine g_aload_n hC (pc := 140) 0 rfl rfl dX3_goblinByWealth_140 ?_
  refine g_iload_n hC (pc := 141) 1 rfl rfl dX3_goblinByWealth_141 ?_
  refine g_iconst hC (pc := 142) (v := (-1 : Int32)) (by decide) dX3_goblinByWealth_142 ?_
  refine g_icmp_eq hC (pc := 143) 150 h (by decide) dX3_goblinByWealth_143 (fun h => ?_) (fun h => ?_)
  · refine g_iconst hC (pc := 150) (v := (0 : Int32)) (by decide) dX3_goblinByWealth_150 ?_
    exact g_sub [1] rfl (w_X3_goblinByWealth_151 hC hK hX h)
  · refine g_iconst hC (pc := 146) (v := (1 : Int32)) (by decide) dX3_goblinByWealth_146 ?_
    refine g_goto hC (pc := 147) 151 (by decide) dX3_goblinByWealth_147 ?_
    exact g_sub [1] rfl (w_X3_goblinByWealth_151 hC hK hX h)
def wp_X3_goblinByWealth_4 (ad : Nat → Nat) (X : Nat → gS → Prop) (K : Int32 → gS → Prop) (J4 : gS → Nat → Int32 → Int32 → Int32 → Prop) (G : gS) (t0 : Nat) (x1 : Int32) (x2 : Int32) (x3 : Int32) : Prop :=
  wGetQ G t0 0 0 fun q1 => wNN q1 fun c2 => wAldI G c2 (9 : Int32) fun i3 => (i3 ≤ x3 → wp_X3_goblinByWealth_140 ad X K G t0 x2) ∧ (¬ i3 ≤ x3 → gLoop (fun _ _ _ _ _ _ _ => False) (wp_X3_goblinByWealth_21 ad X K J4) gFuel G t0 x1 x2 x3 (0 : Int32) (0 : Int32))
theorem w_X3_goblinByWealth_4 {C : gCx} (hC : gOk C "GoblinHouseholdModel" cX3_goblinByWealth [] (some .int) "goblinByWealth" 8 4 119) {K : Int32 → gS → Prop} {X : Nat → gS → Prop} (hK : ∀ r G, K r G → cxK C (some (vI r)) G) (hX : ∀ q G, X q G → cxX C q G) (n : Nat) : ∀ (G : gS) (t0 : Nat) (x1 : Int32) (x2 : Int32) (x3 : Int32), gLoop (fun _ _ _ _ _ => False) (wp_X3_goblinByWealth_4 (cxA C) X K) n G t0 x1 x2 x3 → gGo C G 4 [(0, vQ (some t0)), (1, vI x1), (2, vI x2), (3, vI x3)] [] := by
  induction n with
  | zero => intro G t0 x1 x2 x3 h; exact h.elim
  | succ n ih =>
    intro G t0 x1 x2 x3 h
    have hJ4 := ih
    replace h : wp_X3_goblinByWealth_4 (cxA C) X K _ G t0 x1 x2 x3 := h
    unfold wp_X3_goblinByWealth_4 at h
    refine g_iload_n hC (pc := 4) 3 rfl rfl dX3_goblinByWealth_4 ?_
    refine g_aload_n hC (pc := 5) 0 rfl rfl dX3_goblinByWealth_5 ?_
    refine g_getQ hC (pc := 6) in_X3 (ci := 0) rfl 0 (by decide) q2477 (Or.inl rfl) h dX3_goblinByWealth_6 (fun q1 h => ?_)
    refine g_bipush hC (pc := 9) (v := (9 : Int32)) (by decide) dX3_goblinByWealth_9 ?_
    rcases q1 with _ | c2
    · exact (gNN0 h).elim
    replace h := gNN1 h
    refine g_aldI hC (pc := 11) h dX3_goblinByWealth_11 (fun i3 h => ?_)
    refine g_icmp_ge hC (pc := 12) 140 h (by decide) dX3_goblinByWealth_12 (fun h => ?_) (fun h => ?_)
    · exact g_sub [0, 2] rfl (w_X3_goblinByWealth_140 hC hK hX h)
    · refine g_iconst hC (pc := 15) (v := (0 : Int32)) (by decide) dX3_goblinByWealth_15 ?_
      refine g_istore hC (pc := 16) (lv' := [(4, vI (0 : Int32)), (0, vQ (some t0)), (1, vI x1), (2, vI x2), (3, vI x3)]) (by decide) rfl dX3_goblinByWealth_16 ?_
      refine g_iconst hC (pc := 18) (v := (0 : Int32)) (by decide) dX3_goblinByWealth_18 ?_
      refine g_istore hC (pc := 19) (lv' := [(5, vI (0 : Int32)), (4, vI (0 : Int32)), (0, vQ (some t0)), (1, vI x1), (2, vI x2), (3, vI x3)]) (by decide) rfl dX3_goblinByWealth_19 ?_
      exact g_sub [2, 3, 4, 5, 1, 0] rfl (w_X3_goblinByWealth_21 hC hK hX hJ4 gFuel _ _ _ _ _ _ _ h)
def wp_X3_goblinByWealth (ad : Nat → Nat) (G : gS) (t0 : Nat) (x1 : Int32) (X : Nat → gS → Prop) (K : Int32 → gS → Prop) : Prop :=
  gLoop (fun _ _ _ _ _ => False) (wp_X3_goblinByWealth_4 ad X K) gFuel G t0 x1 (-1 : Int32) (0 : Int32)
theorem w_X3_goblinByWealth {C : gCx} (hC : gOk C "GoblinHouseholdModel" cX3_goblinByWealth [] (some .int) "goblinByWealth" 8 4 119) {K : Int32 → gS → Prop} {X : Nat → gS → Prop} (hK : ∀ r G, K r G → cxK C (some (vI r)) G) (hX : ∀ q G, X q G → cxX C q G) {G : gS} {t0 : Nat} {x1 : Int32} (h : wp_X3_goblinByWealth (cxA C) G t0 x1 X K) : gGo C G 0 [(0, vQ (some t0)), (1, vI x1)] [] := by
  unfold wp_X3_goblinByWealth at h
  refine g_iconst hC (pc := 0) (v := (-1 : Int32)) (by decide) dX3_goblinByWealth_0 ?_
  refine g_istore_n hC (pc := 1) (lv' := [(2, vI (-1 : Int32)), (0, vQ (some t0)), (1, vI x1)]) rfl (by decide) rfl dX3_goblinByWealth_1 ?_
  refine g_iconst hC (pc := 2) (v := (0 : Int32)) (by decide) dX3_goblinByWealth_2 ?_
  refine g_istore_n hC (pc := 3) (lv' := [(3, vI (0 : Int32)), (2, vI (-1 : Int32)), (0, vQ (some t0)), (1, vI x1)]) rfl (by decide) rfl dX3_goblinByWealth_3 ?_
  exact g_sub [2, 3, 1, 0] rfl (w_X3_goblinByWealth_4 hC hK hX gFuel _ _ _ _ _ h)
theorem gc_X3_goblinByWealth : gCode yX3_goblinByWealth cX3_goblinByWealth 8 (some .int) 1 := ⟨q2792, q105, ⟨by decide, by decide⟩, rfl⟩
theorem m_X3_goblinByWealth {l : Launch} (hfl : l.stackTraces = false) {E : gE} {G : gS} {t0 : Nat} {x1 : Int32} {X : Nat → gS → Prop} {K : Int32 → gS → Prop} (h : wp_X3_goblinByWealth (gAd E) G t0 x1 X K) : gMet l yX3_goblinByWealth (ws_ yX3_goblinByWealth cX3_goblinByWealth 8 (some .int)) 4 119 [vQ (some t0), vI x1] E G (gRi K) X :=
  g_met hfl (plainFor_of_name (by decide +kernel)) rfl rfl rfl (gle rfl) (fun p e R s m args below meth c hC => w_X3_goblinByWealth hC (fun _ _ h => h) (fun _ _ h => h) h)
def wp_X14_init (ad : Nat → Nat) (G : gS) (t0 : Nat) (o1 : Option Nat) (o2 : Option Nat) (X : Nat → gS → Prop) (K : gS → Prop) : Prop :=
  wPut G t0 11 0 (va_rf o1) fun G1 => wPut G1 t0 11 1 (va_rf o2) fun G2 => K G2
theorem w_X14_init {C : gCx} (hC : gOk C "GoblinHousehold$Chain" cX14_init [] none "<init>" 3 1 28) {K : gS → Prop} {X : Nat → gS → Prop} (hK : ∀ G, K G → cxK C none G) (hX : ∀ q G, X q G → cxX C q G) {G : gS} {t0 : Nat} {o1 : Option Nat} {o2 : Option Nat} (h : wp_X14_init (cxA C) G t0 o1 o2 X K) : gGo C G 0 [(0, vQ (some t0)), (1, vQ o1), (2, vQ o2)] [] := by
  unfold wp_X14_init at h
  refine g_aload_n hC (pc := 0) 0 rfl rfl dX14_init_0 ?_
  refine g_objInit hC (pc := 1) q770 q151 q152 (gle rfl) (gle rfl) (gle rfl) dX14_init_1 ?_
  refine g_aload_n hC (pc := 4) 0 rfl rfl dX14_init_4 ?_
  refine g_aload_n hC (pc := 5) 1 rfl rfl dX14_init_5 ?_
  refine g_putF hC (pc := 6) in_X14 (ci := 11) rfl 0 (by decide) tyX14_ok nmX14 q771 (Or.inl rfl) rfl rfl rfl (gnarO _ _) (gfitO _ _) h dX14_init_6 (fun G1 h => ?_)
  refine g_aload_n hC (pc := 9) 0 rfl rfl dX14_init_9 ?_
  refine g_aload_n hC (pc := 10) 2 rfl rfl dX14_init_10 ?_
  refine g_putF hC (pc := 11) in_X14 (ci := 11) rfl 1 (by decide) tyX14_ok nmX14 q772 (Or.inl rfl) rfl rfl rfl (gnarO _ _) (gfitO _ _) h dX14_init_11 (fun G2 h => ?_)
  exact g_vret hC (pc := 14) (hK _ h) dX14_init_14
theorem gc_X14_init : gCode yX14_init cX14_init 3 none 2 := ⟨q769, q138, ⟨by decide, by decide⟩, rfl⟩
theorem m_X14_init {l : Launch} (hfl : l.stackTraces = false) {E : gE} {G : gS} {t0 : Nat} {o1 : Option Nat} {o2 : Option Nat} {X : Nat → gS → Prop} {K : gS → Prop} (h : wp_X14_init (gAd E) G t0 o1 o2 X K) : gMet l yX14_init (ws_ yX14_init cX14_init 3 none) 1 28 [vQ (some t0), vQ o1, vQ o2] E G (gRv K) X :=
  g_met hfl (plainFor_of_name (by decide +kernel)) rfl rfl rfl (gle rfl) (fun p e R s m args below meth c hC => w_X14_init hC (fun _ h => h) (fun _ _ h => h) h)
def wp_X2_chainOf_62 (ad : Nat → Nat) (X : Nat → gS → Prop) (K : Option Nat → gS → Prop) (J4 : gS → Nat → Int32 → Option Nat → Int32 → Prop) (G : gS) (t0 : Nat) (x1 : Int32) (x3 : Int32) (os0 : Option Nat) : Prop :=
  J4 G t0 x1 os0 (x3 + (1 : Int32))
theorem w_X2_chainOf_62 {C : gCx} (hC : gOk C "GoblinHousehold$Household" cX2_chainOf [] (some (Jvm.ClassFile.FieldType.object "GoblinHousehold$Chain")) "chainOf" 4 3 88) {K : Option Nat → gS → Prop} {X : Nat → gS → Prop} (hK : ∀ r G, K r G → cxK C (some (vQ r)) G) (hX : ∀ q G, X q G → cxX C q G) {J4 : gS → Nat → Int32 → Option Nat → Int32 → Prop} (hJ4 : ∀ G z0 z1 z2 z3, J4 G z0 z1 z2 z3 → gGo C G 4 [(0, vQ (some z0)), (1, vI z1), (2, vQ z2), (3, vI z3)] []) {G : gS} {t0 : Nat} {x1 : Int32} {x3 : Int32} {os0 : Option Nat} (h : wp_X2_chainOf_62 (cxA C) X K J4 G t0 x1 x3 os0) : gGo C G 62 [(0, vQ (some t0)), (1, vI x1), (3, vI x3)] [vQ os0] := by
  unfold wp_X2_chainOf_62 at h
  refine g_astore_n hC (pc := 62) (lv' := [(2, vQ os0), (0, vQ (some t0)), (1, vI x1), (3, vI x3)]) rfl (by decide) rfl dX2_chainOf_62 ?_
  refine g_iinc hC (pc := 63) 3 (d := (1 : Int32)) (v := (x3 + (1 : Int32))) (lv' := [(3, vI (x3 + (1 : Int32))), (2, vQ os0), (0, vQ (some t0)), (1, vI x1)]) rfl (by decide) rfl (by decide) rfl dX2_chainOf_63 ?_
  refine g_goto hC (pc := 66) 4 (by decide) dX2_chainOf_66 ?_
  exact g_sub [2, 3, 1, 0] rfl (hJ4 _ _ _ _ _ h)
def wp_X2_chainOf_4 (ad : Nat → Nat) (X : Nat → gS → Prop) (K : Option Nat → gS → Prop) (J4 : gS → Nat → Int32 → Option Nat → Int32 → Prop) (G : gS) (t0 : Nat) (x1 : Int32) (o2 : Option Nat) (x3 : Int32) : Prop :=
  wGetQ G t0 2 3 fun q1 => wNN q1 fun c2 => (gIs G c2 3 ∧ wp_J2_size ad G c2  X (fun r4 G3 => (r4 ≤ x3 → K o2 G3) ∧ (¬ r4 ≤ x3 → wGetQ G3 t0 2 3 fun q5 => wNN q5 fun c6 => (gIs G3 c6 3 ∧ wp_J2_get ad G3 c6 x3 X (fun q8 G7 => wCast G7 q8 [10] (wNN q8 fun c9 => wGetI G7 c9 10 1 fun i10 => (¬ i10 = x1 → wp_X2_chainOf_62 ad X K J4 G7 t0 x1 x3 o2) ∧ (i10 = x1 → wNew G7 11 2 [.null, .null] fun c12 G11 => wGetQ G11 t0 2 3 fun q13 => wNN q13 fun c14 => (gIs G11 c14 3 ∧ wp_J2_get ad G11 c14 x3 X (fun q16 G15 => wCast G15 q16 [10] (wp_X14_init ad G15 c12 q16 o2 X (fun G17 => wp_X2_chainOf_62 ad X K J4 G17 t0 x1 x3 (some c12))))))))))))
theorem w_X2_chainOf_4 {C : gCx} (hC : gOk C "GoblinHousehold$Household" cX2_chainOf [] (some (Jvm.ClassFile.FieldType.object "GoblinHousehold$Chain")) "chainOf" 4 3 88) {K : Option Nat → gS → Prop} {X : Nat → gS → Prop} (hK : ∀ r G, K r G → cxK C (some (vQ r)) G) (hX : ∀ q G, X q G → cxX C q G) (n : Nat) : ∀ (G : gS) (t0 : Nat) (x1 : Int32) (o2 : Option Nat) (x3 : Int32), gLoop (fun _ _ _ _ _ => False) (wp_X2_chainOf_4 (cxA C) X K) n G t0 x1 o2 x3 → gGo C G 4 [(0, vQ (some t0)), (1, vI x1), (2, vQ o2), (3, vI x3)] [] := by
  induction n with
  | zero => intro G t0 x1 o2 x3 h; exact h.elim
  | succ n ih =>
    intro G t0 x1 o2 x3 h
    have hJ4 := ih
    replace h : wp_X2_chainOf_4 (cxA C) X K _ G t0 x1 o2 x3 := h
    unfold wp_X2_chainOf_4 at h
    refine g_iload_n hC (pc := 4) 3 rfl rfl dX2_chainOf_4 ?_
    refine g_aload_n hC (pc := 5) 0 rfl rfl dX2_chainOf_5 ?_
    refine g_getQ hC (pc := 6) in_X2 (ci := 2) rfl 3 (by decide) q194 (Or.inl rfl) h dX2_chainOf_6 (fun q1 h => ?_)
    rcases q1 with _ | c2
    · exact (gNN0 h).elim
    replace h := gNN1 h
    obtain ⟨hi, h⟩ := h
    refine g_callF hC (pc := 9) (ci := 3) (As := []) gc_J2_size (m_J2_size hC.fl h) rfl hi q359 (List.mem_of_getElem? (i := 0) rfl) rfl q323 q325 (gle rfl) (gle rfl) rfl (gle rfl) rfl dX2_chainOf_9 (gk_i fun r4 G3 h => ?_) (fun _ _ h hio => g_out0 hC (hX _ _ h) hio)
    refine g_icmp_ge hC (pc := 14) 69 h (by decide) dX2_chainOf_14 (fun h => ?_) (fun h => ?_)
    · refine g_aload_n hC (pc := 69) 2 rfl rfl dX2_chainOf_69 ?_
      exact g_aret hC (pc := 70) (Or.inl ⟨_, rfl⟩) (hK _ _ h) dX2_chainOf_70
    · refine g_aload_n hC (pc := 17) 0 rfl rfl dX2_chainOf_17 ?_
      refine g_getQ hC (pc := 18) in_X2 (ci := 2) rfl 3 (by decide) q194 (Or.inl rfl) h dX2_chainOf_18 (fun q5 h => ?_)
      refine g_iload_n hC (pc := 21) 3 rfl rfl dX2_chainOf_21 ?_
      rcases q5 with _ | c6
      · exact (gNN0 h).elim
      replace h := gNN1 h
      obtain ⟨hi, h⟩ := h
      refine g_callF hC (pc := 22) (ci := 3) (As := [vI x3]) gc_J2_get (m_J2_get hC.fl h) rfl hi q361 (List.mem_of_getElem? (i := 2) rfl) rfl q364 q366 (gle rfl) (gle rfl) rfl (gle rfl) rfl dX2_chainOf_22 (gk_q fun q8 G7 h => ?_) (fun _ _ h hio => g_out0 hC (hX _ _ h) hio)
      refine g_cast hC (pc := 27) q764 h (List.forall_mem_cons.mpr ⟨⟨_, rfl, Or.inr ⟨rfl, by decide⟩⟩, fun _ h => nomatch h⟩) dX2_chainOf_27 (fun h => ?_)
      rcases q8 with _ | c9
      · exact (gNN0 h).elim
      replace h := gNN1 h
      refine g_getIN hC (pc := 30) in_X10 (ci := 10) rfl 1 (by decide) (List.mem_of_getElem? (i := 20) rfl) (Or.inl rfl) h dX2_chainOf_30 (fun i10 h => ?_)
      refine g_iload_n hC (pc := 33) 1 rfl rfl dX2_chainOf_33 ?_
      refine g_icmp_ne hC (pc := 34) 61 h (by decide) dX2_chainOf_34 (fun h => ?_) (fun h => ?_)
      · refine g_aload_n hC (pc := 61) 2 rfl rfl dX2_chainOf_61 ?_
        exact g_sub [0, 1, 3] rfl (w_X2_chainOf_62 hC hK hX hJ4 h)
      · refine g_new hC (pc := 37) in_X14 (ci := 11) rfl (by decide) tyX14_ok q765 q766 q138 gdf_X14 h dX2_chainOf_37 (fun c12 G11 h => ?_)
        refine g_dup hC (pc := 40) rfl dX2_chainOf_40 ?_
        refine g_aload_n hC (pc := 41) 0 rfl rfl dX2_chainOf_41 ?_
        refine g_getQ hC (pc := 42) in_X2 (ci := 2) rfl 3 (by decide) q194 (Or.inl rfl) h dX2_chainOf_42 (fun q13 h => ?_)
        refine g_iload_n hC (pc := 45) 3 rfl rfl dX2_chainOf_45 ?_
        rcases q13 with _ | c14
        · exact (gNN0 h).elim
        replace h := gNN1 h
        obtain ⟨hi, h⟩ := h
        refine g_callF hC (pc := 46) (ci := 3) (As := [vI x3]) gc_J2_get (m_J2_get hC.fl h) rfl hi q361 (List.mem_of_getElem? (i := 2) rfl) rfl q364 q366 (gle rfl) (gle rfl) rfl (gle rfl) rfl dX2_chainOf_46 (gk_q fun q16 G15 h => ?_) (fun _ _ h hio => g_out0 hC (hX _ _ h) hio)
        refine g_cast hC (pc := 51) q764 h (List.forall_mem_cons.mpr ⟨⟨_, rfl, Or.inr ⟨rfl, by decide⟩⟩, fun _ h => nomatch h⟩) dX2_chainOf_51 (fun h => ?_)
        refine g_aload_n hC (pc := 54) 2 rfl rfl dX2_chainOf_54 ?_
        refine g_callI hC (pc := 55) (As := [vQ q16, vQ o2]) gc_X14_init (m_X14_init hC.fl h) rfl q767 q768 (gle rfl) (gle rfl) rfl (gle rfl) rfl dX2_chainOf_55 (gk_v fun G17 h => ?_) (fun _ _ h hio => g_out0 hC (hX _ _ h) hio)
        refine g_goto hC (pc := 58) 62 (by decide) dX2_chainOf_58 ?_
        exact g_sub [0, 1, 3] rfl (w_X2_chainOf_62 hC hK hX hJ4 h)
def wp_X2_chainOf (ad : Nat → Nat) (G : gS) (t0 : Nat) (x1 : Int32) (X : Nat → gS → Prop) (K : Option Nat → gS → Prop) : Prop :=
  gLoop (fun _ _ _ _ _ => False) (wp_X2_chainOf_4 ad X K) gFuel G t0 x1 none (0 : Int32)
theorem w_X2_chainOf {C : gCx} (hC : gOk C "GoblinHousehold$Household" cX2_chainOf [] (some (Jvm.ClassFile.FieldType.object "GoblinHousehold$Chain")) "chainOf" 4 3 88) {K : Option Nat → gS → Prop} {X : Nat → gS → Prop} (hK : ∀ r G, K r G → cxK C (some (vQ r)) G) (hX : ∀ q G, X q G → cxX C q G) {G : gS} {t0 : Nat} {x1 : Int32} (h : wp_X2_chainOf (cxA C) G t0 x1 X K) : gGo C G 0 [(0, vQ (some t0)), (1, vI x1)] [] := by
  unfold wp_X2_chainOf at h
  refine g_null hC (pc := 0) dX2_chainOf_0 ?_
  refine g_astore_n hC (pc := 1) (lv' := [(2, vQ none), (0, vQ (some t0)), (1, vI x1)]) rfl (by decide) rfl dX2_chainOf_1 ?_
  refine g_iconst hC (pc := 2) (v := (0 : Int32)) (by decide) dX2_chainOf_2 ?_
  refine g_istore_n hC (pc := 3) (lv' := [(3, vI (0 : Int32)), (2, vQ none), (0, vQ (some t0)), (1, vI x1)]) rfl (by decide) rfl dX2_chainOf_3 ?_
  exact g_sub [2, 3, 1, 0] rfl (w_X2_chainOf_4 hC hK hX gFuel _ _ _ _ _ h)
theorem gc_X2_chainOf : gCode yX2_chainOf cX2_chainOf 4 (some (Jvm.ClassFile.FieldType.object "GoblinHousehold$Chain")) 1 := ⟨q763, q95, ⟨by decide, by decide⟩, rfl⟩
theorem m_X2_chainOf {l : Launch} (hfl : l.stackTraces = false) {E : gE} {G : gS} {t0 : Nat} {x1 : Int32} {X : Nat → gS → Prop} {K : Option Nat → gS → Prop} (h : wp_X2_chainOf (gAd E) G t0 x1 X K) : gMet l yX2_chainOf (ws_ yX2_chainOf cX2_chainOf 4 (some (Jvm.ClassFile.FieldType.object "GoblinHousehold$Chain"))) 3 88 [vQ (some t0), vI x1] E G (gRq K) X :=
  g_met hfl (plainFor_of_name (by decide +kernel)) rfl rfl rfl (gle rfl) (fun p e R s m args below meth c hC => w_X2_chainOf hC (fun _ _ h => h) (fun _ _ h => h) h)
theorem gc_X14_best : gCode yX14_best cX14_best 2 (some .int) 2 := ⟨q795, q138, ⟨by decide, by decide⟩, rfl⟩
theorem gc_X14_best_2 : gCode yX14_best_2 cX14_best_2 4 (some .int) 1 := ⟨q799, q138, ⟨by decide, by decide⟩, rfl⟩
def wp_X14_best_2_25 (ad : Nat → Nat) (Rb : gS → Option Nat → Int32 → (Nat → gS → Prop) → (Int32 → gS → Prop) → Prop) (X : Nat → gS → Prop) (K : Int32 → gS → Prop) (G : gS) (t0 : Nat) (x1 : Int32) (x2 : Int32) (xs0 : Int32) : Prop :=
  (xs0 = (0 : Int32) → K x2 G) ∧ (¬ xs0 = (0 : Int32) → wGetQ G t0 11 0 fun q1 => wNN q1 fun c2 => wGetI G c2 10 3 fun i3 => wGetQ G t0 11 1 fun q4 => wGetQ G t0 11 0 fun q5 => wNN q5 fun c6 => wGetI G c6 10 4 fun i7 => Rb G q4 (x1 - i7) X (fun r9 G8 => K (if x2 < (i3 + r9) then (i3 + r9) else x2) G8))
theorem w_X14_best_2_25 {F0 L0 Fb Lb : Nat} {C : gCx} (hC : gOk C "GoblinHousehold$Chain" cX14_best_2 [] (some .int) "best" 4 F0 L0) {Rb : gS → Option Nat → Int32 → (Nat → gS → Prop) → (Int32 → gS → Prop) → Prop} (hRb : ∀ G o x X K, Rb G o x X K → gMet (cxL C) yX14_best (ws_ yX14_best cX14_best 2 (some .int)) Fb Lb [vQ o, vI x] (cxE C) G (gRi K) X) (hF0 : Fb + 1 ≤ F0) (hL0 : 29 + Lb ≤ L0) {K : Int32 → gS → Prop} {X : Nat → gS → Prop} (hK : ∀ r G, K r G → cxK C (some (vI r)) G) (hX : ∀ q G, X q G → cxX C q G) {G : gS} {t0 : Nat} {x1 : Int32} {x2 : Int32} {xs0 : Int32} (h : wp_X14_best_2_25 (cxA C) Rb X K G t0 x1 x2 xs0) : gGo C G 25 [(0, vQ (some t0)), (1, vI x1), (2, vI x2)] [vI xs0] := by
  unfold wp_X14_best_2_25 at h
  refine g_istore_n hC (pc := 25) (lv' := [(3, vI xs0), (0, vQ (some t0)), (1, vI x1), (2, vI x2)]) rfl (by decide) rfl dX14_best_2_25 ?_
  refine g_iload_n hC (pc := 26) 0 rfl rfl dX14_best_2_26 ?_
  refine g_if_eq hC (pc := 27) 61 h (by decide) dX14_best_2_27 (fun h => ?_) (fun h => ?_)
  · refine g_iload_n hC (pc := 61) 3 rfl rfl dX14_best_2_61 ?_
    exact g_iret hC (pc := 62) (hK _ _ h) dX14_best_2_62
  · refine g_iload_n hC (pc := 30) 3 rfl rfl dX14_best_2_30 ?_
    refine g_aload_n hC (pc := 31) 1 rfl rfl dX14_best_2_31 ?_
    refine g_getQ hC (pc := 32) in_X14 (ci := 11) rfl 0 (by decide) q771 (Or.inl rfl) h dX14_best_2_32 (fun q1 h => ?_)
    rcases q1 with _ | c2
    · exact (gNN0 h).elim
    replace h := gNN1 h
    refine g_getIN hC (pc := 35) in_X10 (ci := 10) rfl 3 (by decide) (List.mem_of_getElem? (i := 24) rfl) (Or.inl rfl) h dX14_best_2_35 (fun i3 h => ?_)
    refine g_aload_n hC (pc := 38) 1 rfl rfl dX14_best_2_38 ?_
    refine g_getQ hC (pc := 39) in_X14 (ci := 11) rfl 1 (by decide) q772 (Or.inl rfl) h dX14_best_2_39 (fun q4 h => ?_)
    refine g_iload_n hC (pc := 42) 2 rfl rfl dX14_best_2_42 ?_
    refine g_aload_n hC (pc := 43) 1 rfl rfl dX14_best_2_43 ?_
    refine g_getQ hC (pc := 44) in_X14 (ci := 11) rfl 0 (by decide) q771 (Or.inl rfl) h dX14_best_2_44 (fun q5 h => ?_)
    rcases q5 with _ | c6
    · exact (gNN0 h).elim
    replace h := gNN1 h
    refine g_getIN hC (pc := 47) in_X10 (ci := 10) rfl 4 (by decide) (List.mem_of_getElem? (i := 27) rfl) (Or.inl rfl) h dX14_best_2_47 (fun i7 h => ?_)
    refine g_isub hC (pc := 50) dX14_best_2_50 ?_
    refine g_callS hC (pc := 51) (b := 0) (As := [vQ q4, vI (x1 - i7)]) gc_X14_best (hRb _ _ _ _ _ h) q800 q794 (by omega) (by omega) rfl (gle rfl) rfl dX14_best_2_51 (gk_i fun r9 G8 h => ?_) (fun _ _ h hio => g_out0 hC (hX _ _ h) hio)
    refine g_iadd hC (pc := 54) dX14_best_2_54 ?_
    refine g_max hC (pc := 55) q801 q471 q114 q472 (by omega) (by omega) (gle rfl) dX14_best_2_55 ?_
    refine g_goto hC (pc := 58) 62 (by decide) dX14_best_2_58 ?_
    exact g_iret hC (pc := 62) (hK _ _ h) dX14_best_2_62
def wp_X14_best_2 (ad : Nat → Nat) (Rb : gS → Option Nat → Int32 → (Nat → gS → Prop) → (Int32 → gS → Prop) → Prop) (G : gS) (t0 : Nat) (x1 : Int32) (X : Nat → gS → Prop) (K : Int32 → gS → Prop) : Prop :=
  wGetQ G t0 11 1 fun q1 => Rb G q1 x1 X (fun r3 G2 => wGetQ G2 t0 11 0 fun q4 => wNN q4 fun c5 => wGetI G2 c5 10 4 fun i6 => (x1 < i6 → wp_X14_best_2_25 ad Rb X K G2 t0 x1 r3 (0 : Int32)) ∧ (¬ x1 < i6 → wp_X14_best_2_25 ad Rb X K G2 t0 x1 r3 (1 : Int32)))
theorem w_X14_best_2 {F0 L0 Fb Lb : Nat} {C : gCx} (hC : gOk C "GoblinHousehold$Chain" cX14_best_2 [] (some .int) "best" 4 F0 L0) {Rb : gS → Option Nat → Int32 → (Nat → gS → Prop) → (Int32 → gS → Prop) → Prop} (hRb : ∀ G o x X K, Rb G o x X K → gMet (cxL C) yX14_best (ws_ yX14_best cX14_best 2 (some .int)) Fb Lb [vQ o, vI x] (cxE C) G (gRi K) X) (hF0 : Fb + 1 ≤ F0) (hL0 : 29 + Lb ≤ L0) {K : Int32 → gS → Prop} {X : Nat → gS → Prop} (hK : ∀ r G, K r G → cxK C (some (vI r)) G) (hX : ∀ q G, X q G → cxX C q G) {G : gS} {t0 : Nat} {x1 : Int32} (h : wp_X14_best_2 (cxA C) Rb G t0 x1 X K) : gGo C G 0 [(0, vQ (some t0)), (1, vI x1)] [] := by
  unfold wp_X14_best_2 at h
  refine g_aload_n hC (pc := 0) 0 rfl rfl dX14_best_2_0 ?_
  refine g_getQ hC (pc := 1) in_X14 (ci := 11) rfl 1 (by decide) q772 (Or.inl rfl) h dX14_best_2_1 (fun q1 h => ?_)
  refine g_iload_n hC (pc := 4) 1 rfl rfl dX14_best_2_4 ?_
  refine g_callS hC (pc := 5) (b := 0) (As := [vQ q1, vI x1]) gc_X14_best (hRb _ _ _ _ _ h) q800 q794 (by omega) (by omega) rfl (gle rfl) rfl dX14_best_2_5 (gk_i fun r3 G2 h => ?_) (fun _ _ h hio => g_out0 hC (hX _ _ h) hio)
  refine g_istore_n hC (pc := 8) (lv' := [(2, vI r3), (0, vQ (some t0)), (1, vI x1)]) rfl (by decide) rfl dX14_best_2_8 ?_
  refine g_aload_n hC (pc := 9) 1 rfl rfl dX14_best_2_9 ?_
  refine g_getQ hC (pc := 10) in_X14 (ci := 11) rfl 0 (by decide) q771 (Or.inl rfl) h dX14_best_2_10 (fun q4 h => ?_)
  rcases q4 with _ | c5
  · exact (gNN0 h).elim
  replace h := gNN1 h
  refine g_getIN hC (pc := 13) in_X10 (ci := 10) rfl 4 (by decide) (List.mem_of_getElem? (i := 27) rfl) (Or.inl rfl) h dX14_best_2_13 (fun i6 h => ?_)
  refine g_iload_n hC (pc := 16) 2 rfl rfl dX14_best_2_16 ?_
  refine g_icmp_gt hC (pc := 17) 24 h (by decide) dX14_best_2_17 (fun h => ?_) (fun h => ?_)
  · refine g_iconst hC (pc := 24) (v := (0 : Int32)) (by decide) dX14_best_2_24 ?_
    exact g_sub [1, 2, 0] rfl (w_X14_best_2_25 hC hRb hF0 hL0 hK hX h)
  · refine g_iconst hC (pc := 20) (v := (1 : Int32)) (by decide) dX14_best_2_20 ?_
    refine g_goto hC (pc := 21) 25 (by decide) dX14_best_2_21 ?_
    exact g_sub [1, 2, 0] rfl (w_X14_best_2_25 hC hRb hF0 hL0 hK hX h)
def wp_X14_bestB (ad : Nat → Nat) (Rc : gS → Nat → Int32 → (Nat → gS → Prop) → (Int32 → gS → Prop) → Prop) (G : gS) (o0 : Option Nat) (x1 : Int32) (X : Nat → gS → Prop) (K : Int32 → gS → Prop) : Prop :=
  (o0 = none → K (0 : Int32) G) ∧ (∀ c1, o0 = some c1 → (gIs G c1 11 ∧ Rc G c1 x1 X (fun r3 G2 => K r3 G2)))
theorem w_X14_bestB {F0 L0 Fb Lb : Nat} {C : gCx} (hC : gOk C "GoblinHousehold$Chain" cX14_best [] (some .int) "best" 2 F0 L0) {Rc : gS → Nat → Int32 → (Nat → gS → Prop) → (Int32 → gS → Prop) → Prop} (hRc : ∀ G o x X K, Rc G o x X K → gMet (cxL C) yX14_best_2 (ws_ yX14_best_2 cX14_best_2 4 (some .int)) Fb Lb [vQ (some o), vI x] (cxE C) G (gRi K) X) (hF0 : Fb + 1 ≤ F0) (hL0 : 31 + Lb ≤ L0) {K : Int32 → gS → Prop} {X : Nat → gS → Prop} (hK : ∀ r G, K r G → cxK C (some (vI r)) G) (hX : ∀ q G, X q G → cxX C q G) {G : gS} {o0 : Option Nat} {x1 : Int32} (h : wp_X14_bestB (cxA C) Rc G o0 x1 X K) : gGo C G 0 [(0, vQ o0), (1, vI x1)] [] := by
  unfold wp_X14_bestB at h
  refine g_aload_n hC (pc := 0) 0 rfl rfl dX14_best_0 ?_
  have hn := h; clear h
  refine g_ifnonnull hC (pc := 1) 8 (P := ¬ o0 = none) (Q := _) ⟨id, hn.1⟩ (by decide) dX14_best_1 (fun e0 => ?_) (fun h => ?_)
  · rcases o0 with _ | c1
    · exact absurd rfl e0
    have h := hn.2 _ rfl
    refine g_aload_n hC (pc := 8) 0 rfl rfl dX14_best_8 ?_
    refine g_iload_n hC (pc := 9) 1 rfl rfl dX14_best_9 ?_
    obtain ⟨hi, h⟩ := h
    refine g_callV hC (pc := 10) (ci := 11) (As := [vI x1]) gc_X14_best_2 (hRc _ _ _ _ _ h) rfl hi q796 q797 q798 (by omega) (by omega) rfl (gle rfl) rfl dX14_best_10 (gk_i fun r3 G2 h => ?_) (fun _ _ h hio => g_out0 hC (hX _ _ h) hio)
    exact g_iret hC (pc := 13) (hK _ _ h) dX14_best_13
  · refine g_iconst hC (pc := 4) (v := (0 : Int32)) (by decide) dX14_best_4 ?_
    refine g_goto hC (pc := 5) 13 (by decide) dX14_best_5 ?_
    exact g_iret hC (pc := 13) (hK _ _ h) dX14_best_13
def wp_X14_rec (ad : Nat → Nat) : Nat → gS → Option Nat → Int32 → (Nat → gS → Prop) → (Int32 → gS → Prop) → Prop
  | 0 => fun _ _ _ _ _ => False
  | n + 1 => wp_X14_bestB ad (wp_X14_best_2 ad (wp_X14_rec ad n))
theorem m_X14_rec {l : Launch} (hfl : l.stackTraces = false) {E : gE} (n : Nat) : ∀ (G : gS) (o : Option Nat) (x : Int32) (X : Nat → gS → Prop) (K : Int32 → gS → Prop), wp_X14_rec (gAd E) n G o x X K → gMet l yX14_best (ws_ yX14_best cX14_best 2 (some .int)) (2 * n) (60 * n) [vQ o, vI x] E G (gRi K) X := by
  induction n with
  | zero => intro G o x X K h; exact h.elim
  | succ n ih =>
    intro G o x X K h
    refine g_met hfl (plainFor_of_name (by decide +kernel)) rfl rfl rfl (gle rfl) (fun p e R s m args below meth c hC => w_X14_bestB (Fb := 2 * n + 1) (Lb := 60 * n + 29) hC (fun G2 o2 x2 X2 K2 h2 => ?_) (by omega) (by omega) (fun _ _ h => h) (fun _ _ h => h) h)
    refine g_met hfl (plainFor_of_name (by decide +kernel)) rfl rfl rfl (gle rfl) (fun p e R s m args below meth c hC2 => w_X14_best_2 (Fb := 2 * n) (Lb := 60 * n) hC2 (fun G3 o3 x3 X3 K3 h3 => ?_) (by omega) (by omega) (fun _ _ h => h) (fun _ _ h => h) h2)
    exact ih G3 o3 x3 X3 K3 h3
def wp_X14_best (ad : Nat → Nat) (G : gS) (o0 : Option Nat) (x1 : Int32) (X : Nat → gS → Prop) (K : Int32 → gS → Prop) : Prop := wp_X14_rec ad 9 G o0 x1 X K
theorem m_X14_best {l : Launch} (hfl : l.stackTraces = false) {E : gE} {G : gS} {o0 : Option Nat} {x1 : Int32} {X : Nat → gS → Prop} {K : Int32 → gS → Prop} (h : wp_X14_best (gAd E) G o0 x1 X K) : gMet l yX14_best (ws_ yX14_best cX14_best 2 (some .int)) 18 540 [vQ o0, vI x1] E G (gRi K) X := m_X14_rec hfl 9 G o0 x1 X K h
def wp_X2_bestWages (ad : Nat → Nat) (G : gS) (t0 : Nat) (x1 : Int32) (X : Nat → gS → Prop) (K : Int32 → gS → Prop) : Prop :=
  (gIs G t0 2 ∧ wp_X2_chainOf ad G t0 x1 X (fun q2 G1 => wGetQ G1 t0 2 2 fun q3 => wNN q3 fun c4 => (gIs G1 c4 3 ∧ wp_J2_get ad G1 c4 x1 X (fun q6 G5 => wCast G5 q6 [9] ((gIs G5 t0 2 ∧ wp_X2_energy ad G5 t0 q6 X (fun r8 G7 => wp_X14_best ad G7 q2 r8 X (fun r10 G9 => K r10 G9))))))))
theorem w_X2_bestWages {C : gCx} (hC : gOk C "GoblinHousehold$Household" cX2_bestWages [] (some .int) "bestWages" 2 19 569) {K : Int32 → gS → Prop} {X : Nat → gS → Prop} (hK : ∀ r G, K r G → cxK C (some (vI r)) G) (hX : ∀ q G, X q G → cxX C q G) {G : gS} {t0 : Nat} {x1 : Int32} (h : wp_X2_bestWages (cxA C) G t0 x1 X K) : gGo C G 0 [(0, vQ (some t0)), (1, vI x1)] [] := by
  unfold wp_X2_bestWages at h
  refine g_aload_n hC (pc := 0) 0 rfl rfl dX2_bestWages_0 ?_
  refine g_iload_n hC (pc := 1) 1 rfl rfl dX2_bestWages_1 ?_
  obtain ⟨hi, h⟩ := h
  refine g_callV hC (pc := 2) (ci := 2) (As := [vI x1]) gc_X2_chainOf (m_X2_chainOf hC.fl h) rfl hi q760 q762 qs4 (gle rfl) (gle rfl) rfl (gle rfl) rfl dX2_bestWages_2 (gk_q fun q2 G1 h => ?_) (fun _ _ h hio => g_out0 hC (hX _ _ h) hio)
  refine g_aload_n hC (pc := 5) 0 rfl rfl dX2_bestWages_5 ?_
  refine g_aload_n hC (pc := 6) 0 rfl rfl dX2_bestWages_6 ?_
  refine g_getQ hC (pc := 7) in_X2 (ci := 2) rfl 2 (by decide) q192 (Or.inl rfl) h dX2_bestWages_7 (fun q3 h => ?_)
  refine g_iload_n hC (pc := 10) 1 rfl rfl dX2_bestWages_10 ?_
  rcases q3 with _ | c4
  · exact (gNN0 h).elim
  replace h := gNN1 h
  obtain ⟨hi, h⟩ := h
  refine g_callF hC (pc := 11) (ci := 3) (As := [vI x1]) gc_J2_get (m_J2_get hC.fl h) rfl hi q361 (List.mem_of_getElem? (i := 2) rfl) rfl q364 q366 (gle rfl) (gle rfl) rfl (gle rfl) rfl dX2_bestWages_11 (gk_q fun q6 G5 h => ?_) (fun _ _ h hio => g_out0 hC (hX _ _ h) hio)
  refine g_cast hC (pc := 16) q706 h (List.forall_mem_cons.mpr ⟨⟨_, rfl, Or.inr ⟨rfl, by decide⟩⟩, fun _ h => nomatch h⟩) dX2_bestWages_16 (fun h => ?_)
  obtain ⟨hi, h⟩ := h
  refine g_callV hC (pc := 19) (ci := 2) (As := [vQ q6]) gc_X2_energy (m_X2_energy hC.fl h) rfl hi q778 q779 q780 (gle rfl) (gle rfl) rfl (gle rfl) rfl dX2_bestWages_19 (gk_i fun r8 G7 h => ?_) (fun _ _ h hio => g_out0 hC (hX _ _ h) hio)
  refine g_callSN hC (pc := 22) (b := 0) (As := [vQ q2, vI r8]) gc_X14_best (m_X14_best hC.fl h) (List.mem_of_getElem? (i := 1) rfl) q794 (gle rfl) (gle rfl) rfl (gle rfl) rfl dX2_bestWages_22 (gk_i fun r10 G9 h => ?_) (fun _ _ h hio => g_out0 hC (hX _ _ h) hio)
  exact g_iret hC (pc := 25) (hK _ _ h) dX2_bestWages_25
theorem gc_X2_bestWages : gCode yX2_bestWages cX2_bestWages 2 (some .int) 1 := ⟨q759, q95, ⟨by decide, by decide⟩, rfl⟩
theorem m_X2_bestWages {l : Launch} (hfl : l.stackTraces = false) {E : gE} {G : gS} {t0 : Nat} {x1 : Int32} {X : Nat → gS → Prop} {K : Int32 → gS → Prop} (h : wp_X2_bestWages (gAd E) G t0 x1 X K) : gMet l yX2_bestWages (ws_ yX2_bestWages cX2_bestWages 2 (some .int)) 19 569 [vQ (some t0), vI x1] E G (gRi K) X :=
  g_met hfl (plainFor_of_name (by decide +kernel)) rfl rfl rfl (gle rfl) (fun p e R s m args below meth c hC => w_X2_bestWages hC (fun _ _ h => h) (fun _ _ h => h) h)
def wp_X1_bestWages (ad : Nat → Nat) (G : gS) (t0 : Nat) (x1 : Int32) (X : Nat → gS → Prop) (K : Int32 → gS → Prop) : Prop :=
  wGetQ G t0 1 0 fun q1 => wNN q1 fun c2 => (gIs G c2 2 ∧ wp_X2_isGoblin ad G c2 x1 X (fun r4 G3 => wp_X1_checkIndex ad G3 r4 X (fun G5 => wGetQ G5 t0 1 0 fun q6 => wNN q6 fun c7 => (gIs G5 c7 2 ∧ wp_X2_bestWages ad G5 c7 x1 X (fun r9 G8 => K r9 G8)))))
theorem w_X1_bestWages {C : gCx} (hC : gOk C "GoblinHousehold" cX1_bestWages [] (some .int) "bestWages" 2 20 598) {K : Int32 → gS → Prop} {X : Nat → gS → Prop} (hK : ∀ r G, K r G → cxK C (some (vI r)) G) (hX : ∀ q G, X q G → cxX C q G) {G : gS} {t0 : Nat} {x1 : Int32} (h : wp_X1_bestWages (cxA C) G t0 x1 X K) : gGo C G 0 [(0, vQ (some t0)), (1, vI x1)] [] := by
  unfold wp_X1_bestWages at h
  refine g_aload_n hC (pc := 0) 0 rfl rfl dX1_bestWages_0 ?_
  refine g_getQ hC (pc := 1) in_X1 (ci := 1) rfl 0 (by decide) q292 (Or.inl rfl) h dX1_bestWages_1 (fun q1 h => ?_)
  refine g_iload_n hC (pc := 4) 1 rfl rfl dX1_bestWages_4 ?_
  rcases q1 with _ | c2
  · exact (gNN0 h).elim
  replace h := gNN1 h
  obtain ⟨hi, h⟩ := h
  refine g_callV hC (pc := 5) (ci := 2) (As := [vI x1]) gc_X2_isGoblin (m_X2_isGoblin hC.fl h) rfl hi q1770 q1378 q1379 (gle rfl) (gle rfl) rfl (gle rfl) rfl dX1_bestWages_5 (gk_i fun r4 G3 h => ?_) (fun _ _ h hio => g_out0 hC (hX _ _ h) hio)
  refine g_callS hC (pc := 8) (b := 0) (As := [vI r4]) gc_X1_checkIndex (m_X1_checkIndex hC.fl h) q1714 q1715 (gle rfl) (gle rfl) rfl (gle rfl) rfl dX1_bestWages_8 (gk_v fun G5 h => ?_) (fun _ _ h hio => g_out0 hC (hX _ _ h) hio)
  refine g_aload_n hC (pc := 11) 0 rfl rfl dX1_bestWages_11 ?_
  refine g_getQ hC (pc := 12) in_X1 (ci := 1) rfl 0 (by decide) q292 (Or.inl rfl) h dX1_bestWages_12 (fun q6 h => ?_)
  refine g_iload_n hC (pc := 15) 1 rfl rfl dX1_bestWages_15 ?_
  rcases q6 with _ | c7
  · exact (gNN0 h).elim
  replace h := gNN1 h
  obtain ⟨hi, h⟩ := h
  refine g_callV hC (pc := 16) (ci := 2) (As := [vI x1]) gc_X2_bestWages (m_X2_bestWages hC.fl h) rfl hi q1838 q757 q758 (gle rfl) (gle rfl) rfl (gle rfl) rfl dX1_bestWages_16 (gk_i fun r9 G8 h => ?_) (fun _ _ h hio => g_out0 hC (hX _ _ h) hio)
  exact g_iret hC (pc := 19) (hK _ _ h) dX1_bestWages_19
theorem gc_X1_bestWages : gCode yX1_bestWages cX1_bestWages 2 (some .int) 1 := ⟨q1837, q94, ⟨by decide, by decide⟩, rfl⟩
theorem m_X1_bestWages {l : Launch} (hfl : l.stackTraces = false) {E : gE} {G : gS} {t0 : Nat} {x1 : Int32} {X : Nat → gS → Prop} {K : Int32 → gS → Prop} (h : wp_X1_bestWages (gAd E) G t0 x1 X K) : gMet l yX1_bestWages (ws_ yX1_bestWages cX1_bestWages 2 (some .int)) 20 598 [vQ (some t0), vI x1] E G (gRi K) X :=
  g_met hfl (plainFor_of_name (by decide +kernel)) rfl rfl rfl (gle rfl) (fun p e R s m args below meth c hC => w_X1_bestWages hC (fun _ _ h => h) (fun _ _ h => h) h)
def wp_X0_bestWages_12 (ad : Nat → Nat) (X : Nat → gS → Prop) (K : Int32 → gS → Prop) (G : gS) (ts0 : Nat) : Prop :=
  K (1 : Int32) G
theorem w_X0_bestWages_12 {C : gCx} (hC : gOk C "GoblinHouseholdLaw" cX0_bestWages [(0, 9, 12, 23)] (some .int) "bestWages" 4 21 627) {K : Int32 → gS → Prop} {X : Nat → gS → Prop} (hK : ∀ r G, K r G → cxK C (some (vI r)) G) (hX : ∀ q G, X q G → cxX C q G) {G : gS} {ts0 : Nat} (h : wp_X0_bestWages_12 (cxA C) X K G ts0) : gGo C G 12 [] [vQ (some ts0)] := by
  unfold wp_X0_bestWages_12 at h
  refine g_astore_n hC (pc := 12) (lv' := [(3, vQ (some ts0))]) rfl (by decide) rfl dX0_bestWages_12 ?_
  refine g_iconst hC (pc := 13) (v := (1 : Int32)) (by decide) dX0_bestWages_13 ?_
  exact g_iret hC (pc := 14) (hK _ _ h) dX0_bestWages_14
def wp_X0_bestWages (ad : Nat → Nat) (G : gS) (o0 : Option Nat) (x1 : Int32) (o2 : Option Nat) (X : Nat → gS → Prop) (K : Int32 → gS → Prop) : Prop :=
  wNN o0 fun c1 => (gIs G c1 1 ∧ wp_X1_bestWages ad G c1 x1 (fun y3 G4 => (gHas G4 y3 20 ∧ (wp_X0_bestWages_12 ad X K G4 y3))) (fun r5 G2 => wNN o2 fun c6 => wAstL G2 c6 (0 : Int32) ((r5).toInt64) fun G7 => K (0 : Int32) G7))
theorem w_X0_bestWages {C : gCx} (hC : gOk C "GoblinHouseholdLaw" cX0_bestWages [(0, 9, 12, 23)] (some .int) "bestWages" 4 21 627) {K : Int32 → gS → Prop} {X : Nat → gS → Prop} (hK : ∀ r G, K r G → cxK C (some (vI r)) G) (hX : ∀ q G, X q G → cxX C q G) {G : gS} {o0 : Option Nat} {x1 : Int32} {o2 : Option Nat} (h : wp_X0_bestWages (cxA C) G o0 x1 o2 X K) : gGo C G 0 [(0, vQ o0), (1, vI x1), (2, vQ o2)] [] := by
  unfold wp_X0_bestWages at h
  refine g_aload_n hC (pc := 0) 2 rfl rfl dX0_bestWages_0 ?_
  refine g_iconst hC (pc := 1) (v := (0 : Int32)) (by decide) dX0_bestWages_1 ?_
  refine g_aload_n hC (pc := 2) 0 rfl rfl dX0_bestWages_2 ?_
  refine g_iload_n hC (pc := 3) 1 rfl rfl dX0_bestWages_3 ?_
  rcases o0 with _ | c1
  · exact (gNN0 h).elim
  replace h := gNN1 h
  obtain ⟨hi, h⟩ := h
  refine g_callV hC (pc := 4) (ci := 1) (As := [vI x1]) gc_X1_bestWages (m_X1_bestWages hC.fl h) rfl hi q1834 q1835 q1836 (gle rfl) (gle rfl) rfl (gle rfl) rfl dX0_bestWages_4 (gk_i fun r5 G2 h => ?_) (fun y3 G4 h hio => ?_)
  · refine g_i2l hC (pc := 7) dX0_bestWages_7 ?_
    rcases o2 with _ | c6
    · exact (gNN0 h).elim
    replace h := gNN1 h
    refine g_astL hC (pc := 8) h dX0_bestWages_8 (fun G7 h => ?_)
    refine g_goto hC (pc := 9) 15 (by decide) dX0_bestWages_9 ?_
    refine g_iconst hC (pc := 15) (v := (0 : Int32)) (by decide) dX0_bestWages_15 ?_
    exact g_iret hC (pc := 16) (hK _ _ h) dX0_bestWages_16
  · obtain ⟨hq, h⟩ := h
    refine g_catchI hC (pc := 4) (ci := 20) rfl hq 0 rfl (fun _ h => nomatch h) rfl (by decide) q1312 (List.mem_of_getElem? (i := 2) rfl) rfl ?_
    exact g_sub [] rfl (w_X0_bestWages_12 hC hK hX h)
theorem gc_X0_bestWages : gCodeW yX0_bestWages cX0_bestWages 4 (some .int) [(0, 9, 12, 23)] 3 := ⟨q1833, q93, ⟨by decide, by decide⟩, rfl⟩
theorem m_X0_bestWages {l : Launch} (hfl : l.stackTraces = false) {E : gE} {G : gS} {o0 : Option Nat} {x1 : Int32} {o2 : Option Nat} {X : Nat → gS → Prop} {K : Int32 → gS → Prop} (h : wp_X0_bestWages (gAd E) G o0 x1 o2 X K) : gMet l yX0_bestWages (wsW_ yX0_bestWages cX0_bestWages 4 (some .int) [(0, 9, 12, 23)]) 21 627 [vQ o0, vI x1, vQ o2] E G (gRi K) X :=
  g_metW hfl (plainFor_of_name (by decide +kernel)) rfl rfl rfl (gle rfl) (fun p e R s m args below meth c hC => w_X0_bestWages hC (fun _ _ h => h) (fun _ _ h => h) h)
def wp_X3_bestOf_121 (ad : Nat → Nat) (X : Nat → gS → Prop) (K : Int32 → gS → Prop) (J42 : gS → Nat → Int32 → Int32 → Int32 → Prop) (G : gS) (t0 : Nat) (x1 : Int32) (x2 : Int32) (x3 : Int32) : Prop :=
  J42 G t0 x1 x2 (x3 + (1 : Int32))
theorem w_X3_bestOf_121 {C : gCx} (hC : gOk C "GoblinHouseholdModel" cX3_bestOf [] (some .int) "bestOf" 5 5 148) {K : Int32 → gS → Prop} {X : Nat → gS → Prop} (hK : ∀ r G, K r G → cxK C (some (vI r)) G) (hX : ∀ q G, X q G → cxX C q G) {J42 : gS → Nat → Int32 → Int32 → Int32 → Prop} (hJ42 : ∀ G z0 z1 z2 z3, J42 G z0 z1 z2 z3 → gGo C G 42 [(0, vQ (some z0)), (1, vI z1), (2, vI z2), (3, vI z3)] []) {G : gS} {t0 : Nat} {x1 : Int32} {x2 : Int32} {x3 : Int32} (h : wp_X3_bestOf_121 (cxA C) X K J42 G t0 x1 x2 x3) : gGo C G 121 [(0, vQ (some t0)), (1, vI x1), (2, vI x2), (3, vI x3)] [] := by
  unfold wp_X3_bestOf_121 at h
  refine g_iinc hC (pc := 121) 3 (d := (1 : Int32)) (v := (x3 + (1 : Int32))) (lv' := [(3, vI (x3 + (1 : Int32))), (0, vQ (some t0)), (1, vI x1), (2, vI x2)]) rfl (by decide) rfl (by decide) rfl dX3_bestOf_121 ?_
  refine g_goto hC (pc := 124) 42 (by decide) dX3_bestOf_124 ?_
  exact g_sub [1, 2, 3, 0] rfl (hJ42 _ _ _ _ _ h)
def wp_X3_bestOf_56 (ad : Nat → Nat) (X : Nat → gS → Prop) (K : Int32 → gS → Prop) (J42 : gS → Nat → Int32 → Int32 → Int32 → Prop) (J56 : gS → Nat → Int32 → Int32 → Int32 → Int32 → Prop) (G : gS) (t0 : Nat) (x1 : Int32) (x2 : Int32) (x3 : Int32) (x4 : Int32) : Prop :=
  (gIs G t0 0 ∧ wp_X3_ofContract ad G t0 x3 (4 : Int32) X (fun r2 G1 => (x4 < r2 → wp_X3_bestOf_121 ad X K J42 G1 t0 x1 x2 x3) ∧ (¬ x4 < r2 → (gIs G1 t0 0 ∧ wp_X3_ofContract ad G1 t0 x3 (1 : Int32) X (fun r4 G3 => (¬ r4 = x1 → wp_X3_bestOf_121 ad X K J42 G3 t0 x1 x2 x3) ∧ (r4 = x1 → wGetQ G3 t0 0 9 fun q5 => wGetQ G3 t0 0 9 fun q6 => wNN q6 fun c7 => wAldI G3 c7 x4 fun i8 => wGetQ G3 t0 0 9 fun q9 => (gIs G3 t0 0 ∧ wp_X3_ofContract ad G3 t0 x3 (4 : Int32) X (fun r11 G10 => wNN q9 fun c12 => wAldI G10 c12 (x4 - r11) fun i13 => (gIs G10 t0 0 ∧ wp_X3_ofContract ad G10 t0 x3 (3 : Int32) X (fun r15 G14 => wNN q5 fun c16 => wAstI G14 c16 x4 (if i8 < (i13 + r15) then (i13 + r15) else i8) fun G17 => J56 G17 t0 x1 x2 x3 (x4 + (-1 : Int32))))))))))))
theorem w_X3_bestOf_56 {C : gCx} (hC : gOk C "GoblinHouseholdModel" cX3_bestOf [] (some .int) "bestOf" 5 5 148) {K : Int32 → gS → Prop} {X : Nat → gS → Prop} (hK : ∀ r G, K r G → cxK C (some (vI r)) G) (hX : ∀ q G, X q G → cxX C q G) {J42 : gS → Nat → Int32 → Int32 → Int32 → Prop} (hJ42 : ∀ G z0 z1 z2 z3, J42 G z0 z1 z2 z3 → gGo C G 42 [(0, vQ (some z0)), (1, vI z1), (2, vI z2), (3, vI z3)] []) (n : Nat) : ∀ (G : gS) (t0 : Nat) (x1 : Int32) (x2 : Int32) (x3 : Int32) (x4 : Int32), gLoop (fun _ _ _ _ _ _ => False) (wp_X3_bestOf_56 (cxA C) X K J42) n G t0 x1 x2 x3 x4 → gGo C G 56 [(0, vQ (some t0)), (1, vI x1), (2, vI x2), (3, vI x3), (4, vI x4)] [] := by
  induction n with
  | zero => intro G t0 x1 x2 x3 x4 h; exact h.elim
  | succ n ih =>
    intro G t0 x1 x2 x3 x4 h
    have hJ56 := ih
    replace h : wp_X3_bestOf_56 (cxA C) X K J42 _ G t0 x1 x2 x3 x4 := h
    unfold wp_X3_bestOf_56 at h
    refine g_iload hC (pc := 56) 4 rfl dX3_bestOf_56 ?_
    refine g_aload_n hC (pc := 58) 0 rfl rfl dX3_bestOf_58 ?_
    refine g_iload_n hC (pc := 59) 3 rfl rfl dX3_bestOf_59 ?_
    refine g_iconst hC (pc := 60) (v := (4 : Int32)) (by decide) dX3_bestOf_60 ?_
    obtain ⟨hi, h⟩ := h
    refine g_callV hC (pc := 61) (ci := 0) (As := [vI x3, vI (4 : Int32)]) gc_X3_ofContract (m_X3_ofContract hC.fl h) rfl hi q2659 q2661 qs60 (gle rfl) (gle rfl) rfl (gle rfl) rfl dX3_bestOf_61 (gk_i fun r2 G1 h => ?_) (fun _ _ h hio => g_out0 hC (hX _ _ h) hio)
    refine g_icmp_lt hC (pc := 64) 121 h (by decide) dX3_bestOf_64 (fun h => ?_) (fun h => ?_)
    · exact g_sub [0, 1, 2, 3] rfl (w_X3_bestOf_121 hC hK hX hJ42 h)
    · refine g_aload_n hC (pc := 67) 0 rfl rfl dX3_bestOf_67 ?_
      refine g_iload_n hC (pc := 68) 3 rfl rfl dX3_bestOf_68 ?_
      refine g_iconst hC (pc := 69) (v := (1 : Int32)) (by decide) dX3_bestOf_69 ?_
      obtain ⟨hi, h⟩ := h
      refine g_callV hC (pc := 70) (ci := 0) (As := [vI x3, vI (1 : Int32)]) gc_X3_ofContract (m_X3_ofContract hC.fl h) rfl hi q2659 q2661 qs60 (gle rfl) (gle rfl) rfl (gle rfl) rfl dX3_bestOf_70 (gk_i fun r4 G3 h => ?_) (fun _ _ h hio => g_out0 hC (hX _ _ h) hio)
      refine g_iload_n hC (pc := 73) 1 rfl rfl dX3_bestOf_73 ?_
      refine g_icmp_ne hC (pc := 74) 121 h (by decide) dX3_bestOf_74 (fun h => ?_) (fun h => ?_)
      · exact g_sub [0, 1, 2, 3] rfl (w_X3_bestOf_121 hC hK hX hJ42 h)
      · refine g_aload_n hC (pc := 77) 0 rfl rfl dX3_bestOf_77 ?_
        refine g_getQ hC (pc := 78) in_X3 (ci := 0) rfl 9 (by decide) q2486 (Or.inl rfl) h dX3_bestOf_78 (fun q5 h => ?_)
        refine g_iload hC (pc := 81) 4 rfl dX3_bestOf_81 ?_
        refine g_aload_n hC (pc := 83) 0 rfl rfl dX3_bestOf_83 ?_
        refine g_getQ hC (pc := 84) in_X3 (ci := 0) rfl 9 (by decide) q2486 (Or.inl rfl) h dX3_bestOf_84 (fun q6 h => ?_)
        refine g_iload hC (pc := 87) 4 rfl dX3_bestOf_87 ?_
        rcases q6 with _ | c7
        · exact (gNN0 h).elim
        replace h := gNN1 h
        refine g_aldI hC (pc := 89) h dX3_bestOf_89 (fun i8 h => ?_)
        refine g_aload_n hC (pc := 90) 0 rfl rfl dX3_bestOf_90 ?_
        refine g_getQ hC (pc := 91) in_X3 (ci := 0) rfl 9 (by decide) q2486 (Or.inl rfl) h dX3_bestOf_91 (fun q9 h => ?_)
        refine g_iload hC (pc := 94) 4 rfl dX3_bestOf_94 ?_
        refine g_aload_n hC (pc := 96) 0 rfl rfl dX3_bestOf_96 ?_
        refine g_iload_n hC (pc := 97) 3 rfl rfl dX3_bestOf_97 ?_
        refine g_iconst hC (pc := 98) (v := (4 : Int32)) (by decide) dX3_bestOf_98 ?_
        obtain ⟨hi, h⟩ := h
        refine g_callV hC (pc := 99) (ci := 0) (As := [vI x3, vI (4 : Int32)]) gc_X3_ofContract (m_X3_ofContract hC.fl h) rfl hi q2659 q2661 qs60 (gle rfl) (gle rfl) rfl (gle rfl) rfl dX3_bestOf_99 (gk_i fun r11 G10 h => ?_) (fun _ _ h hio => g_out0 hC (hX _ _ h) hio)
        refine g_isub hC (pc := 102) dX3_bestOf_102 ?_
        rcases q9 with _ | c12
        · exact (gNN0 h).elim
        replace h := gNN1 h
        refine g_aldI hC (pc := 103) h dX3_bestOf_103 (fun i13 h => ?_)
        refine g_aload_n hC (pc := 104) 0 rfl rfl dX3_bestOf_104 ?_
        refine g_iload_n hC (pc := 105) 3 rfl rfl dX3_bestOf_105 ?_
        refine g_iconst hC (pc := 106) (v := (3 : Int32)) (by decide) dX3_bestOf_106 ?_
        obtain ⟨hi, h⟩ := h
        refine g_callV hC (pc := 107) (ci := 0) (As := [vI x3, vI (3 : Int32)]) gc_X3_ofContract (m_X3_ofContract hC.fl h) rfl hi q2659 q2661 qs60 (gle rfl) (gle rfl) rfl (gle rfl) rfl dX3_bestOf_107 (gk_i fun r15 G14 h => ?_) (fun _ _ h hio => g_out0 hC (hX _ _ h) hio)
        refine g_iadd hC (pc := 110) dX3_bestOf_110 ?_
        refine g_max hC (pc := 111) q2728 q471 q114 q472 (gle rfl) (gle rfl) (gle rfl) dX3_bestOf_111 ?_
        rcases q5 with _ | c16
        · exact (gNN0 h).elim
        replace h := gNN1 h
        refine g_astI hC (pc := 114) h dX3_bestOf_114 (fun G17 h => ?_)
        refine g_iinc hC (pc := 115) 4 (d := (-1 : Int32)) (v := (x4 + (-1 : Int32))) (lv' := [(4, vI (x4 + (-1 : Int32))), (0, vQ (some t0)), (1, vI x1), (2, vI x2), (3, vI x3)]) rfl (by decide) rfl (by decide) rfl dX3_bestOf_115 ?_
        refine g_goto hC (pc := 118) 56 (by decide) dX3_bestOf_118 ?_
        exact g_sub [1, 2, 3, 4, 0] rfl (hJ56 _ _ _ _ _ _ h)
def wp_X3_bestOf_127 (ad : Nat → Nat) (X : Nat → gS → Prop) (K : Int32 → gS → Prop) (G : gS) (t0 : Nat) (x2 : Int32) : Prop :=
  wGetQ G t0 0 9 fun q1 => wNN q1 fun c2 => wAldI G c2 x2 fun i3 => K i3 G
theorem w_X3_bestOf_127 {C : gCx} (hC : gOk C "GoblinHouseholdModel" cX3_bestOf [] (some .int) "bestOf" 5 5 148) {K : Int32 → gS → Prop} {X : Nat → gS → Prop} (hK : ∀ r G, K r G → cxK C (some (vI r)) G) (hX : ∀ q G, X q G → cxX C q G) {G : gS} {t0 : Nat} {x2 : Int32} (h : wp_X3_bestOf_127 (cxA C) X K G t0 x2) : gGo C G 127 [(0, vQ (some t0)), (2, vI x2)] [] := by
  unfold wp_X3_bestOf_127 at h
  refine g_aload_n hC (pc := 127) 0 rfl rfl dX3_bestOf_127 ?_
  refine g_getQ hC (pc := 128) in_X3 (ci := 0) rfl 9 (by decide) q2486 (Or.inl rfl) h dX3_bestOf_128 (fun q1 h => ?_)
  refine g_iload_n hC (pc := 131) 1 rfl rfl dX3_bestOf_131 ?_
  rcases q1 with _ | c2
  · exact (gNN0 h).elim
  replace h := gNN1 h
  refine g_aldI hC (pc := 132) h dX3_bestOf_132 (fun i3 h => ?_)
  exact g_iret hC (pc := 133) (hK _ _ h) dX3_bestOf_133
def wp_X3_bestOf_42 (ad : Nat → Nat) (X : Nat → gS → Prop) (K : Int32 → gS → Prop) (J42 : gS → Nat → Int32 → Int32 → Int32 → Prop) (G : gS) (t0 : Nat) (x1 : Int32) (x2 : Int32) (x3 : Int32) : Prop :=
  wGetQ G t0 0 0 fun q1 => wNN q1 fun c2 => wAldI G c2 (11 : Int32) fun i3 => (i3 ≤ x3 → wp_X3_bestOf_127 ad X K G t0 x2) ∧ (¬ i3 ≤ x3 → gLoop (fun _ _ _ _ _ _ => False) (wp_X3_bestOf_56 ad X K J42) gFuel G t0 x1 x2 x3 x2)
theorem w_X3_bestOf_42 {C : gCx} (hC : gOk C "GoblinHouseholdModel" cX3_bestOf [] (some .int) "bestOf" 5 5 148) {K : Int32 → gS → Prop} {X : Nat → gS → Prop} (hK : ∀ r G, K r G → cxK C (some (vI r)) G) (hX : ∀ q G, X q G → cxX C q G) (n : Nat) : ∀ (G : gS) (t0 : Nat) (x1 : Int32) (x2 : Int32) (x3 : Int32), gLoop (fun _ _ _ _ _ => False) (wp_X3_bestOf_42 (cxA C) X K) n G t0 x1 x2 x3 → gGo C G 42 [(0, vQ (some t0)), (1, vI x1), (2, vI x2), (3, vI x3)] [] := by
  induction n with
  | zero => intro G t0 x1 x2 x3 h; exact h.elim
  | succ n ih =>
    intro G t0 x1 x2 x3 h
    have hJ42 := ih
    replace h : wp_X3_bestOf_42 (cxA C) X K _ G t0 x1 x2 x3 := h
    unfold wp_X3_bestOf_42 at h
    refine g_iload_n hC (pc := 42) 3 rfl rfl dX3_bestOf_42 ?_
    refine g_aload_n hC (pc := 43) 0 rfl rfl dX3_bestOf_43 ?_
    refine g_getQ hC (pc := 44) in_X3 (ci := 0) rfl 0 (by decide) q2477 (Or.inl rfl) h dX3_bestOf_44 (fun q1 h => ?_)
    refine g_bipush hC (pc := 47) (v := (11 : Int32)) (by decide) dX3_bestOf_47 ?_
    rcases q1 with _ | c2
    · exact (gNN0 h).elim
    replace h := gNN1 h
    refine g_aldI hC (pc := 49) h dX3_bestOf_49 (fun i3 h => ?_)
    refine g_icmp_ge hC (pc := 50) 127 h (by decide) dX3_bestOf_50 (fun h => ?_) (fun h => ?_)
    · exact g_sub [0, 2] rfl (w_X3_bestOf_127 hC hK hX h)
    · refine g_iload_n hC (pc := 53) 2 rfl rfl dX3_bestOf_53 ?_
      refine g_istore hC (pc := 54) (lv' := [(4, vI x2), (0, vQ (some t0)), (1, vI x1), (2, vI x2), (3, vI x3)]) (by decide) rfl dX3_bestOf_54 ?_
      exact g_sub [1, 2, 3, 4, 0] rfl (w_X3_bestOf_56 hC hK hX hJ42 gFuel _ _ _ _ _ _ h)
def wp_X3_bestOf_40 (ad : Nat → Nat) (X : Nat → gS → Prop) (K : Int32 → gS → Prop) (G : gS) (t0 : Nat) (x1 : Int32) (x2 : Int32) : Prop :=
  gLoop (fun _ _ _ _ _ => False) (wp_X3_bestOf_42 ad X K) gFuel G t0 x1 x2 (0 : Int32)
theorem w_X3_bestOf_40 {C : gCx} (hC : gOk C "GoblinHouseholdModel" cX3_bestOf [] (some .int) "bestOf" 5 5 148) {K : Int32 → gS → Prop} {X : Nat → gS → Prop} (hK : ∀ r G, K r G → cxK C (some (vI r)) G) (hX : ∀ q G, X q G → cxX C q G) {G : gS} {t0 : Nat} {x1 : Int32} {x2 : Int32} (h : wp_X3_bestOf_40 (cxA C) X K G t0 x1 x2) : gGo C G 40 [(0, vQ (some t0)), (1, vI x1), (2, vI x2)] [] := by
  unfold wp_X3_bestOf_40 at h
  refine g_iconst hC (pc := 40) (v := (0 : Int32)) (by decide) dX3_bestOf_40 ?_
  refine g_istore_n hC (pc := 41) (lv' := [(3, vI (0 : Int32)), (0, vQ (some t0)), (1, vI x1), (2, vI x2)]) rfl (by decide) rfl dX3_bestOf_41 ?_
  exact g_sub [1, 2, 3, 0] rfl (w_X3_bestOf_42 hC hK hX gFuel _ _ _ _ _ h)
def wp_X3_bestOf_22 (ad : Nat → Nat) (X : Nat → gS → Prop) (K : Int32 → gS → Prop) (J22 : gS → Nat → Int32 → Int32 → Int32 → Prop) (G : gS) (t0 : Nat) (x1 : Int32) (x2 : Int32) (x3 : Int32) : Prop :=
  (x2 < x3 → wp_X3_bestOf_40 ad X K G t0 x1 x2) ∧ (¬ x2 < x3 → wGetQ G t0 0 9 fun q1 => wNN q1 fun c2 => wAstI G c2 x3 (0 : Int32) fun G3 => J22 G3 t0 x1 x2 (x3 + (1 : Int32)))
theorem w_X3_bestOf_22 {C : gCx} (hC : gOk C "GoblinHouseholdModel" cX3_bestOf [] (some .int) "bestOf" 5 5 148) {K : Int32 → gS → Prop} {X : Nat → gS → Prop} (hK : ∀ r G, K r G → cxK C (some (vI r)) G) (hX : ∀ q G, X q G → cxX C q G) (n : Nat) : ∀ (G : gS) (t0 : Nat) (x1 : Int32) (x2 : Int32) (x3 : Int32), gLoop (fun _ _ _ _ _ => False) (wp_X3_bestOf_22 (cxA C) X K) n G t0 x1 x2 x3 → gGo C G 22 [(0, vQ (some t0)), (1, vI x1), (2, vI x2), (3, vI x3)] [] := by
  induction n with
  | zero => intro G t0 x1 x2 x3 h; exact h.elim
  | succ n ih =>
    intro G t0 x1 x2 x3 h
    have hJ22 := ih
    replace h : wp_X3_bestOf_22 (cxA C) X K _ G t0 x1 x2 x3 := h
    unfold wp_X3_bestOf_22 at h
    refine g_iload_n hC (pc := 22) 3 rfl rfl dX3_bestOf_22 ?_
    refine g_iload_n hC (pc := 23) 2 rfl rfl dX3_bestOf_23 ?_
    refine g_icmp_gt hC (pc := 24) 40 h (by decide) dX3_bestOf_24 (fun h => ?_) (fun h => ?_)
    · exact g_sub [0, 1, 2] rfl (w_X3_bestOf_40 hC hK hX h)
    · refine g_aload_n hC (pc := 27) 0 rfl rfl dX3_bestOf_27 ?_
      refine g_getQ hC (pc := 28) in_X3 (ci := 0) rfl 9 (by decide) q2486 (Or.inl rfl) h dX3_bestOf_28 (fun q1 h => ?_)
      refine g_iload_n hC (pc := 31) 3 rfl rfl dX3_bestOf_31 ?_
      refine g_iconst hC (pc := 32) (v := (0 : Int32)) (by decide) dX3_bestOf_32 ?_
      rcases q1 with _ | c2
      · exact (gNN0 h).elim
      replace h := gNN1 h
      refine g_astI hC (pc := 33) h dX3_bestOf_33 (fun G3 h => ?_)
      refine g_iinc hC (pc := 34) 3 (d := (1 : Int32)) (v := (x3 + (1 : Int32))) (lv' := [(3, vI (x3 + (1 : Int32))), (0, vQ (some t0)), (1, vI x1), (2, vI x2)]) rfl (by decide) rfl (by decide) rfl dX3_bestOf_34 ?_
      refine g_goto hC (pc := 37) 22 (by decide) dX3_bestOf_37 ?_
      exact g_sub [1, 2, 3, 0] rfl (hJ22 _ _ _ _ _ h)
def wp_X3_bestOf (ad : Nat → Nat) (G : gS) (t0 : Nat) (x1 : Int32) (X : Nat → gS → Prop) (K : Int32 → gS → Prop) : Prop :=
  (gIs G t0 0 ∧ wp_X3_isGoblin ad G t0 x1 X (fun r2 G1 => (gIs G1 t0 0 ∧ wp_X3_goes ad G1 t0 r2 X (fun r4 G3 => (¬ r4 = (0 : Int32) → (gIs G3 t0 0 ∧ wp_X3_energyOf ad G3 t0 x1 X (fun r6 G5 => gLoop (fun _ _ _ _ _ => False) (wp_X3_bestOf_22 ad X K) gFuel G5 t0 x1 r6 (0 : Int32)))) ∧ (r4 = (0 : Int32) → K (0 : Int32) G3)))))
theorem w_X3_bestOf {C : gCx} (hC : gOk C "GoblinHouseholdModel" cX3_bestOf [] (some .int) "bestOf" 5 5 148) {K : Int32 → gS → Prop} {X : Nat → gS → Prop} (hK : ∀ r G, K r G → cxK C (some (vI r)) G) (hX : ∀ q G, X q G → cxX C q G) {G : gS} {t0 : Nat} {x1 : Int32} (h : wp_X3_bestOf (cxA C) G t0 x1 X K) : gGo C G 0 [(0, vQ (some t0)), (1, vI x1)] [] := by
  unfold wp_X3_bestOf at h
  refine g_aload_n hC (pc := 0) 0 rfl rfl dX3_bestOf_0 ?_
  refine g_aload_n hC (pc := 1) 0 rfl rfl dX3_bestOf_1 ?_
  refine g_iload_n hC (pc := 2) 1 rfl rfl dX3_bestOf_2 ?_
  obtain ⟨hi, h⟩ := h
  refine g_callV hC (pc := 3) (ci := 0) (As := [vI x1]) gc_X3_isGoblin (m_X3_isGoblin hC.fl h) rfl hi q2628 q2630 qs55 (gle rfl) (gle rfl) rfl (gle rfl) rfl dX3_bestOf_3 (gk_i fun r2 G1 h => ?_) (fun _ _ h hio => g_out0 hC (hX _ _ h) hio)
  obtain ⟨hi, h⟩ := h
  refine g_callV hC (pc := 6) (ci := 0) (As := [vI r2]) gc_X3_goes (m_X3_goes hC.fl h) rfl hi q2546 q2548 qs43 (gle rfl) (gle rfl) rfl (gle rfl) rfl dX3_bestOf_6 (gk_i fun r4 G3 h => ?_) (fun _ _ h hio => g_out0 hC (hX _ _ h) hio)
  refine g_if_ne hC (pc := 9) 14 h (by decide) dX3_bestOf_9 (fun h => ?_) (fun h => ?_)
  · refine g_aload_n hC (pc := 14) 0 rfl rfl dX3_bestOf_14 ?_
    refine g_iload_n hC (pc := 15) 1 rfl rfl dX3_bestOf_15 ?_
    obtain ⟨hi, h⟩ := h
    refine g_callV hC (pc := 16) (ci := 0) (As := [vI x1]) gc_X3_energyOf (m_X3_energyOf hC.fl h) rfl hi q2720 q2722 qs70 (gle rfl) (gle rfl) rfl (gle rfl) rfl dX3_bestOf_16 (gk_i fun r6 G5 h => ?_) (fun _ _ h hio => g_out0 hC (hX _ _ h) hio)
    refine g_istore_n hC (pc := 19) (lv' := [(2, vI r6), (0, vQ (some t0)), (1, vI x1)]) rfl (by decide) rfl dX3_bestOf_19 ?_
    refine g_iconst hC (pc := 20) (v := (0 : Int32)) (by decide) dX3_bestOf_20 ?_
    refine g_istore_n hC (pc := 21) (lv' := [(3, vI (0 : Int32)), (2, vI r6), (0, vQ (some t0)), (1, vI x1)]) rfl (by decide) rfl dX3_bestOf_21 ?_
    exact g_sub [2, 3, 1, 0] rfl (w_X3_bestOf_22 hC hK hX gFuel _ _ _ _ _ h)
  · refine g_iconst hC (pc := 12) (v := (0 : Int32)) (by decide) dX3_bestOf_12 ?_
    exact g_iret hC (pc := 13) (hK _ _ h) dX3_bestOf_13
theorem gc_X3_bestOf : gCode yX3_bestOf cX3_bestOf 5 (some .int) 1 := ⟨q2800, q105, ⟨by decide, by decide⟩, rfl⟩
theorem m_X3_bestOf {l : Launch} (hfl : l.stackTraces = false) {E : gE} {G : gS} {t0 : Nat} {x1 : Int32} {X : Nat → gS → Prop} {K : Int32 → gS → Prop} (h : wp_X3_bestOf (gAd E) G t0 x1 X K) : gMet l yX3_bestOf (ws_ yX3_bestOf cX3_bestOf 5 (some .int)) 5 148 [vQ (some t0), vI x1] E G (gRi K) X :=
  g_met hfl (plainFor_of_name (by decide +kernel)) rfl rfl rfl (gle rfl) (fun p e R s m args below meth c hC => w_X3_bestOf hC (fun _ _ h => h) (fun _ _ h => h) h)
def wp_X3_bestWages (ad : Nat → Nat) (G : gS) (t0 : Nat) (x1 : Int32) (X : Nat → gS → Prop) (K : Int32 → gS → Prop) : Prop :=
  (gIs G t0 0 ∧ wp_X3_bestOf ad G t0 x1 X (fun r2 G1 => K r2 G1))
theorem w_X3_bestWages {C : gCx} (hC : gOk C "GoblinHouseholdModel" cX3_bestWages [] (some .int) "bestWages" 2 6 180) {K : Int32 → gS → Prop} {X : Nat → gS → Prop} (hK : ∀ r G, K r G → cxK C (some (vI r)) G) (hX : ∀ q G, X q G → cxX C q G) {G : gS} {t0 : Nat} {x1 : Int32} (h : wp_X3_bestWages (cxA C) G t0 x1 X K) : gGo C G 0 [(0, vQ (some t0)), (1, vI x1)] [] := by
  unfold wp_X3_bestWages at h
  refine g_aload_n hC (pc := 0) 0 rfl rfl dX3_bestWages_0 ?_
  refine g_iload_n hC (pc := 1) 1 rfl rfl dX3_bestWages_1 ?_
  obtain ⟨hi, h⟩ := h
  refine g_callV hC (pc := 2) (ci := 0) (As := [vI x1]) gc_X3_bestOf (m_X3_bestOf hC.fl h) rfl hi q2797 q2799 qs75 (gle rfl) (gle rfl) rfl (gle rfl) rfl dX3_bestWages_2 (gk_i fun r2 G1 h => ?_) (fun _ _ h hio => g_out0 hC (hX _ _ h) hio)
  exact g_iret hC (pc := 5) (hK _ _ h) dX3_bestWages_5
theorem gc_X3_bestWages : gCode yX3_bestWages cX3_bestWages 2 (some .int) 1 := ⟨q2796, q105, ⟨by decide, by decide⟩, rfl⟩
theorem m_X3_bestWages {l : Launch} (hfl : l.stackTraces = false) {E : gE} {G : gS} {t0 : Nat} {x1 : Int32} {X : Nat → gS → Prop} {K : Int32 → gS → Prop} (h : wp_X3_bestWages (gAd E) G t0 x1 X K) : gMet l yX3_bestWages (ws_ yX3_bestWages cX3_bestWages 2 (some .int)) 6 180 [vQ (some t0), vI x1] E G (gRi K) X :=
  g_met hfl (plainFor_of_name (by decide +kernel)) rfl rfl rfl (gle rfl) (fun p e R s m args below meth c hC => w_X3_bestWages hC (fun _ _ h => h) (fun _ _ h => h) h)
def wp_X2_bestWagesByTable_110 (ad : Nat → Nat) (X : Nat → gS → Prop) (K : Int32 → gS → Prop) (J24 : gS → Nat → Int32 → Nat → Int32 → Prop) (G : gS) (t0 : Nat) (x1 : Int32) (t2 : Nat) (x3 : Int32) : Prop :=
  J24 G t0 x1 t2 (x3 + (1 : Int32))
theorem w_X2_bestWagesByTable_110 {C : gCx} (hC : gOk C "GoblinHousehold$Household" cX2_bestWagesByTable [] (some .int) "bestWagesByTable" 6 5 147) {K : Int32 → gS → Prop} {X : Nat → gS → Prop} (hK : ∀ r G, K r G → cxK C (some (vI r)) G) (hX : ∀ q G, X q G → cxX C q G) {J24 : gS → Nat → Int32 → Nat → Int32 → Prop} (hJ24 : ∀ G z0 z1 z2 z3, J24 G z0 z1 z2 z3 → gGo C G 24 [(0, vQ (some z0)), (1, vI z1), (2, vQ (some z2)), (3, vI z3)] []) {G : gS} {t0 : Nat} {x1 : Int32} {t2 : Nat} {x3 : Int32} (h : wp_X2_bestWagesByTable_110 (cxA C) X K J24 G t0 x1 t2 x3) : gGo C G 110 [(0, vQ (some t0)), (1, vI x1), (2, vQ (some t2)), (3, vI x3)] [] := by
  unfold wp_X2_bestWagesByTable_110 at h
  refine g_iinc hC (pc := 110) 3 (d := (1 : Int32)) (v := (x3 + (1 : Int32))) (lv' := [(3, vI (x3 + (1 : Int32))), (0, vQ (some t0)), (1, vI x1), (2, vQ (some t2))]) rfl (by decide) rfl (by decide) rfl dX2_bestWagesByTable_110 ?_
  refine g_goto hC (pc := 113) 24 (by decide) dX2_bestWagesByTable_113 ?_
  exact g_sub [1, 2, 3, 0] rfl (hJ24 _ _ _ _ _ h)
def wp_X2_bestWagesByTable_58 (ad : Nat → Nat) (X : Nat → gS → Prop) (K : Int32 → gS → Prop) (J24 : gS → Nat → Int32 → Nat → Int32 → Prop) (J58 : gS → Nat → Int32 → Nat → Int32 → Option Nat → Int32 → Prop) (G : gS) (t0 : Nat) (x1 : Int32) (t2 : Nat) (x3 : Int32) (o4 : Option Nat) (x5 : Int32) : Prop :=
  wNN o4 fun c1 => wGetI G c1 10 4 fun i2 => (x5 < i2 → wp_X2_bestWagesByTable_110 ad X K J24 G t0 x1 t2 x3) ∧ (¬ x5 < i2 → wGetI G c1 10 1 fun i3 => (¬ i3 = x1 → wp_X2_bestWagesByTable_110 ad X K J24 G t0 x1 t2 x3) ∧ (i3 = x1 → wAldI G t2 x5 fun i4 => wGetI G c1 10 3 fun i5 => wGetI G c1 10 4 fun i6 => wAldI G t2 (x5 - i6) fun i7 => wAstI G t2 x5 (if i4 < (i5 + i7) then (i5 + i7) else i4) fun G8 => J58 G8 t0 x1 t2 x3 (some c1) (x5 + (-1 : Int32))))
theorem w_X2_bestWagesByTable_58 {C : gCx} (hC : gOk C "GoblinHousehold$Household" cX2_bestWagesByTable [] (some .int) "bestWagesByTable" 6 5 147) {K : Int32 → gS → Prop} {X : Nat → gS → Prop} (hK : ∀ r G, K r G → cxK C (some (vI r)) G) (hX : ∀ q G, X q G → cxX C q G) {J24 : gS → Nat → Int32 → Nat → Int32 → Prop} (hJ24 : ∀ G z0 z1 z2 z3, J24 G z0 z1 z2 z3 → gGo C G 24 [(0, vQ (some z0)), (1, vI z1), (2, vQ (some z2)), (3, vI z3)] []) (n : Nat) : ∀ (G : gS) (t0 : Nat) (x1 : Int32) (t2 : Nat) (x3 : Int32) (o4 : Option Nat) (x5 : Int32), gLoop (fun _ _ _ _ _ _ _ => False) (wp_X2_bestWagesByTable_58 (cxA C) X K J24) n G t0 x1 t2 x3 o4 x5 → gGo C G 58 [(0, vQ (some t0)), (1, vI x1), (2, vQ (some t2)), (3, vI x3), (4, vQ o4), (5, vI x5)] [] := by
  induction n with
  | zero => intro G t0 x1 t2 x3 o4 x5 h; exact h.elim
  | succ n ih =>
    intro G t0 x1 t2 x3 o4 x5 h
    have hJ58 := ih
    replace h : wp_X2_bestWagesByTable_58 (cxA C) X K J24 _ G t0 x1 t2 x3 o4 x5 := h
    unfold wp_X2_bestWagesByTable_58 at h
    refine g_iload hC (pc := 58) 5 rfl dX2_bestWagesByTable_58 ?_
    refine g_aload hC (pc := 60) 4 rfl dX2_bestWagesByTable_60 ?_
    rcases o4 with _ | c1
    · exact (gNN0 h).elim
    replace h := gNN1 h
    refine g_getIN hC (pc := 62) in_X10 (ci := 10) rfl 4 (by decide) (List.mem_of_getElem? (i := 28) rfl) (Or.inl rfl) h dX2_bestWagesByTable_62 (fun i2 h => ?_)
    refine g_icmp_lt hC (pc := 65) 110 h (by decide) dX2_bestWagesByTable_65 (fun h => ?_) (fun h => ?_)
    · exact g_sub [0, 1, 2, 3] rfl (w_X2_bestWagesByTable_110 hC hK hX hJ24 h)
    · refine g_aload hC (pc := 68) 4 rfl dX2_bestWagesByTable_68 ?_
      refine g_getIN hC (pc := 70) in_X10 (ci := 10) rfl 1 (by decide) (List.mem_of_getElem? (i := 20) rfl) (Or.inl rfl) h dX2_bestWagesByTable_70 (fun i3 h => ?_)
      refine g_iload_n hC (pc := 73) 1 rfl rfl dX2_bestWagesByTable_73 ?_
      refine g_icmp_ne hC (pc := 74) 110 h (by decide) dX2_bestWagesByTable_74 (fun h => ?_) (fun h => ?_)
      · exact g_sub [0, 1, 2, 3] rfl (w_X2_bestWagesByTable_110 hC hK hX hJ24 h)
      · refine g_aload_n hC (pc := 77) 2 rfl rfl dX2_bestWagesByTable_77 ?_
        refine g_iload hC (pc := 78) 5 rfl dX2_bestWagesByTable_78 ?_
        refine g_aload_n hC (pc := 80) 2 rfl rfl dX2_bestWagesByTable_80 ?_
        refine g_iload hC (pc := 81) 5 rfl dX2_bestWagesByTable_81 ?_
        refine g_aldI hC (pc := 83) h dX2_bestWagesByTable_83 (fun i4 h => ?_)
        refine g_aload hC (pc := 84) 4 rfl dX2_bestWagesByTable_84 ?_
        refine g_getIN hC (pc := 86) in_X10 (ci := 10) rfl 3 (by decide) (List.mem_of_getElem? (i := 25) rfl) (Or.inl rfl) h dX2_bestWagesByTable_86 (fun i5 h => ?_)
        refine g_aload_n hC (pc := 89) 2 rfl rfl dX2_bestWagesByTable_89 ?_
        refine g_iload hC (pc := 90) 5 rfl dX2_bestWagesByTable_90 ?_
        refine g_aload hC (pc := 92) 4 rfl dX2_bestWagesByTable_92 ?_
        refine g_getIN hC (pc := 94) in_X10 (ci := 10) rfl 4 (by decide) (List.mem_of_getElem? (i := 28) rfl) (Or.inl rfl) h dX2_bestWagesByTable_94 (fun i6 h => ?_)
        refine g_isub hC (pc := 97) dX2_bestWagesByTable_97 ?_
        refine g_aldI hC (pc := 98) h dX2_bestWagesByTable_98 (fun i7 h => ?_)
        refine g_iadd hC (pc := 99) dX2_bestWagesByTable_99 ?_
        refine g_max hC (pc := 100) q806 q471 q114 q472 (gle rfl) (gle rfl) (gle rfl) dX2_bestWagesByTable_100 ?_
        refine g_astI hC (pc := 103) h dX2_bestWagesByTable_103 (fun G8 h => ?_)
        refine g_iinc hC (pc := 104) 5 (d := (-1 : Int32)) (v := (x5 + (-1 : Int32))) (lv' := [(5, vI (x5 + (-1 : Int32))), (0, vQ (some t0)), (1, vI x1), (2, vQ (some t2)), (3, vI x3), (4, vQ (some c1))]) rfl (by decide) rfl (by decide) rfl dX2_bestWagesByTable_104 ?_
        refine g_goto hC (pc := 107) 58 (by decide) dX2_bestWagesByTable_107 ?_
        exact g_sub [1, 2, 3, 4, 5, 0] rfl (hJ58 _ _ _ _ _ _ _ h)
def wp_X2_bestWagesByTable_116 (ad : Nat → Nat) (X : Nat → gS → Prop) (K : Int32 → gS → Prop) (G : gS) (t2 : Nat) : Prop :=
  wLen G t2 fun i1 => wAldI G t2 (i1 - (1 : Int32)) fun i2 => K i2 G
theorem w_X2_bestWagesByTable_116 {C : gCx} (hC : gOk C "GoblinHousehold$Household" cX2_bestWagesByTable [] (some .int) "bestWagesByTable" 6 5 147) {K : Int32 → gS → Prop} {X : Nat → gS → Prop} (hK : ∀ r G, K r G → cxK C (some (vI r)) G) (hX : ∀ q G, X q G → cxX C q G) {G : gS} {t2 : Nat} (h : wp_X2_bestWagesByTable_116 (cxA C) X K G t2) : gGo C G 116 [(2, vQ (some t2))] [] := by
  unfold wp_X2_bestWagesByTable_116 at h
  refine g_aload_n hC (pc := 116) 0 rfl rfl dX2_bestWagesByTable_116 ?_
  refine g_aload_n hC (pc := 117) 0 rfl rfl dX2_bestWagesByTable_117 ?_
  refine g_len hC (pc := 118) h dX2_bestWagesByTable_118 (fun i1 h => ?_)
  refine g_iconst hC (pc := 119) (v := (1 : Int32)) (by decide) dX2_bestWagesByTable_119 ?_
  refine g_isub hC (pc := 120) dX2_bestWagesByTable_120 ?_
  refine g_aldI hC (pc := 121) h dX2_bestWagesByTable_121 (fun i2 h => ?_)
  exact g_iret hC (pc := 122) (hK _ _ h) dX2_bestWagesByTable_122
def wp_X2_bestWagesByTable_24 (ad : Nat → Nat) (X : Nat → gS → Prop) (K : Int32 → gS → Prop) (J24 : gS → Nat → Int32 → Nat → Int32 → Prop) (G : gS) (t0 : Nat) (x1 : Int32) (t2 : Nat) (x3 : Int32) : Prop :=
  wGetQ G t0 2 3 fun q1 => wNN q1 fun c2 => (gIs G c2 3 ∧ wp_J2_size ad G c2  X (fun r4 G3 => (r4 ≤ x3 → wp_X2_bestWagesByTable_116 ad X K G3 t2) ∧ (¬ r4 ≤ x3 → wGetQ G3 t0 2 3 fun q5 => wNN q5 fun c6 => (gIs G3 c6 3 ∧ wp_J2_get ad G3 c6 x3 X (fun q8 G7 => wCast G7 q8 [10] (wLen G7 t2 fun i9 => gLoop (fun _ _ _ _ _ _ _ => False) (wp_X2_bestWagesByTable_58 ad X K J24) gFuel G7 t0 x1 t2 x3 q8 (i9 - (1 : Int32))))))))
theorem w_X2_bestWagesByTable_24 {C : gCx} (hC : gOk C "GoblinHousehold$Household" cX2_bestWagesByTable [] (some .int) "bestWagesByTable" 6 5 147) {K : Int32 → gS → Prop} {X : Nat → gS → Prop} (hK : ∀ r G, K r G → cxK C (some (vI r)) G) (hX : ∀ q G, X q G → cxX C q G) (n : Nat) : ∀ (G : gS) (t0 : Nat) (x1 : Int32) (t2 : Nat) (x3 : Int32), gLoop (fun _ _ _ _ _ => False) (wp_X2_bestWagesByTable_24 (cxA C) X K) n G t0 x1 t2 x3 → gGo C G 24 [(0, vQ (some t0)), (1, vI x1), (2, vQ (some t2)), (3, vI x3)] [] := by
  induction n with
  | zero => intro G t0 x1 t2 x3 h; exact h.elim
  | succ n ih =>
    intro G t0 x1 t2 x3 h
    have hJ24 := ih
    replace h : wp_X2_bestWagesByTable_24 (cxA C) X K _ G t0 x1 t2 x3 := h
    unfold wp_X2_bestWagesByTable_24 at h
    refine g_iload_n hC (pc := 24) 3 rfl rfl dX2_bestWagesByTable_24 ?_
    refine g_aload_n hC (pc := 25) 0 rfl rfl dX2_bestWagesByTable_25 ?_
    refine g_getQ hC (pc := 26) in_X2 (ci := 2) rfl 3 (by decide) q194 (Or.inl rfl) h dX2_bestWagesByTable_26 (fun q1 h => ?_)
    rcases q1 with _ | c2
    · exact (gNN0 h).elim
    replace h := gNN1 h
    obtain ⟨hi, h⟩ := h
    refine g_callF hC (pc := 29) (ci := 3) (As := []) gc_J2_size (m_J2_size hC.fl h) rfl hi q359 (List.mem_of_getElem? (i := 0) rfl) rfl q323 q325 (gle rfl) (gle rfl) rfl (gle rfl) rfl dX2_bestWagesByTable_29 (gk_i fun r4 G3 h => ?_) (fun _ _ h hio => g_out0 hC (hX _ _ h) hio)
    refine g_icmp_ge hC (pc := 34) 116 h (by decide) dX2_bestWagesByTable_34 (fun h => ?_) (fun h => ?_)
    · exact g_sub [2] rfl (w_X2_bestWagesByTable_116 hC hK hX h)
    · refine g_aload_n hC (pc := 37) 0 rfl rfl dX2_bestWagesByTable_37 ?_
      refine g_getQ hC (pc := 38) in_X2 (ci := 2) rfl 3 (by decide) q194 (Or.inl rfl) h dX2_bestWagesByTable_38 (fun q5 h => ?_)
      refine g_iload_n hC (pc := 41) 3 rfl rfl dX2_bestWagesByTable_41 ?_
      rcases q5 with _ | c6
      · exact (gNN0 h).elim
      replace h := gNN1 h
      obtain ⟨hi, h⟩ := h
      refine g_callF hC (pc := 42) (ci := 3) (As := [vI x3]) gc_J2_get (m_J2_get hC.fl h) rfl hi q361 (List.mem_of_getElem? (i := 2) rfl) rfl q364 q366 (gle rfl) (gle rfl) rfl (gle rfl) rfl dX2_bestWagesByTable_42 (gk_q fun q8 G7 h => ?_) (fun _ _ h hio => g_out0 hC (hX _ _ h) hio)
      refine g_cast hC (pc := 47) q764 h (List.forall_mem_cons.mpr ⟨⟨_, rfl, Or.inr ⟨rfl, by decide⟩⟩, fun _ h => nomatch h⟩) dX2_bestWagesByTable_47 (fun h => ?_)
      refine g_astore hC (pc := 50) (lv' := [(4, vQ q8), (0, vQ (some t0)), (1, vI x1), (2, vQ (some t2)), (3, vI x3)]) (by decide) rfl dX2_bestWagesByTable_50 ?_
      refine g_aload_n hC (pc := 52) 3 rfl rfl dX2_bestWagesByTable_52 ?_
      refine g_len hC (pc := 53) h dX2_bestWagesByTable_53 (fun i9 h => ?_)
      refine g_iconst hC (pc := 54) (v := (1 : Int32)) (by decide) dX2_bestWagesByTable_54 ?_
      refine g_isub hC (pc := 55) dX2_bestWagesByTable_55 ?_
      refine g_istore hC (pc := 56) (lv' := [(5, vI (i9 - (1 : Int32))), (4, vQ q8), (0, vQ (some t0)), (1, vI x1), (2, vQ (some t2)), (3, vI x3)]) (by decide) rfl dX2_bestWagesByTable_56 ?_
      exact g_sub [2, 3, 4, 5, 1, 0] rfl (w_X2_bestWagesByTable_58 hC hK hX hJ24 gFuel _ _ _ _ _ _ _ h)
def wp_X2_bestWagesByTable (ad : Nat → Nat) (G : gS) (t0 : Nat) (x1 : Int32) (X : Nat → gS → Prop) (K : Int32 → gS → Prop) : Prop :=
  wGetQ G t0 2 2 fun q1 => wNN q1 fun c2 => (gIs G c2 3 ∧ wp_J2_get ad G c2 x1 X (fun q4 G3 => wCast G3 q4 [9] ((gIs G3 t0 2 ∧ wp_X2_energy ad G3 t0 q4 X (fun r6 G5 => wNewI G5 (r6 + (1 : Int32)) fun c8 G7 => gLoop (fun _ _ _ _ _ => False) (wp_X2_bestWagesByTable_24 ad X K) gFuel G7 t0 x1 c8 (0 : Int32))))))
theorem w_X2_bestWagesByTable {C : gCx} (hC : gOk C "GoblinHousehold$Household" cX2_bestWagesByTable [] (some .int) "bestWagesByTable" 6 5 147) {K : Int32 → gS → Prop} {X : Nat → gS → Prop} (hK : ∀ r G, K r G → cxK C (some (vI r)) G) (hX : ∀ q G, X q G → cxX C q G) {G : gS} {t0 : Nat} {x1 : Int32} (h : wp_X2_bestWagesByTable (cxA C) G t0 x1 X K) : gGo C G 0 [(0, vQ (some t0)), (1, vI x1)] [] := by
  unfold wp_X2_bestWagesByTable at h
  refine g_aload_n hC (pc := 0) 0 rfl rfl dX2_bestWagesByTable_0 ?_
  refine g_aload_n hC (pc := 1) 0 rfl rfl dX2_bestWagesByTable_1 ?_
  refine g_getQ hC (pc := 2) in_X2 (ci := 2) rfl 2 (by decide) q192 (Or.inl rfl) h dX2_bestWagesByTable_2 (fun q1 h => ?_)
  refine g_iload_n hC (pc := 5) 1 rfl rfl dX2_bestWagesByTable_5 ?_
  rcases q1 with _ | c2
  · exact (gNN0 h).elim
  replace h := gNN1 h
  obtain ⟨hi, h⟩ := h
  refine g_callF hC (pc := 6) (ci := 3) (As := [vI x1]) gc_J2_get (m_J2_get hC.fl h) rfl hi q361 (List.mem_of_getElem? (i := 2) rfl) rfl q364 q366 (gle rfl) (gle rfl) rfl (gle rfl) rfl dX2_bestWagesByTable_6 (gk_q fun q4 G3 h => ?_) (fun _ _ h hio => g_out0 hC (hX _ _ h) hio)
  refine g_cast hC (pc := 11) q706 h (List.forall_mem_cons.mpr ⟨⟨_, rfl, Or.inr ⟨rfl, by decide⟩⟩, fun _ h => nomatch h⟩) dX2_bestWagesByTable_11 (fun h => ?_)
  obtain ⟨hi, h⟩ := h
  refine g_callV hC (pc := 14) (ci := 2) (As := [vQ q4]) gc_X2_energy (m_X2_energy hC.fl h) rfl hi q778 q779 q780 (gle rfl) (gle rfl) rfl (gle rfl) rfl dX2_bestWagesByTable_14 (gk_i fun r6 G5 h => ?_) (fun _ _ h hio => g_out0 hC (hX _ _ h) hio)
  refine g_iconst hC (pc := 17) (v := (1 : Int32)) (by decide) dX2_bestWagesByTable_17 ?_
  refine g_iadd hC (pc := 18) dX2_bestWagesByTable_18 ?_
  refine g_newI hC (pc := 19) q187 h dX2_bestWagesByTable_19 (fun c8 G7 h => ?_)
  refine g_astore_n hC (pc := 21) (lv' := [(2, vQ (some c8)), (0, vQ (some t0)), (1, vI x1)]) rfl (by decide) rfl dX2_bestWagesByTable_21 ?_
  refine g_iconst hC (pc := 22) (v := (0 : Int32)) (by decide) dX2_bestWagesByTable_22 ?_
  refine g_istore_n hC (pc := 23) (lv' := [(3, vI (0 : Int32)), (2, vQ (some c8)), (0, vQ (some t0)), (1, vI x1)]) rfl (by decide) rfl dX2_bestWagesByTable_23 ?_
  exact g_sub [2, 3, 1, 0] rfl (w_X2_bestWagesByTable_24 hC hK hX gFuel _ _ _ _ _ h)
theorem gc_X2_bestWagesByTable : gCode yX2_bestWagesByTable cX2_bestWagesByTable 6 (some .int) 1 := ⟨q805, q95, ⟨by decide, by decide⟩, rfl⟩
theorem m_X2_bestWagesByTable {l : Launch} (hfl : l.stackTraces = false) {E : gE} {G : gS} {t0 : Nat} {x1 : Int32} {X : Nat → gS → Prop} {K : Int32 → gS → Prop} (h : wp_X2_bestWagesByTable (gAd E) G t0 x1 X K) : gMet l yX2_bestWagesByTable (ws_ yX2_bestWagesByTable cX2_bestWagesByTable 6 (some .int)) 5 147 [vQ (some t0), vI x1] E G (gRi K) X :=
  g_met hfl (plainFor_of_name (by decide +kernel)) rfl rfl rfl (gle rfl) (fun p e R s m args below meth c hC => w_X2_bestWagesByTable hC (fun _ _ h => h) (fun _ _ h => h) h)
def wp_X1_bestWagesByTable (ad : Nat → Nat) (G : gS) (t0 : Nat) (x1 : Int32) (X : Nat → gS → Prop) (K : Int32 → gS → Prop) : Prop :=
  wGetQ G t0 1 0 fun q1 => wNN q1 fun c2 => (gIs G c2 2 ∧ wp_X2_isGoblin ad G c2 x1 X (fun r4 G3 => wp_X1_checkIndex ad G3 r4 X (fun G5 => wGetQ G5 t0 1 0 fun q6 => wNN q6 fun c7 => (gIs G5 c7 2 ∧ wp_X2_bestWagesByTable ad G5 c7 x1 X (fun r9 G8 => K r9 G8)))))
theorem w_X1_bestWagesByTable {C : gCx} (hC : gOk C "GoblinHousehold" cX1_bestWagesByTable [] (some .int) "bestWagesByTable" 2 9 240) {K : Int32 → gS → Prop} {X : Nat → gS → Prop} (hK : ∀ r G, K r G → cxK C (some (vI r)) G) (hX : ∀ q G, X q G → cxX C q G) {G : gS} {t0 : Nat} {x1 : Int32} (h : wp_X1_bestWagesByTable (cxA C) G t0 x1 X K) : gGo C G 0 [(0, vQ (some t0)), (1, vI x1)] [] := by
  unfold wp_X1_bestWagesByTable at h
  refine g_aload_n hC (pc := 0) 0 rfl rfl dX1_bestWagesByTable_0 ?_
  refine g_getQ hC (pc := 1) in_X1 (ci := 1) rfl 0 (by decide) q292 (Or.inl rfl) h dX1_bestWagesByTable_1 (fun q1 h => ?_)
  refine g_iload_n hC (pc := 4) 1 rfl rfl dX1_bestWagesByTable_4 ?_
  rcases q1 with _ | c2
  · exact (gNN0 h).elim
  replace h := gNN1 h
  obtain ⟨hi, h⟩ := h
  refine g_callV hC (pc := 5) (ci := 2) (As := [vI x1]) gc_X2_isGoblin (m_X2_isGoblin hC.fl h) rfl hi q1770 q1378 q1379 (gle rfl) (gle rfl) rfl (gle rfl) rfl dX1_bestWagesByTable_5 (gk_i fun r4 G3 h => ?_) (fun _ _ h hio => g_out0 hC (hX _ _ h) hio)
  refine g_callS hC (pc := 8) (b := 0) (As := [vI r4]) gc_X1_checkIndex (m_X1_checkIndex hC.fl h) q1714 q1715 (gle rfl) (gle rfl) rfl (gle rfl) rfl dX1_bestWagesByTable_8 (gk_v fun G5 h => ?_) (fun _ _ h hio => g_out0 hC (hX _ _ h) hio)
  refine g_aload_n hC (pc := 11) 0 rfl rfl dX1_bestWagesByTable_11 ?_
  refine g_getQ hC (pc := 12) in_X1 (ci := 1) rfl 0 (by decide) q292 (Or.inl rfl) h dX1_bestWagesByTable_12 (fun q6 h => ?_)
  refine g_iload_n hC (pc := 15) 1 rfl rfl dX1_bestWagesByTable_15 ?_
  rcases q6 with _ | c7
  · exact (gNN0 h).elim
  replace h := gNN1 h
  obtain ⟨hi, h⟩ := h
  refine g_callV hC (pc := 16) (ci := 2) (As := [vI x1]) gc_X2_bestWagesByTable (m_X2_bestWagesByTable hC.fl h) rfl hi q1846 q803 q804 (gle rfl) (gle rfl) rfl (gle rfl) rfl dX1_bestWagesByTable_16 (gk_i fun r9 G8 h => ?_) (fun _ _ h hio => g_out0 hC (hX _ _ h) hio)
  exact g_iret hC (pc := 19) (hK _ _ h) dX1_bestWagesByTable_19
theorem gc_X1_bestWagesByTable : gCode yX1_bestWagesByTable cX1_bestWagesByTable 2 (some .int) 1 := ⟨q1845, q94, ⟨by decide, by decide⟩, rfl⟩
theorem m_X1_bestWagesByTable {l : Launch} (hfl : l.stackTraces = false) {E : gE} {G : gS} {t0 : Nat} {x1 : Int32} {X : Nat → gS → Prop} {K : Int32 → gS → Prop} (h : wp_X1_bestWagesByTable (gAd E) G t0 x1 X K) : gMet l yX1_bestWagesByTable (ws_ yX1_bestWagesByTable cX1_bestWagesByTable 2 (some .int)) 9 240 [vQ (some t0), vI x1] E G (gRi K) X :=
  g_met hfl (plainFor_of_name (by decide +kernel)) rfl rfl rfl (gle rfl) (fun p e R s m args below meth c hC => w_X1_bestWagesByTable hC (fun _ _ h => h) (fun _ _ h => h) h)
def wp_X0_bestWagesByTable_12 (ad : Nat → Nat) (X : Nat → gS → Prop) (K : Int32 → gS → Prop) (G : gS) (ts0 : Nat) : Prop :=
  K (1 : Int32) G
theorem w_X0_bestWagesByTable_12 {C : gCx} (hC : gOk C "GoblinHouseholdLaw" cX0_bestWagesByTable [(0, 9, 12, 23)] (some .int) "bestWagesByTable" 4 10 269) {K : Int32 → gS → Prop} {X : Nat → gS → Prop} (hK : ∀ r G, K r G → cxK C (some (vI r)) G) (hX : ∀ q G, X q G → cxX C q G) {G : gS} {ts0 : Nat} (h : wp_X0_bestWagesByTable_12 (cxA C) X K G ts0) : gGo C G 12 [] [vQ (some ts0)] := by
  unfold wp_X0_bestWagesByTable_12 at h
  refine g_astore_n hC (pc := 12) (lv' := [(3, vQ (some ts0))]) rfl (by decide) rfl dX0_bestWagesByTable_12 ?_
  refine g_iconst hC (pc := 13) (v := (1 : Int32)) (by decide) dX0_bestWagesByTable_13 ?_
  exact g_iret hC (pc := 14) (hK _ _ h) dX0_bestWagesByTable_14
def wp_X0_bestWagesByTable (ad : Nat → Nat) (G : gS) (o0 : Option Nat) (x1 : Int32) (o2 : Option Nat) (X : Nat → gS → Prop) (K : Int32 → gS → Prop) : Prop :=
  wNN o0 fun c1 => (gIs G c1 1 ∧ wp_X1_bestWagesByTable ad G c1 x1 (fun y3 G4 => (gHas G4 y3 20 ∧ (wp_X0_bestWagesByTable_12 ad X K G4 y3))) (fun r5 G2 => wNN o2 fun c6 => wAstL G2 c6 (0 : Int32) ((r5).toInt64) fun G7 => K (0 : Int32) G7))
theorem w_X0_bestWagesByTable {C : gCx} (hC : gOk C "GoblinHouseholdLaw" cX0_bestWagesByTable [(0, 9, 12, 23)] (some .int) "bestWagesByTable" 4 10 269) {K : Int32 → gS → Prop} {X : Nat → gS → Prop} (hK : ∀ r G, K r G → cxK C (some (vI r)) G) (hX : ∀ q G, X q G → cxX C q G) {G : gS} {o0 : Option Nat} {x1 : Int32} {o2 : Option Nat} (h : wp_X0_bestWagesByTable (cxA C) G o0 x1 o2 X K) : gGo C G 0 [(0, vQ o0), (1, vI x1), (2, vQ o2)] [] := by
  unfold wp_X0_bestWagesByTable at h
  refine g_aload_n hC (pc := 0) 2 rfl rfl dX0_bestWagesByTable_0 ?_
  refine g_iconst hC (pc := 1) (v := (0 : Int32)) (by decide) dX0_bestWagesByTable_1 ?_
  refine g_aload_n hC (pc := 2) 0 rfl rfl dX0_bestWagesByTable_2 ?_
  refine g_iload_n hC (pc := 3) 1 rfl rfl dX0_bestWagesByTable_3 ?_
  rcases o0 with _ | c1
  · exact (gNN0 h).elim
  replace h := gNN1 h
  obtain ⟨hi, h⟩ := h
  refine g_callV hC (pc := 4) (ci := 1) (As := [vI x1]) gc_X1_bestWagesByTable (m_X1_bestWagesByTable hC.fl h) rfl hi q1842 q1843 q1844 (gle rfl) (gle rfl) rfl (gle rfl) rfl dX0_bestWagesByTable_4 (gk_i fun r5 G2 h => ?_) (fun y3 G4 h hio => ?_)
  · refine g_i2l hC (pc := 7) dX0_bestWagesByTable_7 ?_
    rcases o2 with _ | c6
    · exact (gNN0 h).elim
    replace h := gNN1 h
    refine g_astL hC (pc := 8) h dX0_bestWagesByTable_8 (fun G7 h => ?_)
    refine g_goto hC (pc := 9) 15 (by decide) dX0_bestWagesByTable_9 ?_
    refine g_iconst hC (pc := 15) (v := (0 : Int32)) (by decide) dX0_bestWagesByTable_15 ?_
    exact g_iret hC (pc := 16) (hK _ _ h) dX0_bestWagesByTable_16
  · obtain ⟨hq, h⟩ := h
    refine g_catchI hC (pc := 4) (ci := 20) rfl hq 0 rfl (fun _ h => nomatch h) rfl (by decide) q1312 (List.mem_of_getElem? (i := 2) rfl) rfl ?_
    exact g_sub [] rfl (w_X0_bestWagesByTable_12 hC hK hX h)
theorem gc_X0_bestWagesByTable : gCodeW yX0_bestWagesByTable cX0_bestWagesByTable 4 (some .int) [(0, 9, 12, 23)] 3 := ⟨q1841, q93, ⟨by decide, by decide⟩, rfl⟩
theorem m_X0_bestWagesByTable {l : Launch} (hfl : l.stackTraces = false) {E : gE} {G : gS} {o0 : Option Nat} {x1 : Int32} {o2 : Option Nat} {X : Nat → gS → Prop} {K : Int32 → gS → Prop} (h : wp_X0_bestWagesByTable (gAd E) G o0 x1 o2 X K) : gMet l yX0_bestWagesByTable (wsW_ yX0_bestWagesByTable cX0_bestWagesByTable 4 (some .int) [(0, 9, 12, 23)]) 10 269 [vQ o0, vI x1, vQ o2] E G (gRi K) X :=
  g_metW hfl (plainFor_of_name (by decide +kernel)) rfl rfl rfl (gle rfl) (fun p e R s m args below meth c hC => w_X0_bestWagesByTable hC (fun _ _ h => h) (fun _ _ h => h) h)
def wp_X3_bestWagesByTable (ad : Nat → Nat) (G : gS) (t0 : Nat) (x1 : Int32) (X : Nat → gS → Prop) (K : Int32 → gS → Prop) : Prop :=
  (gIs G t0 0 ∧ wp_X3_bestOf ad G t0 x1 X (fun r2 G1 => K r2 G1))
theorem w_X3_bestWagesByTable {C : gCx} (hC : gOk C "GoblinHouseholdModel" cX3_bestWagesByTable [] (some .int) "bestWagesByTable" 2 6 180) {K : Int32 → gS → Prop} {X : Nat → gS → Prop} (hK : ∀ r G, K r G → cxK C (some (vI r)) G) (hX : ∀ q G, X q G → cxX C q G) {G : gS} {t0 : Nat} {x1 : Int32} (h : wp_X3_bestWagesByTable (cxA C) G t0 x1 X K) : gGo C G 0 [(0, vQ (some t0)), (1, vI x1)] [] := by
  unfold wp_X3_bestWagesByTable at h
  refine g_aload_n hC (pc := 0) 0 rfl rfl dX3_bestWagesByTable_0 ?_
  refine g_iload_n hC (pc := 1) 1 rfl rfl dX3_bestWagesByTable_1 ?_
  obtain ⟨hi, h⟩ := h
  refine g_callV hC (pc := 2) (ci := 0) (As := [vI x1]) gc_X3_bestOf (m_X3_bestOf hC.fl h) rfl hi q2797 q2799 qs75 (gle rfl) (gle rfl) rfl (gle rfl) rfl dX3_bestWagesByTable_2 (gk_i fun r2 G1 h => ?_) (fun _ _ h hio => g_out0 hC (hX _ _ h) hio)
  exact g_iret hC (pc := 5) (hK _ _ h) dX3_bestWagesByTable_5
theorem gc_X3_bestWagesByTable : gCode yX3_bestWagesByTable cX3_bestWagesByTable 2 (some .int) 1 := ⟨q2804, q105, ⟨by decide, by decide⟩, rfl⟩
theorem m_X3_bestWagesByTable {l : Launch} (hfl : l.stackTraces = false) {E : gE} {G : gS} {t0 : Nat} {x1 : Int32} {X : Nat → gS → Prop} {K : Int32 → gS → Prop} (h : wp_X3_bestWagesByTable (gAd E) G t0 x1 X K) : gMet l yX3_bestWagesByTable (ws_ yX3_bestWagesByTable cX3_bestWagesByTable 2 (some .int)) 6 180 [vQ (some t0), vI x1] E G (gRi K) X :=
  g_met hfl (plainFor_of_name (by decide +kernel)) rfl rfl rfl (gle rfl) (fun p e R s m args below meth c hC => w_X3_bestWagesByTable hC (fun _ _ h => h) (fun _ _ h => h) h)
def wp_X1_openContracts (ad : Nat → Nat) (G : gS) (t0 : Nat) (X : Nat → gS → Prop) (K : Int32 → gS → Prop) : Prop :=
  wGetQ G t0 1 0 fun q1 => wNN q1 fun c2 => wGetQ G c2 2 3 fun q3 => wNN q3 fun c4 => (gIs G c4 3 ∧ wp_J2_size ad G c4  X (fun r6 G5 => K r6 G5))
theorem w_X1_openContracts {C : gCx} (hC : gOk C "GoblinHousehold" cX1_openContracts [] (some .int) "openContracts" 1 1 28) {K : Int32 → gS → Prop} {X : Nat → gS → Prop} (hK : ∀ r G, K r G → cxK C (some (vI r)) G) (hX : ∀ q G, X q G → cxX C q G) {G : gS} {t0 : Nat} (h : wp_X1_openContracts (cxA C) G t0 X K) : gGo C G 0 [(0, vQ (some t0))] [] := by
  unfold wp_X1_openContracts at h
  refine g_aload_n hC (pc := 0) 0 rfl rfl dX1_openContracts_0 ?_
  refine g_getQ hC (pc := 1) in_X1 (ci := 1) rfl 0 (by decide) q292 (Or.inl rfl) h dX1_openContracts_1 (fun q1 h => ?_)
  rcases q1 with _ | c2
  · exact (gNN0 h).elim
  replace h := gNN1 h
  refine g_getQN hC (pc := 4) in_X2 (ci := 2) rfl 3 (by decide) (List.mem_of_getElem? (i := 3) rfl) (Or.inl rfl) h dX1_openContracts_4 (fun q3 h => ?_)
  rcases q3 with _ | c4
  · exact (gNN0 h).elim
  replace h := gNN1 h
  obtain ⟨hi, h⟩ := h
  refine g_callF hC (pc := 7) (ci := 3) (As := []) gc_J2_size (m_J2_size hC.fl h) rfl hi q319 (List.mem_of_getElem? (i := 0) rfl) rfl q323 q325 (gle rfl) (gle rfl) rfl (gle rfl) rfl dX1_openContracts_7 (gk_i fun r6 G5 h => ?_) (fun _ _ h hio => g_out0 hC (hX _ _ h) hio)
  exact g_iret hC (pc := 12) (hK _ _ h) dX1_openContracts_12
theorem gc_X1_openContracts : gCode yX1_openContracts cX1_openContracts 1 (some .int) 0 := ⟨q341, q94, ⟨by decide, by decide⟩, rfl⟩
theorem m_X1_openContracts {l : Launch} (hfl : l.stackTraces = false) {E : gE} {G : gS} {t0 : Nat} {X : Nat → gS → Prop} {K : Int32 → gS → Prop} (h : wp_X1_openContracts (gAd E) G t0 X K) : gMet l yX1_openContracts (ws_ yX1_openContracts cX1_openContracts 1 (some .int)) 1 28 [vQ (some t0)] E G (gRi K) X :=
  g_met hfl (plainFor_of_name (by decide +kernel)) rfl rfl rfl (gle rfl) (fun p e R s m args below meth c hC => w_X1_openContracts hC (fun _ _ h => h) (fun _ _ h => h) h)
def wp_X3_openContracts (ad : Nat → Nat) (G : gS) (t0 : Nat) (X : Nat → gS → Prop) (K : Int32 → gS → Prop) : Prop :=
  wPut G t0 0 14 (.int (0 : Int32)) fun G1 => wGetQ G1 t0 0 0 fun q2 => wNN q2 fun c3 => wAldI G1 c3 (11 : Int32) fun i4 => K i4 G1
theorem w_X3_openContracts {C : gCx} (hC : gOk C "GoblinHouseholdModel" cX3_openContracts [] (some .int) "openContracts" 1 0 0) {K : Int32 → gS → Prop} {X : Nat → gS → Prop} (hK : ∀ r G, K r G → cxK C (some (vI r)) G) (hX : ∀ q G, X q G → cxX C q G) {G : gS} {t0 : Nat} (h : wp_X3_openContracts (cxA C) G t0 X K) : gGo C G 0 [(0, vQ (some t0))] [] := by
  unfold wp_X3_openContracts at h
  refine g_aload_n hC (pc := 0) 0 rfl rfl dX3_openContracts_0 ?_
  refine g_iconst hC (pc := 1) (v := (0 : Int32)) (by decide) dX3_openContracts_1 ?_
  refine g_put hC (pc := 2) in_X3 (ci := 0) rfl 14 (by decide) tyX3_ok nmX3 q2491 (Or.inl rfl) rfl rfl rfl h dX3_openContracts_2 (fun G1 h => ?_)
  refine g_aload_n hC (pc := 5) 0 rfl rfl dX3_openContracts_5 ?_
  refine g_getQ hC (pc := 6) in_X3 (ci := 0) rfl 0 (by decide) q2477 (Or.inl rfl) h dX3_openContracts_6 (fun q2 h => ?_)
  refine g_bipush hC (pc := 9) (v := (11 : Int32)) (by decide) dX3_openContracts_9 ?_
  rcases q2 with _ | c3
  · exact (gNN0 h).elim
  replace h := gNN1 h
  refine g_aldI hC (pc := 11) h dX3_openContracts_11 (fun i4 h => ?_)
  exact g_iret hC (pc := 12) (hK _ _ h) dX3_openContracts_12
theorem gc_X3_openContracts : gCode yX3_openContracts cX3_openContracts 1 (some .int) 0 := ⟨q2808, q105, ⟨by decide, by decide⟩, rfl⟩
theorem m_X3_openContracts {l : Launch} (hfl : l.stackTraces = false) {E : gE} {G : gS} {t0 : Nat} {X : Nat → gS → Prop} {K : Int32 → gS → Prop} (h : wp_X3_openContracts (gAd E) G t0 X K) : gMet l yX3_openContracts (ws_ yX3_openContracts cX3_openContracts 1 (some .int)) 0 0 [vQ (some t0)] E G (gRi K) X :=
  g_met hfl (plainFor_of_name (by decide +kernel)) rfl rfl rfl (gle rfl) (fun p e R s m args below meth c hC => w_X3_openContracts hC (fun _ _ h => h) (fun _ _ h => h) h)
def wp_X1_contractAt (ad : Nat → Nat) (G : gS) (t0 : Nat) (x1 : Int32) (X : Nat → gS → Prop) (K : Int32 → gS → Prop) : Prop :=
  (gIs G t0 1 ∧ wp_X1_openContracts ad G t0  X (fun r2 G1 => wp_X1_isBetween ad G1 x1 (0 : Int32) (r2 - (1 : Int32)) X (fun r4 G3 => wp_X1_checkElement ad G3 r4 X (fun G5 => wGetQ G5 t0 1 0 fun q6 => wNN q6 fun c7 => wGetQ G5 c7 2 3 fun q8 => wNN q8 fun c9 => (gIs G5 c9 3 ∧ wp_J2_get ad G5 c9 x1 X (fun q11 G10 => wCast G10 q11 [10] (wNN q11 fun c12 => wGetI G10 c12 10 0 fun i13 => K i13 G10)))))))
theorem w_X1_contractAt {C : gCx} (hC : gOk C "GoblinHousehold" cX1_contractAt [] (some .int) "contractAt" 2 9 240) {K : Int32 → gS → Prop} {X : Nat → gS → Prop} (hK : ∀ r G, K r G → cxK C (some (vI r)) G) (hX : ∀ q G, X q G → cxX C q G) {G : gS} {t0 : Nat} {x1 : Int32} (h : wp_X1_contractAt (cxA C) G t0 x1 X K) : gGo C G 0 [(0, vQ (some t0)), (1, vI x1)] [] := by
  unfold wp_X1_contractAt at h
  refine g_iload_n hC (pc := 0) 1 rfl rfl dX1_contractAt_0 ?_
  refine g_iconst hC (pc := 1) (v := (0 : Int32)) (by decide) dX1_contractAt_1 ?_
  refine g_aload_n hC (pc := 2) 0 rfl rfl dX1_contractAt_2 ?_
  obtain ⟨hi, h⟩ := h
  refine g_callV hC (pc := 3) (ci := 1) (As := []) gc_X1_openContracts (m_X1_openContracts hC.fl h) rfl hi q867 q339 q340 (gle rfl) (gle rfl) rfl (gle rfl) rfl dX1_contractAt_3 (gk_i fun r2 G1 h => ?_) (fun _ _ h hio => g_out0 hC (hX _ _ h) hio)
  refine g_iconst hC (pc := 6) (v := (1 : Int32)) (by decide) dX1_contractAt_6 ?_
  refine g_isub hC (pc := 7) dX1_contractAt_7 ?_
  refine g_callS hC (pc := 8) (b := 0) (As := [vI x1, vI (0 : Int32), vI (r2 - (1 : Int32))]) gc_X1_isBetween (m_X1_isBetween hC.fl h) q1713 q884 (gle rfl) (gle rfl) rfl (gle rfl) rfl dX1_contractAt_8 (gk_i fun r4 G3 h => ?_) (fun _ _ h hio => g_out0 hC (hX _ _ h) hio)
  refine g_callS hC (pc := 11) (b := 0) (As := [vI r4]) gc_X1_checkElement (m_X1_checkElement hC.fl h) q1733 q1734 (gle rfl) (gle rfl) rfl (gle rfl) rfl dX1_contractAt_11 (gk_v fun G5 h => ?_) (fun _ _ h hio => g_out0 hC (hX _ _ h) hio)
  refine g_aload_n hC (pc := 14) 0 rfl rfl dX1_contractAt_14 ?_
  refine g_getQ hC (pc := 15) in_X1 (ci := 1) rfl 0 (by decide) q292 (Or.inl rfl) h dX1_contractAt_15 (fun q6 h => ?_)
  rcases q6 with _ | c7
  · exact (gNN0 h).elim
  replace h := gNN1 h
  refine g_getQN hC (pc := 18) in_X2 (ci := 2) rfl 3 (by decide) (List.mem_of_getElem? (i := 3) rfl) (Or.inl rfl) h dX1_contractAt_18 (fun q8 h => ?_)
  refine g_iload_n hC (pc := 21) 1 rfl rfl dX1_contractAt_21 ?_
  rcases q8 with _ | c9
  · exact (gNN0 h).elim
  replace h := gNN1 h
  obtain ⟨hi, h⟩ := h
  refine g_callF hC (pc := 22) (ci := 3) (As := [vI x1]) gc_J2_get (m_J2_get hC.fl h) rfl hi q1065 (List.mem_of_getElem? (i := 2) rfl) rfl q364 q366 (gle rfl) (gle rfl) rfl (gle rfl) rfl dX1_contractAt_22 (gk_q fun q11 G10 h => ?_) (fun _ _ h hio => g_out0 hC (hX _ _ h) hio)
  refine g_cast hC (pc := 27) q1854 h (List.forall_mem_cons.mpr ⟨⟨_, rfl, Or.inr ⟨rfl, by decide⟩⟩, fun _ h => nomatch h⟩) dX1_contractAt_27 (fun h => ?_)
  rcases q11 with _ | c12
  · exact (gNN0 h).elim
  replace h := gNN1 h
  refine g_getIN hC (pc := 30) in_X10 (ci := 10) rfl 0 (by decide) (List.mem_of_getElem? (i := 19) rfl) (Or.inl rfl) h dX1_contractAt_30 (fun i13 h => ?_)
  exact g_iret hC (pc := 33) (hK _ _ h) dX1_contractAt_33
theorem gc_X1_contractAt : gCode yX1_contractAt cX1_contractAt 2 (some .int) 1 := ⟨q1853, q94, ⟨by decide, by decide⟩, rfl⟩
theorem m_X1_contractAt {l : Launch} (hfl : l.stackTraces = false) {E : gE} {G : gS} {t0 : Nat} {x1 : Int32} {X : Nat → gS → Prop} {K : Int32 → gS → Prop} (h : wp_X1_contractAt (gAd E) G t0 x1 X K) : gMet l yX1_contractAt (ws_ yX1_contractAt cX1_contractAt 2 (some .int)) 9 240 [vQ (some t0), vI x1] E G (gRi K) X :=
  g_met hfl (plainFor_of_name (by decide +kernel)) rfl rfl rfl (gle rfl) (fun p e R s m args below meth c hC => w_X1_contractAt hC (fun _ _ h => h) (fun _ _ h => h) h)
def wp_X0_contractAt_12 (ad : Nat → Nat) (X : Nat → gS → Prop) (K : Int32 → gS → Prop) (G : gS) (ts0 : Nat) : Prop :=
  K (1 : Int32) G
theorem w_X0_contractAt_12 {C : gCx} (hC : gOk C "GoblinHouseholdLaw" cX0_contractAt [(0, 9, 12, 37)] (some .int) "contractAt" 4 10 269) {K : Int32 → gS → Prop} {X : Nat → gS → Prop} (hK : ∀ r G, K r G → cxK C (some (vI r)) G) (hX : ∀ q G, X q G → cxX C q G) {G : gS} {ts0 : Nat} (h : wp_X0_contractAt_12 (cxA C) X K G ts0) : gGo C G 12 [] [vQ (some ts0)] := by
  unfold wp_X0_contractAt_12 at h
  refine g_astore_n hC (pc := 12) (lv' := [(3, vQ (some ts0))]) rfl (by decide) rfl dX0_contractAt_12 ?_
  refine g_iconst hC (pc := 13) (v := (1 : Int32)) (by decide) dX0_contractAt_13 ?_
  exact g_iret hC (pc := 14) (hK _ _ h) dX0_contractAt_14
def wp_X0_contractAt (ad : Nat → Nat) (G : gS) (o0 : Option Nat) (x1 : Int32) (o2 : Option Nat) (X : Nat → gS → Prop) (K : Int32 → gS → Prop) : Prop :=
  wNN o0 fun c1 => (gIs G c1 1 ∧ wp_X1_contractAt ad G c1 x1 (fun y3 G4 => (gHas G4 y3 23 ∧ (wp_X0_contractAt_12 ad X K G4 y3))) (fun r5 G2 => wNN o2 fun c6 => wAstL G2 c6 (0 : Int32) ((r5).toInt64) fun G7 => K (0 : Int32) G7))
theorem w_X0_contractAt {C : gCx} (hC : gOk C "GoblinHouseholdLaw" cX0_contractAt [(0, 9, 12, 37)] (some .int) "contractAt" 4 10 269) {K : Int32 → gS → Prop} {X : Nat → gS → Prop} (hK : ∀ r G, K r G → cxK C (some (vI r)) G) (hX : ∀ q G, X q G → cxX C q G) {G : gS} {o0 : Option Nat} {x1 : Int32} {o2 : Option Nat} (h : wp_X0_contractAt (cxA C) G o0 x1 o2 X K) : gGo C G 0 [(0, vQ o0), (1, vI x1), (2, vQ o2)] [] := by
  unfold wp_X0_contractAt at h
  refine g_aload_n hC (pc := 0) 2 rfl rfl dX0_contractAt_0 ?_
  refine g_iconst hC (pc := 1) (v := (0 : Int32)) (by decide) dX0_contractAt_1 ?_
  refine g_aload_n hC (pc := 2) 0 rfl rfl dX0_contractAt_2 ?_
  refine g_iload_n hC (pc := 3) 1 rfl rfl dX0_contractAt_3 ?_
  rcases o0 with _ | c1
  · exact (gNN0 h).elim
  replace h := gNN1 h
  obtain ⟨hi, h⟩ := h
  refine g_callV hC (pc := 4) (ci := 1) (As := [vI x1]) gc_X1_contractAt (m_X1_contractAt hC.fl h) rfl hi q1850 q1851 q1852 (gle rfl) (gle rfl) rfl (gle rfl) rfl dX0_contractAt_4 (gk_i fun r5 G2 h => ?_) (fun y3 G4 h hio => ?_)
  · refine g_i2l hC (pc := 7) dX0_contractAt_7 ?_
    rcases o2 with _ | c6
    · exact (gNN0 h).elim
    replace h := gNN1 h
    refine g_astL hC (pc := 8) h dX0_contractAt_8 (fun G7 h => ?_)
    refine g_goto hC (pc := 9) 15 (by decide) dX0_contractAt_9 ?_
    refine g_iconst hC (pc := 15) (v := (0 : Int32)) (by decide) dX0_contractAt_15 ?_
    exact g_iret hC (pc := 16) (hK _ _ h) dX0_contractAt_16
  · obtain ⟨hq, h⟩ := h
    refine g_catchI hC (pc := 4) (ci := 23) rfl hq 0 rfl (fun _ h => nomatch h) rfl (by decide) q1418 (List.mem_of_getElem? (i := 8) rfl) rfl ?_
    exact g_sub [] rfl (w_X0_contractAt_12 hC hK hX h)
theorem gc_X0_contractAt : gCodeW yX0_contractAt cX0_contractAt 4 (some .int) [(0, 9, 12, 37)] 3 := ⟨q1849, q93, ⟨by decide, by decide⟩, rfl⟩
theorem m_X0_contractAt {l : Launch} (hfl : l.stackTraces = false) {E : gE} {G : gS} {o0 : Option Nat} {x1 : Int32} {o2 : Option Nat} {X : Nat → gS → Prop} {K : Int32 → gS → Prop} (h : wp_X0_contractAt (gAd E) G o0 x1 o2 X K) : gMet l yX0_contractAt (wsW_ yX0_contractAt cX0_contractAt 4 (some .int) [(0, 9, 12, 37)]) 10 269 [vQ o0, vI x1, vQ o2] E G (gRi K) X :=
  g_metW hfl (plainFor_of_name (by decide +kernel)) rfl rfl rfl (gle rfl) (fun p e R s m args below meth c hC => w_X0_contractAt hC (fun _ _ h => h) (fun _ _ h => h) h)
def wp_X3_contractAt (ad : Nat → Nat) (G : gS) (t0 : Nat) (x1 : Int32) (X : Nat → gS → Prop) (K : Int32 → gS → Prop) : Prop :=
  wGetQ G t0 0 0 fun q1 => wNN q1 fun c2 => wAldI G c2 (11 : Int32) fun i3 => wp_X3_isIn ad G x1 (0 : Int32) (i3 - (1 : Int32)) X (fun r5 G4 => (gIs G4 t0 0 ∧ wp_X3_goes ad G4 t0 r5 X (fun r7 G6 => (r7 = (0 : Int32) → K (0 : Int32) G6) ∧ (¬ r7 = (0 : Int32) → (gIs G6 t0 0 ∧ wp_X3_ofContract ad G6 t0 x1 (0 : Int32) X (fun r9 G8 => K r9 G8))))))
theorem w_X3_contractAt {C : gCx} (hC : gOk C "GoblinHouseholdModel" cX3_contractAt [] (some .int) "contractAt" 2 2 61) {K : Int32 → gS → Prop} {X : Nat → gS → Prop} (hK : ∀ r G, K r G → cxK C (some (vI r)) G) (hX : ∀ q G, X q G → cxX C q G) {G : gS} {t0 : Nat} {x1 : Int32} (h : wp_X3_contractAt (cxA C) G t0 x1 X K) : gGo C G 0 [(0, vQ (some t0)), (1, vI x1)] [] := by
  unfold wp_X3_contractAt at h
  refine g_aload_n hC (pc := 0) 0 rfl rfl dX3_contractAt_0 ?_
  refine g_iload_n hC (pc := 1) 1 rfl rfl dX3_contractAt_1 ?_
  refine g_iconst hC (pc := 2) (v := (0 : Int32)) (by decide) dX3_contractAt_2 ?_
  refine g_aload_n hC (pc := 3) 0 rfl rfl dX3_contractAt_3 ?_
  refine g_getQ hC (pc := 4) in_X3 (ci := 0) rfl 0 (by decide) q2477 (Or.inl rfl) h dX3_contractAt_4 (fun q1 h => ?_)
  refine g_bipush hC (pc := 7) (v := (11 : Int32)) (by decide) dX3_contractAt_7 ?_
  rcases q1 with _ | c2
  · exact (gNN0 h).elim
  replace h := gNN1 h
  refine g_aldI hC (pc := 9) h dX3_contractAt_9 (fun i3 h => ?_)
  refine g_iconst hC (pc := 10) (v := (1 : Int32)) (by decide) dX3_contractAt_10 ?_
  refine g_isub hC (pc := 11) dX3_contractAt_11 ?_
  refine g_callS hC (pc := 12) (b := 0) (As := [vI x1, vI (0 : Int32), vI (i3 - (1 : Int32))]) gc_X3_isIn (m_X3_isIn hC.fl h) q2577 q2578 (gle rfl) (gle rfl) rfl (gle rfl) rfl dX3_contractAt_12 (gk_i fun r5 G4 h => ?_) (fun _ _ h hio => g_out0 hC (hX _ _ h) hio)
  obtain ⟨hi, h⟩ := h
  refine g_callV hC (pc := 15) (ci := 0) (As := [vI r5]) gc_X3_goes (m_X3_goes hC.fl h) rfl hi q2546 q2548 qs43 (gle rfl) (gle rfl) rfl (gle rfl) rfl dX3_contractAt_15 (gk_i fun r7 G6 h => ?_) (fun _ _ h hio => g_out0 hC (hX _ _ h) hio)
  refine g_if_eq hC (pc := 18) 30 h (by decide) dX3_contractAt_18 (fun h => ?_) (fun h => ?_)
  · refine g_iconst hC (pc := 30) (v := (0 : Int32)) (by decide) dX3_contractAt_30 ?_
    exact g_iret hC (pc := 31) (hK _ _ h) dX3_contractAt_31
  · refine g_aload_n hC (pc := 21) 0 rfl rfl dX3_contractAt_21 ?_
    refine g_iload_n hC (pc := 22) 1 rfl rfl dX3_contractAt_22 ?_
    refine g_iconst hC (pc := 23) (v := (0 : Int32)) (by decide) dX3_contractAt_23 ?_
    obtain ⟨hi, h⟩ := h
    refine g_callV hC (pc := 24) (ci := 0) (As := [vI x1, vI (0 : Int32)]) gc_X3_ofContract (m_X3_ofContract hC.fl h) rfl hi q2659 q2661 qs60 (gle rfl) (gle rfl) rfl (gle rfl) rfl dX3_contractAt_24 (gk_i fun r9 G8 h => ?_) (fun _ _ h hio => g_out0 hC (hX _ _ h) hio)
    refine g_goto hC (pc := 27) 31 (by decide) dX3_contractAt_27 ?_
    exact g_iret hC (pc := 31) (hK _ _ h) dX3_contractAt_31
theorem gc_X3_contractAt : gCode yX3_contractAt cX3_contractAt 2 (some .int) 1 := ⟨q2812, q105, ⟨by decide, by decide⟩, rfl⟩
theorem m_X3_contractAt {l : Launch} (hfl : l.stackTraces = false) {E : gE} {G : gS} {t0 : Nat} {x1 : Int32} {X : Nat → gS → Prop} {K : Int32 → gS → Prop} (h : wp_X3_contractAt (gAd E) G t0 x1 X K) : gMet l yX3_contractAt (ws_ yX3_contractAt cX3_contractAt 2 (some .int)) 2 61 [vQ (some t0), vI x1] E G (gRi K) X :=
  g_met hfl (plainFor_of_name (by decide +kernel)) rfl rfl rfl (gle rfl) (fun p e R s m args below meth c hC => w_X3_contractAt hC (fun _ _ h => h) (fun _ _ h => h) h)
def wp_X2_lambda_areContractsApart_0 (ad : Nat → Nat) (G : gS) (x0 : Int32) (x1 : Int32) (o2 : Option Nat) (X : Nat → gS → Prop) (K : Int32 → gS → Prop) : Prop :=
  wNN o2 fun c1 => wGetI G c1 10 1 fun i2 => (¬ i2 = x0 → K (0 : Int32) G) ∧ (i2 = x0 → wGetI G c1 10 2 fun i3 => (¬ i3 = x1 → K (0 : Int32) G) ∧ (i3 = x1 → K (1 : Int32) G))
theorem w_X2_lambda_areContractsApart_0 {C : gCx} (hC : gOk C "GoblinHousehold$Household" cX2_lambda_areContractsApart_0 [] (some .int) "lambda$areContractsApart$0" 3 0 0) {K : Int32 → gS → Prop} {X : Nat → gS → Prop} (hK : ∀ r G, K r G → cxK C (some (vI r)) G) (hX : ∀ q G, X q G → cxX C q G) {G : gS} {x0 : Int32} {x1 : Int32} {o2 : Option Nat} (h : wp_X2_lambda_areContractsApart_0 (cxA C) G x0 x1 o2 X K) : gGo C G 0 [(0, vI x0), (1, vI x1), (2, vQ o2)] [] := by
  unfold wp_X2_lambda_areContractsApart_0 at h
  refine g_aload_n hC (pc := 0) 2 rfl rfl dX2_lambda_areContractsApart_0_0 ?_
  rcases o2 with _ | c1
  · exact (gNN0 h).elim
  replace h := gNN1 h
  refine g_getIN hC (pc := 1) in_X10 (ci := 10) rfl 1 (by decide) (List.mem_of_getElem? (i := 20) rfl) (Or.inl rfl) h dX2_lambda_areContractsApart_0_1 (fun i2 h => ?_)
  refine g_iload_n hC (pc := 4) 0 rfl rfl dX2_lambda_areContractsApart_0_4 ?_
  refine g_icmp_ne hC (pc := 5) 20 h (by decide) dX2_lambda_areContractsApart_0_5 (fun h => ?_) (fun h => ?_)
  · refine g_iconst hC (pc := 20) (v := (0 : Int32)) (by decide) dX2_lambda_areContractsApart_0_20 ?_
    exact g_iret hC (pc := 21) (hK _ _ h) dX2_lambda_areContractsApart_0_21
  · refine g_aload_n hC (pc := 8) 2 rfl rfl dX2_lambda_areContractsApart_0_8 ?_
    refine g_getIN hC (pc := 9) in_X10 (ci := 10) rfl 2 (by decide) (List.mem_of_getElem? (i := 22) rfl) (Or.inl rfl) h dX2_lambda_areContractsApart_0_9 (fun i3 h => ?_)
    refine g_iload_n hC (pc := 12) 1 rfl rfl dX2_lambda_areContractsApart_0_12 ?_
    refine g_icmp_ne hC (pc := 13) 20 h (by decide) dX2_lambda_areContractsApart_0_13 (fun h => ?_) (fun h => ?_)
    · refine g_iconst hC (pc := 20) (v := (0 : Int32)) (by decide) dX2_lambda_areContractsApart_0_20 ?_
      exact g_iret hC (pc := 21) (hK _ _ h) dX2_lambda_areContractsApart_0_21
    · refine g_iconst hC (pc := 16) (v := (1 : Int32)) (by decide) dX2_lambda_areContractsApart_0_16 ?_
      refine g_goto hC (pc := 17) 21 (by decide) dX2_lambda_areContractsApart_0_17 ?_
      exact g_iret hC (pc := 21) (hK _ _ h) dX2_lambda_areContractsApart_0_21
theorem gc_X2_lambda_areContractsApart_0 : gCode yX2_lambda_areContractsApart_0 cX2_lambda_areContractsApart_0 3 (some .int) 3 := ⟨q812, q95, ⟨by decide, by decide⟩, rfl⟩
theorem m_X2_lambda_areContractsApart_0 {l : Launch} (hfl : l.stackTraces = false) {E : gE} {G : gS} {x0 : Int32} {x1 : Int32} {o2 : Option Nat} {X : Nat → gS → Prop} {K : Int32 → gS → Prop} (h : wp_X2_lambda_areContractsApart_0 (gAd E) G x0 x1 o2 X K) : gMet l yX2_lambda_areContractsApart_0 (ws_ yX2_lambda_areContractsApart_0 cX2_lambda_areContractsApart_0 3 (some .int)) 0 0 [vI x0, vI x1, vQ o2] E G (gRi K) X :=
  g_met hfl (plainFor_of_name (by decide +kernel)) rfl rfl rfl (gle rfl) (fun p e R s m args below meth c hC => w_X2_lambda_areContractsApart_0 hC (fun _ _ h => h) (fun _ _ h => h) h)
def wp_X1_lambda_goblinOf_12 (ad : Nat → Nat) (G : gS) (o0 : Option Nat) (X : Nat → gS → Prop) (K : Int32 → gS → Prop) : Prop :=
  wNN o0 fun c1 => wGetI G c1 10 1 fun i2 => K i2 G
theorem w_X1_lambda_goblinOf_12 {C : gCx} (hC : gOk C "GoblinHousehold" cX1_lambda_goblinOf_12 [] (some .int) "lambda$goblinOf$12" 1 0 0) {K : Int32 → gS → Prop} {X : Nat → gS → Prop} (hK : ∀ r G, K r G → cxK C (some (vI r)) G) (hX : ∀ q G, X q G → cxX C q G) {G : gS} {o0 : Option Nat} (h : wp_X1_lambda_goblinOf_12 (cxA C) G o0 X K) : gGo C G 0 [(0, vQ o0)] [] := by
  unfold wp_X1_lambda_goblinOf_12 at h
  refine g_aload_n hC (pc := 0) 0 rfl rfl dX1_lambda_goblinOf_12_0 ?_
  rcases o0 with _ | c1
  · exact (gNN0 h).elim
  replace h := gNN1 h
  refine g_getIN hC (pc := 1) in_X10 (ci := 10) rfl 1 (by decide) (List.mem_of_getElem? (i := 21) rfl) (Or.inl rfl) h dX1_lambda_goblinOf_12_1 (fun i2 h => ?_)
  exact g_iret hC (pc := 4) (hK _ _ h) dX1_lambda_goblinOf_12_4
theorem gc_X1_lambda_goblinOf_12 : gCode yX1_lambda_goblinOf_12 cX1_lambda_goblinOf_12 1 (some .int) 1 := ⟨q1863, q94, ⟨by decide, by decide⟩, rfl⟩
theorem m_X1_lambda_goblinOf_12 {l : Launch} (hfl : l.stackTraces = false) {E : gE} {G : gS} {o0 : Option Nat} {X : Nat → gS → Prop} {K : Int32 → gS → Prop} (h : wp_X1_lambda_goblinOf_12 (gAd E) G o0 X K) : gMet l yX1_lambda_goblinOf_12 (ws_ yX1_lambda_goblinOf_12 cX1_lambda_goblinOf_12 1 (some .int)) 0 0 [vQ o0] E G (gRi K) X :=
  g_met hfl (plainFor_of_name (by decide +kernel)) rfl rfl rfl (gle rfl) (fun p e R s m args below meth c hC => w_X1_lambda_goblinOf_12 hC (fun _ _ h => h) (fun _ _ h => h) h)
def wp_X1_lambda_roomOf_13 (ad : Nat → Nat) (G : gS) (o0 : Option Nat) (X : Nat → gS → Prop) (K : Int32 → gS → Prop) : Prop :=
  wNN o0 fun c1 => wGetI G c1 10 2 fun i2 => K i2 G
theorem w_X1_lambda_roomOf_13 {C : gCx} (hC : gOk C "GoblinHousehold" cX1_lambda_roomOf_13 [] (some .int) "lambda$roomOf$13" 1 0 0) {K : Int32 → gS → Prop} {X : Nat → gS → Prop} (hK : ∀ r G, K r G → cxK C (some (vI r)) G) (hX : ∀ q G, X q G → cxX C q G) {G : gS} {o0 : Option Nat} (h : wp_X1_lambda_roomOf_13 (cxA C) G o0 X K) : gGo C G 0 [(0, vQ o0)] [] := by
  unfold wp_X1_lambda_roomOf_13 at h
  refine g_aload_n hC (pc := 0) 0 rfl rfl dX1_lambda_roomOf_13_0 ?_
  rcases o0 with _ | c1
  · exact (gNN0 h).elim
  replace h := gNN1 h
  refine g_getIN hC (pc := 1) in_X10 (ci := 10) rfl 2 (by decide) (List.mem_of_getElem? (i := 23) rfl) (Or.inl rfl) h dX1_lambda_roomOf_13_1 (fun i2 h => ?_)
  exact g_iret hC (pc := 4) (hK _ _ h) dX1_lambda_roomOf_13_4
theorem gc_X1_lambda_roomOf_13 : gCode yX1_lambda_roomOf_13 cX1_lambda_roomOf_13 1 (some .int) 1 := ⟨q1879, q94, ⟨by decide, by decide⟩, rfl⟩
theorem m_X1_lambda_roomOf_13 {l : Launch} (hfl : l.stackTraces = false) {E : gE} {G : gS} {o0 : Option Nat} {X : Nat → gS → Prop} {K : Int32 → gS → Prop} (h : wp_X1_lambda_roomOf_13 (gAd E) G o0 X K) : gMet l yX1_lambda_roomOf_13 (ws_ yX1_lambda_roomOf_13 cX1_lambda_roomOf_13 1 (some .int)) 0 0 [vQ o0] E G (gRi K) X :=
  g_met hfl (plainFor_of_name (by decide +kernel)) rfl rfl rfl (gle rfl) (fun p e R s m args below meth c hC => w_X1_lambda_roomOf_13 hC (fun _ _ h => h) (fun _ _ h => h) h)
def wp_X1_lambda_wage_14 (ad : Nat → Nat) (G : gS) (o0 : Option Nat) (X : Nat → gS → Prop) (K : Int32 → gS → Prop) : Prop :=
  wNN o0 fun c1 => wGetI G c1 10 3 fun i2 => K i2 G
theorem w_X1_lambda_wage_14 {C : gCx} (hC : gOk C "GoblinHousehold" cX1_lambda_wage_14 [] (some .int) "lambda$wage$14" 1 0 0) {K : Int32 → gS → Prop} {X : Nat → gS → Prop} (hK : ∀ r G, K r G → cxK C (some (vI r)) G) (hX : ∀ q G, X q G → cxX C q G) {G : gS} {o0 : Option Nat} (h : wp_X1_lambda_wage_14 (cxA C) G o0 X K) : gGo C G 0 [(0, vQ o0)] [] := by
  unfold wp_X1_lambda_wage_14 at h
  refine g_aload_n hC (pc := 0) 0 rfl rfl dX1_lambda_wage_14_0 ?_
  rcases o0 with _ | c1
  · exact (gNN0 h).elim
  replace h := gNN1 h
  refine g_getIN hC (pc := 1) in_X10 (ci := 10) rfl 3 (by decide) (List.mem_of_getElem? (i := 26) rfl) (Or.inl rfl) h dX1_lambda_wage_14_1 (fun i2 h => ?_)
  exact g_iret hC (pc := 4) (hK _ _ h) dX1_lambda_wage_14_4
theorem gc_X1_lambda_wage_14 : gCode yX1_lambda_wage_14 cX1_lambda_wage_14 1 (some .int) 1 := ⟨q1888, q94, ⟨by decide, by decide⟩, rfl⟩
theorem m_X1_lambda_wage_14 {l : Launch} (hfl : l.stackTraces = false) {E : gE} {G : gS} {o0 : Option Nat} {X : Nat → gS → Prop} {K : Int32 → gS → Prop} (h : wp_X1_lambda_wage_14 (gAd E) G o0 X K) : gMet l yX1_lambda_wage_14 (ws_ yX1_lambda_wage_14 cX1_lambda_wage_14 1 (some .int)) 0 0 [vQ o0] E G (gRi K) X :=
  g_met hfl (plainFor_of_name (by decide +kernel)) rfl rfl rfl (gle rfl) (fun p e R s m args below meth c hC => w_X1_lambda_wage_14 hC (fun _ _ h => h) (fun _ _ h => h) h)
def wp_X1_lambda_effort_15 (ad : Nat → Nat) (G : gS) (o0 : Option Nat) (X : Nat → gS → Prop) (K : Int32 → gS → Prop) : Prop :=
  wNN o0 fun c1 => wGetI G c1 10 4 fun i2 => K i2 G
theorem w_X1_lambda_effort_15 {C : gCx} (hC : gOk C "GoblinHousehold" cX1_lambda_effort_15 [] (some .int) "lambda$effort$15" 1 0 0) {K : Int32 → gS → Prop} {X : Nat → gS → Prop} (hK : ∀ r G, K r G → cxK C (some (vI r)) G) (hX : ∀ q G, X q G → cxX C q G) {G : gS} {o0 : Option Nat} (h : wp_X1_lambda_effort_15 (cxA C) G o0 X K) : gGo C G 0 [(0, vQ o0)] [] := by
  unfold wp_X1_lambda_effort_15 at h
  refine g_aload_n hC (pc := 0) 0 rfl rfl dX1_lambda_effort_15_0 ?_
  rcases o0 with _ | c1
  · exact (gNN0 h).elim
  replace h := gNN1 h
  refine g_getIN hC (pc := 1) in_X10 (ci := 10) rfl 4 (by decide) (List.mem_of_getElem? (i := 29) rfl) (Or.inl rfl) h dX1_lambda_effort_15_1 (fun i2 h => ?_)
  exact g_iret hC (pc := 4) (hK _ _ h) dX1_lambda_effort_15_4
theorem gc_X1_lambda_effort_15 : gCode yX1_lambda_effort_15 cX1_lambda_effort_15 1 (some .int) 1 := ⟨q1897, q94, ⟨by decide, by decide⟩, rfl⟩
theorem m_X1_lambda_effort_15 {l : Launch} (hfl : l.stackTraces = false) {E : gE} {G : gS} {o0 : Option Nat} {X : Nat → gS → Prop} {K : Int32 → gS → Prop} (h : wp_X1_lambda_effort_15 (gAd E) G o0 X K) : gMet l yX1_lambda_effort_15 (ws_ yX1_lambda_effort_15 cX1_lambda_effort_15 1 (some .int)) 0 0 [vQ o0] E G (gRi K) X :=
  g_met hfl (plainFor_of_name (by decide +kernel)) rfl rfl rfl (gle rfl) (fun p e R s m args below meth c hC => w_X1_lambda_effort_15 hC (fun _ _ h => h) (fun _ _ h => h) h)
def wL_Question (ad : Nat → Nat) (G : gS) (a : Nat) (o : Option Nat) (X : Nat → gS → Prop) (K : Int32 → gS → Prop) : Prop :=
  (∃ x1 x2 : Int32, gIsL G a 0 [.int x1, .int x2] ∧ wp_X2_lambda_areContractsApart_0 ad G x1 x2 o X K) ∨ (gIsL G a 13 [] ∧ wp_X1_lambda_goblinOf_12 ad G  o X K) ∨ (gIsL G a 14 [] ∧ wp_X1_lambda_roomOf_13 ad G  o X K) ∨ (gIsL G a 15 [] ∧ wp_X1_lambda_wage_14 ad G  o X K) ∨ (gIsL G a 16 [] ∧ wp_X1_lambda_effort_15 ad G  o X K)
theorem g_callQuestion {C : gCx} {own : String} {cc : ByteArray} {hh : List (Nat × Nat × Nat × Nat)} {rt : Option FieldType} {nm : String} {nL F L : Nat} {G : gS} {pc : Nat} {lv : List (Nat × gV)} {st : List gV} (hC : gOk C own cc hh rt nm nL F L) {b index count : Nat} {o : Option Nat} {K : Int32 → gS → Prop} {X2 : Nat → gS → Prop} (h : wL_Question (cxA C) G b o X2 K) (hlink : Cond.methodLink own index ⟨"GoblinHousehold$Question", "ask", "(LGoblinHousehold$Contract;)I"⟩ ∈ lw_all) (hF : 2 ≤ F) (hL : 59 ≤ L) (hst : st.length ≤ 8) (hd : decode cc pc = .ok (.invokeinterface index count, 5)) (kk : ∀ r G, K r G → gGo C G (pc + 5) lv (vI r :: st)) (kx : ∀ q G, X2 q G → gIsO G q → gTh C G pc lv q) : gGo C G pc lv (vQ o :: vQ (some b) :: st) := by
  unfold wL_Question at h
  rcases h with h | h | h | h | h
  · obtain ⟨x1, x2, hl, h⟩ := h
    exact g_callL hC (q := gSite_0) (xs := [x1, x2]) (List.mem_of_getElem? (i := 0) rfl) lok_0 ldec_0 rfl rfl (by decide +kernel) (List.mem_of_getElem? (i := 1) rfl) (List.mem_of_getElem? (i := 9) rfl) q3057 q811 gc_X2_lambda_areContractsApart_0 (m_X2_lambda_areContractsApart_0 hC.fl h) rfl hl hlink rfl (Nat.le_trans (gle rfl) hF) (Nat.le_trans (gle rfl) hL) hst hd (gk_i kk) kx
  · obtain ⟨hl, h⟩ := h
    exact g_callL hC (q := gSite_13) (xs := []) (List.mem_of_getElem? (i := 13) rfl) lok_13 ldec_13 rfl rfl (by decide +kernel) (List.mem_of_getElem? (i := 1) rfl) (List.mem_of_getElem? (i := 9) rfl) q3057 q1862 gc_X1_lambda_goblinOf_12 (m_X1_lambda_goblinOf_12 hC.fl h) rfl hl hlink rfl (Nat.le_trans (gle rfl) hF) (Nat.le_trans (gle rfl) hL) hst hd (gk_i kk) kx
  · obtain ⟨hl, h⟩ := h
    exact g_callL hC (q := gSite_14) (xs := []) (List.mem_of_getElem? (i := 14) rfl) lok_14 ldec_14 rfl rfl (by decide +kernel) (List.mem_of_getElem? (i := 1) rfl) (List.mem_of_getElem? (i := 9) rfl) q3057 q1878 gc_X1_lambda_roomOf_13 (m_X1_lambda_roomOf_13 hC.fl h) rfl hl hlink rfl (Nat.le_trans (gle rfl) hF) (Nat.le_trans (gle rfl) hL) hst hd (gk_i kk) kx
  · obtain ⟨hl, h⟩ := h
    exact g_callL hC (q := gSite_15) (xs := []) (List.mem_of_getElem? (i := 15) rfl) lok_15 ldec_15 rfl rfl (by decide +kernel) (List.mem_of_getElem? (i := 1) rfl) (List.mem_of_getElem? (i := 9) rfl) q3057 q1887 gc_X1_lambda_wage_14 (m_X1_lambda_wage_14 hC.fl h) rfl hl hlink rfl (Nat.le_trans (gle rfl) hF) (Nat.le_trans (gle rfl) hL) hst hd (gk_i kk) kx
  · obtain ⟨hl, h⟩ := h
    exact g_callL hC (q := gSite_16) (xs := []) (List.mem_of_getElem? (i := 16) rfl) lok_16 ldec_16 rfl rfl (by decide +kernel) (List.mem_of_getElem? (i := 1) rfl) (List.mem_of_getElem? (i := 9) rfl) q3057 q1896 gc_X1_lambda_effort_15 (m_X1_lambda_effort_15 hC.fl h) rfl hl hlink rfl (Nat.le_trans (gle rfl) hF) (Nat.le_trans (gle rfl) hL) hst hd (gk_i kk) kx
def wp_X1_about_18 (ad : Nat → Nat) (X : Nat → gS → Prop) (K : Int32 → gS → Prop) (G : gS) (o2 : Option Nat) (o3 : Option Nat) (xs0 : Int32) : Prop :=
  wp_X1_checkElement ad G xs0 X (fun G1 => wNN o2 fun c2 => wL_Question ad G1 c2 o3 X (fun r4 G3 => K r4 G3))
theorem w_X1_about_18 {C : gCx} (hC : gOk C "GoblinHousehold" cX1_about [] (some .int) "about" 4 9 240) {K : Int32 → gS → Prop} {X : Nat → gS → Prop} (hK : ∀ r G, K r G → cxK C (some (vI r)) G) (hX : ∀ q G, X q G → cxX C q G) {G : gS} {o2 : Option Nat} {o3 : Option Nat} {xs0 : Int32} (h : wp_X1_about_18 (cxA C) X K G o2 o3 xs0) : gGo C G 18 [(2, vQ o2), (3, vQ o3)] [vI xs0] := by
  unfold wp_X1_about_18 at h
  refine g_callS hC (pc := 18) (b := 0) (As := [vI xs0]) gc_X1_checkElement (m_X1_checkElement hC.fl h) q1733 q1734 (gle rfl) (gle rfl) rfl (gle rfl) rfl dX1_about_18 (gk_v fun G1 h => ?_) (fun _ _ h hio => g_out0 hC (hX _ _ h) hio)
  refine g_aload_n hC (pc := 21) 0 rfl rfl dX1_about_21 ?_
  refine g_aload_n hC (pc := 22) 1 rfl rfl dX1_about_22 ?_
  rcases o2 with _ | c2
  · exact (gNN0 h).elim
  replace h := gNN1 h
  refine g_callQuestion hC (pc := 23) h q1870 (gle rfl) (gle rfl) (gle rfl) dX1_about_23 (fun r4 G3 h => ?_) (fun _ _ h hio => g_out0 hC (hX _ _ h) hio)
  exact g_iret hC (pc := 28) (hK _ _ h) dX1_about_28
def wp_X1_about (ad : Nat → Nat) (G : gS) (t0 : Nat) (x1 : Int32) (o2 : Option Nat) (X : Nat → gS → Prop) (K : Int32 → gS → Prop) : Prop :=
  wGetQ G t0 1 0 fun q1 => wNN q1 fun c2 => (gIs G c2 2 ∧ wp_X2_find ad G c2 x1 X (fun q4 G3 => (q4 = none → wp_X1_about_18 ad X K G3 o2 q4 (0 : Int32)) ∧ (∀ c5, q4 = some c5 → wp_X1_about_18 ad X K G3 o2 (some c5) (1 : Int32))))
theorem w_X1_about {C : gCx} (hC : gOk C "GoblinHousehold" cX1_about [] (some .int) "about" 4 9 240) {K : Int32 → gS → Prop} {X : Nat → gS → Prop} (hK : ∀ r G, K r G → cxK C (some (vI r)) G) (hX : ∀ q G, X q G → cxX C q G) {G : gS} {t0 : Nat} {x1 : Int32} {o2 : Option Nat} (h : wp_X1_about (cxA C) G t0 x1 o2 X K) : gGo C G 0 [(0, vQ (some t0)), (1, vI x1), (2, vQ o2)] [] := by
  unfold wp_X1_about at h
  refine g_aload_n hC (pc := 0) 0 rfl rfl dX1_about_0 ?_
  refine g_getQ hC (pc := 1) in_X1 (ci := 1) rfl 0 (by decide) q292 (Or.inl rfl) h dX1_about_1 (fun q1 h => ?_)
  refine g_iload_n hC (pc := 4) 1 rfl rfl dX1_about_4 ?_
  rcases q1 with _ | c2
  · exact (gNN0 h).elim
  replace h := gNN1 h
  obtain ⟨hi, h⟩ := h
  refine g_callV hC (pc := 5) (ci := 2) (As := [vI x1]) gc_X2_find (m_X2_find hC.fl h) rfl hi q1868 q1430 q1431 (gle rfl) (gle rfl) rfl (gle rfl) rfl dX1_about_5 (gk_q fun q4 G3 h => ?_) (fun _ _ h hio => g_out0 hC (hX _ _ h) hio)
  refine g_astore_n hC (pc := 8) (lv' := [(3, vQ q4), (0, vQ (some t0)), (1, vI x1), (2, vQ o2)]) rfl (by decide) rfl dX1_about_8 ?_
  refine g_aload_n hC (pc := 9) 0 rfl rfl dX1_about_9 ?_
  have hn := h; clear h
  refine g_ifnull hC (pc := 10) 17 (P := _) (Q := ¬ q4 = none) ⟨hn.1, id⟩ (by decide) dX1_about_10 (fun h => ?_) (fun e0 => ?_)
  · refine g_iconst hC (pc := 17) (v := (0 : Int32)) (by decide) dX1_about_17 ?_
    exact g_sub [3, 0] rfl (w_X1_about_18 hC hK hX h)
  · rcases q4 with _ | c5
    · exact absurd rfl e0
    have h := hn.2 _ rfl
    refine g_iconst hC (pc := 13) (v := (1 : Int32)) (by decide) dX1_about_13 ?_
    refine g_goto hC (pc := 14) 18 (by decide) dX1_about_14 ?_
    exact g_sub [3, 0] rfl (w_X1_about_18 hC hK hX h)
theorem gc_X1_about : gCode yX1_about cX1_about 4 (some .int) 2 := ⟨q1867, q94, ⟨by decide, by decide⟩, rfl⟩
theorem m_X1_about {l : Launch} (hfl : l.stackTraces = false) {E : gE} {G : gS} {t0 : Nat} {x1 : Int32} {o2 : Option Nat} {X : Nat → gS → Prop} {K : Int32 → gS → Prop} (h : wp_X1_about (gAd E) G t0 x1 o2 X K) : gMet l yX1_about (ws_ yX1_about cX1_about 4 (some .int)) 9 240 [vQ (some t0), vI x1, vQ o2] E G (gRi K) X :=
  g_met hfl (plainFor_of_name (by decide +kernel)) rfl rfl rfl (gle rfl) (fun p e R s m args below meth c hC => w_X1_about hC (fun _ _ h => h) (fun _ _ h => h) h)
def wp_X1_goblinOf (ad : Nat → Nat) (G : gS) (t0 : Nat) (x1 : Int32) (X : Nat → gS → Prop) (K : Int32 → gS → Prop) : Prop :=
  (gIs G t0 1 ∧ wp_X1_about ad G t0 x1 (some (ad 213)) X (fun r2 G1 => K r2 G1))
theorem w_X1_goblinOf {C : gCx} (hC : gOk C "GoblinHousehold" cX1_goblinOf [] (some .int) "goblinOf" 2 10 3088) (hN : gNm C yX1_goblinOf) {K : Int32 → gS → Prop} {X : Nat → gS → Prop} (hK : ∀ r G, K r G → cxK C (some (vI r)) G) (hX : ∀ q G, X q G → cxX C q G) {G : gS} {t0 : Nat} {x1 : Int32} (h : wp_X1_goblinOf (cxA C) G t0 x1 X K) : gGo C G 0 [(0, vQ (some t0)), (1, vI x1)] [] := by
  unfold wp_X1_goblinOf at h
  refine g_aload_n hC (pc := 0) 0 rfl rfl dX1_goblinOf_0 ?_
  refine g_iload_n hC (pc := 1) 1 rfl rfl dX1_goblinOf_1 ?_
  refine g_indyC hC (pc := 2) (q := gSite_13) hN (List.mem_of_getElem? (i := 13) rfl) rfl rfl (gle rfl) (gle rfl) dX1_goblinOf_2 ?_
  obtain ⟨hi, h⟩ := h
  refine g_callV hC (pc := 7) (ci := 1) (As := [vI x1, vQ (some (cxA C 213))]) gc_X1_about (m_X1_about hC.fl h) rfl hi q1864 q1866 qs27 (gle rfl) (gle rfl) rfl (gle rfl) rfl dX1_goblinOf_7 (gk_i fun r2 G1 h => ?_) (fun _ _ h hio => g_out0 hC (hX _ _ h) hio)
  exact g_iret hC (pc := 10) (hK _ _ h) dX1_goblinOf_10
theorem gc_X1_goblinOf : gCode yX1_goblinOf cX1_goblinOf 2 (some .int) 1 := ⟨q1861, q94, ⟨by decide, by decide⟩, rfl⟩
theorem m_X1_goblinOf {l : Launch} (hfl : l.stackTraces = false) {E : gE} {G : gS} {t0 : Nat} {x1 : Int32} {X : Nat → gS → Prop} {K : Int32 → gS → Prop} (h : wp_X1_goblinOf (gAd E) G t0 x1 X K) : gMet l yX1_goblinOf (ws_ yX1_goblinOf cX1_goblinOf 2 (some .int)) 10 3088 [vQ (some t0), vI x1] E G (gRi K) X :=
  g_metN hfl (plainFor_of_name (by decide +kernel)) rfl rfl rfl (gle rfl) (fun p e R s m args below meth c hC hN => w_X1_goblinOf hC hN (fun _ _ h => h) (fun _ _ h => h) h)
def wp_X0_goblinOf_12 (ad : Nat → Nat) (X : Nat → gS → Prop) (K : Int32 → gS → Prop) (G : gS) (ts0 : Nat) : Prop :=
  K (1 : Int32) G
theorem w_X0_goblinOf_12 {C : gCx} (hC : gOk C "GoblinHouseholdLaw" cX0_goblinOf [(0, 9, 12, 37)] (some .int) "goblinOf" 4 11 3117) {K : Int32 → gS → Prop} {X : Nat → gS → Prop} (hK : ∀ r G, K r G → cxK C (some (vI r)) G) (hX : ∀ q G, X q G → cxX C q G) {G : gS} {ts0 : Nat} (h : wp_X0_goblinOf_12 (cxA C) X K G ts0) : gGo C G 12 [] [vQ (some ts0)] := by
  unfold wp_X0_goblinOf_12 at h
  refine g_astore_n hC (pc := 12) (lv' := [(3, vQ (some ts0))]) rfl (by decide) rfl dX0_goblinOf_12 ?_
  refine g_iconst hC (pc := 13) (v := (1 : Int32)) (by decide) dX0_goblinOf_13 ?_
  exact g_iret hC (pc := 14) (hK _ _ h) dX0_goblinOf_14
def wp_X0_goblinOf (ad : Nat → Nat) (G : gS) (o0 : Option Nat) (x1 : Int32) (o2 : Option Nat) (X : Nat → gS → Prop) (K : Int32 → gS → Prop) : Prop :=
  wNN o0 fun c1 => (gIs G c1 1 ∧ wp_X1_goblinOf ad G c1 x1 (fun y3 G4 => (gHas G4 y3 23 ∧ (wp_X0_goblinOf_12 ad X K G4 y3))) (fun r5 G2 => wNN o2 fun c6 => wAstL G2 c6 (0 : Int32) ((r5).toInt64) fun G7 => K (0 : Int32) G7))
theorem w_X0_goblinOf {C : gCx} (hC : gOk C "GoblinHouseholdLaw" cX0_goblinOf [(0, 9, 12, 37)] (some .int) "goblinOf" 4 11 3117) {K : Int32 → gS → Prop} {X : Nat → gS → Prop} (hK : ∀ r G, K r G → cxK C (some (vI r)) G) (hX : ∀ q G, X q G → cxX C q G) {G : gS} {o0 : Option Nat} {x1 : Int32} {o2 : Option Nat} (h : wp_X0_goblinOf (cxA C) G o0 x1 o2 X K) : gGo C G 0 [(0, vQ o0), (1, vI x1), (2, vQ o2)] [] := by
  unfold wp_X0_goblinOf at h
  refine g_aload_n hC (pc := 0) 2 rfl rfl dX0_goblinOf_0 ?_
  refine g_iconst hC (pc := 1) (v := (0 : Int32)) (by decide) dX0_goblinOf_1 ?_
  refine g_aload_n hC (pc := 2) 0 rfl rfl dX0_goblinOf_2 ?_
  refine g_iload_n hC (pc := 3) 1 rfl rfl dX0_goblinOf_3 ?_
  rcases o0 with _ | c1
  · exact (gNN0 h).elim
  replace h := gNN1 h
  obtain ⟨hi, h⟩ := h
  refine g_callV hC (pc := 4) (ci := 1) (As := [vI x1]) gc_X1_goblinOf (m_X1_goblinOf hC.fl h) rfl hi q1858 q1859 q1860 (gle rfl) (gle rfl) rfl (gle rfl) rfl dX0_goblinOf_4 (gk_i fun r5 G2 h => ?_) (fun y3 G4 h hio => ?_)
  · refine g_i2l hC (pc := 7) dX0_goblinOf_7 ?_
    rcases o2 with _ | c6
    · exact (gNN0 h).elim
    replace h := gNN1 h
    refine g_astL hC (pc := 8) h dX0_goblinOf_8 (fun G7 h => ?_)
    refine g_goto hC (pc := 9) 15 (by decide) dX0_goblinOf_9 ?_
    refine g_iconst hC (pc := 15) (v := (0 : Int32)) (by decide) dX0_goblinOf_15 ?_
    exact g_iret hC (pc := 16) (hK _ _ h) dX0_goblinOf_16
  · obtain ⟨hq, h⟩ := h
    refine g_catchI hC (pc := 4) (ci := 23) rfl hq 0 rfl (fun _ h => nomatch h) rfl (by decide) q1418 (List.mem_of_getElem? (i := 8) rfl) rfl ?_
    exact g_sub [] rfl (w_X0_goblinOf_12 hC hK hX h)
theorem gc_X0_goblinOf : gCodeW yX0_goblinOf cX0_goblinOf 4 (some .int) [(0, 9, 12, 37)] 3 := ⟨q1857, q93, ⟨by decide, by decide⟩, rfl⟩
theorem m_X0_goblinOf {l : Launch} (hfl : l.stackTraces = false) {E : gE} {G : gS} {o0 : Option Nat} {x1 : Int32} {o2 : Option Nat} {X : Nat → gS → Prop} {K : Int32 → gS → Prop} (h : wp_X0_goblinOf (gAd E) G o0 x1 o2 X K) : gMet l yX0_goblinOf (wsW_ yX0_goblinOf cX0_goblinOf 4 (some .int) [(0, 9, 12, 37)]) 11 3117 [vQ o0, vI x1, vQ o2] E G (gRi K) X :=
  g_metW hfl (plainFor_of_name (by decide +kernel)) rfl rfl rfl (gle rfl) (fun p e R s m args below meth c hC => w_X0_goblinOf hC (fun _ _ h => h) (fun _ _ h => h) h)
def wp_X3_asksContract_17 (ad : Nat → Nat) (X : Nat → gS → Prop) (K : Int32 → gS → Prop) (G : gS) (t0 : Nat) (x2 : Int32) (x3 : Int32) (xs0 : Int32) (ts1 : Nat) : Prop :=
  (gIs G ts1 0 ∧ wp_X3_goes ad G ts1 xs0 X (fun r2 G1 => (r2 = (0 : Int32) → K (0 : Int32) G1) ∧ (¬ r2 = (0 : Int32) → (gIs G1 t0 0 ∧ wp_X3_ofContract ad G1 t0 x3 x2 X (fun r4 G3 => K r4 G3)))))
theorem w_X3_asksContract_17 {C : gCx} (hC : gOk C "GoblinHouseholdModel" cX3_asksContract [] (some .int) "asksContract" 4 2 61) {K : Int32 → gS → Prop} {X : Nat → gS → Prop} (hK : ∀ r G, K r G → cxK C (some (vI r)) G) (hX : ∀ q G, X q G → cxX C q G) {G : gS} {t0 : Nat} {x2 : Int32} {x3 : Int32} {xs0 : Int32} {ts1 : Nat} (h : wp_X3_asksContract_17 (cxA C) X K G t0 x2 x3 xs0 ts1) : gGo C G 17 [(0, vQ (some t0)), (2, vI x2), (3, vI x3)] [vI xs0, vQ (some ts1)] := by
  unfold wp_X3_asksContract_17 at h
  obtain ⟨hi, h⟩ := h
  refine g_callV hC (pc := 17) (ci := 0) (As := [vI xs0]) gc_X3_goes (m_X3_goes hC.fl h) rfl hi q2546 q2548 qs43 (gle rfl) (gle rfl) rfl (gle rfl) rfl dX3_asksContract_17 (gk_i fun r2 G1 h => ?_) (fun _ _ h hio => g_out0 hC (hX _ _ h) hio)
  refine g_if_eq hC (pc := 20) 32 h (by decide) dX3_asksContract_20 (fun h => ?_) (fun h => ?_)
  · refine g_iconst hC (pc := 32) (v := (0 : Int32)) (by decide) dX3_asksContract_32 ?_
    exact g_iret hC (pc := 33) (hK _ _ h) dX3_asksContract_33
  · refine g_aload_n hC (pc := 23) 0 rfl rfl dX3_asksContract_23 ?_
    refine g_iload_n hC (pc := 24) 2 rfl rfl dX3_asksContract_24 ?_
    refine g_iload_n hC (pc := 25) 1 rfl rfl dX3_asksContract_25 ?_
    obtain ⟨hi, h⟩ := h
    refine g_callV hC (pc := 26) (ci := 0) (As := [vI x3, vI x2]) gc_X3_ofContract (m_X3_ofContract hC.fl h) rfl hi q2659 q2661 qs60 (gle rfl) (gle rfl) rfl (gle rfl) rfl dX3_asksContract_26 (gk_i fun r4 G3 h => ?_) (fun _ _ h hio => g_out0 hC (hX _ _ h) hio)
    refine g_goto hC (pc := 29) 33 (by decide) dX3_asksContract_29 ?_
    exact g_iret hC (pc := 33) (hK _ _ h) dX3_asksContract_33
def wp_X3_asksContract (ad : Nat → Nat) (G : gS) (t0 : Nat) (x1 : Int32) (x2 : Int32) (X : Nat → gS → Prop) (K : Int32 → gS → Prop) : Prop :=
  (gIs G t0 0 ∧ wp_X3_find ad G t0 x1 X (fun r2 G1 => (r2 = (-1 : Int32) → wp_X3_asksContract_17 ad X K G1 t0 x2 r2 (0 : Int32) t0) ∧ (¬ r2 = (-1 : Int32) → wp_X3_asksContract_17 ad X K G1 t0 x2 r2 (1 : Int32) t0)))
theorem w_X3_asksContract {C : gCx} (hC : gOk C "GoblinHouseholdModel" cX3_asksContract [] (some .int) "asksContract" 4 2 61) {K : Int32 → gS → Prop} {X : Nat → gS → Prop} (hK : ∀ r G, K r G → cxK C (some (vI r)) G) (hX : ∀ q G, X q G → cxX C q G) {G : gS} {t0 : Nat} {x1 : Int32} {x2 : Int32} (h : wp_X3_asksContract (cxA C) G t0 x1 x2 X K) : gGo C G 0 [(0, vQ (some t0)), (1, vI x1), (2, vI x2)] [] := by
  unfold wp_X3_asksContract at h
  refine g_aload_n hC (pc := 0) 0 rfl rfl dX3_asksContract_0 ?_
  refine g_iload_n hC (pc := 1) 1 rfl rfl dX3_asksContract_1 ?_
  obtain ⟨hi, h⟩ := h
  refine g_callV hC (pc := 2) (ci := 0) (As := [vI x1]) gc_X3_find (m_X3_find hC.fl h) rfl hi q2671 q2673 qs62 (gle rfl) (gle rfl) rfl (gle rfl) rfl dX3_asksContract_2 (gk_i fun r2 G1 h => ?_) (fun _ _ h hio => g_out0 hC (hX _ _ h) hio)
  refine g_istore_n hC (pc := 5) (lv' := [(3, vI r2), (0, vQ (some t0)), (1, vI x1), (2, vI x2)]) rfl (by decide) rfl dX3_asksContract_5 ?_
  refine g_aload_n hC (pc := 6) 1 rfl rfl dX3_asksContract_6 ?_
  refine g_iload_n hC (pc := 7) 0 rfl rfl dX3_asksContract_7 ?_
  refine g_iconst hC (pc := 8) (v := (-1 : Int32)) (by decide) dX3_asksContract_8 ?_
  refine g_icmp_eq hC (pc := 9) 16 h (by decide) dX3_asksContract_9 (fun h => ?_) (fun h => ?_)
  · refine g_iconst hC (pc := 16) (v := (0 : Int32)) (by decide) dX3_asksContract_16 ?_
    exact g_sub [1, 3, 0] rfl (w_X3_asksContract_17 hC hK hX h)
  · refine g_iconst hC (pc := 12) (v := (1 : Int32)) (by decide) dX3_asksContract_12 ?_
    refine g_goto hC (pc := 13) 17 (by decide) dX3_asksContract_13 ?_
    exact g_sub [1, 3, 0] rfl (w_X3_asksContract_17 hC hK hX h)
theorem gc_X3_asksContract : gCode yX3_asksContract cX3_asksContract 4 (some .int) 2 := ⟨q2820, q105, ⟨by decide, by decide⟩, rfl⟩
theorem m_X3_asksContract {l : Launch} (hfl : l.stackTraces = false) {E : gE} {G : gS} {t0 : Nat} {x1 : Int32} {x2 : Int32} {X : Nat → gS → Prop} {K : Int32 → gS → Prop} (h : wp_X3_asksContract (gAd E) G t0 x1 x2 X K) : gMet l yX3_asksContract (ws_ yX3_asksContract cX3_asksContract 4 (some .int)) 2 61 [vQ (some t0), vI x1, vI x2] E G (gRi K) X :=
  g_met hfl (plainFor_of_name (by decide +kernel)) rfl rfl rfl (gle rfl) (fun p e R s m args below meth c hC => w_X3_asksContract hC (fun _ _ h => h) (fun _ _ h => h) h)
def wp_X3_goblinOf (ad : Nat → Nat) (G : gS) (t0 : Nat) (x1 : Int32) (X : Nat → gS → Prop) (K : Int32 → gS → Prop) : Prop :=
  (gIs G t0 0 ∧ wp_X3_asksContract ad G t0 x1 (1 : Int32) X (fun r2 G1 => K r2 G1))
theorem w_X3_goblinOf {C : gCx} (hC : gOk C "GoblinHouseholdModel" cX3_goblinOf [] (some .int) "goblinOf" 2 3 92) {K : Int32 → gS → Prop} {X : Nat → gS → Prop} (hK : ∀ r G, K r G → cxK C (some (vI r)) G) (hX : ∀ q G, X q G → cxX C q G) {G : gS} {t0 : Nat} {x1 : Int32} (h : wp_X3_goblinOf (cxA C) G t0 x1 X K) : gGo C G 0 [(0, vQ (some t0)), (1, vI x1)] [] := by
  unfold wp_X3_goblinOf at h
  refine g_aload_n hC (pc := 0) 0 rfl rfl dX3_goblinOf_0 ?_
  refine g_iload_n hC (pc := 1) 1 rfl rfl dX3_goblinOf_1 ?_
  refine g_iconst hC (pc := 2) (v := (1 : Int32)) (by decide) dX3_goblinOf_2 ?_
  obtain ⟨hi, h⟩ := h
  refine g_callV hC (pc := 3) (ci := 0) (As := [vI x1, vI (1 : Int32)]) gc_X3_asksContract (m_X3_asksContract hC.fl h) rfl hi q2817 q2819 qs76 (gle rfl) (gle rfl) rfl (gle rfl) rfl dX3_goblinOf_3 (gk_i fun r2 G1 h => ?_) (fun _ _ h hio => g_out0 hC (hX _ _ h) hio)
  exact g_iret hC (pc := 6) (hK _ _ h) dX3_goblinOf_6
theorem gc_X3_goblinOf : gCode yX3_goblinOf cX3_goblinOf 2 (some .int) 1 := ⟨q2816, q105, ⟨by decide, by decide⟩, rfl⟩
theorem m_X3_goblinOf {l : Launch} (hfl : l.stackTraces = false) {E : gE} {G : gS} {t0 : Nat} {x1 : Int32} {X : Nat → gS → Prop} {K : Int32 → gS → Prop} (h : wp_X3_goblinOf (gAd E) G t0 x1 X K) : gMet l yX3_goblinOf (ws_ yX3_goblinOf cX3_goblinOf 2 (some .int)) 3 92 [vQ (some t0), vI x1] E G (gRi K) X :=
  g_met hfl (plainFor_of_name (by decide +kernel)) rfl rfl rfl (gle rfl) (fun p e R s m args below meth c hC => w_X3_goblinOf hC (fun _ _ h => h) (fun _ _ h => h) h)
def wp_X1_roomOf (ad : Nat → Nat) (G : gS) (t0 : Nat) (x1 : Int32) (X : Nat → gS → Prop) (K : Int32 → gS → Prop) : Prop :=
  (gIs G t0 1 ∧ wp_X1_about ad G t0 x1 (some (ad 214)) X (fun r2 G1 => K r2 G1))
theorem w_X1_roomOf {C : gCx} (hC : gOk C "GoblinHousehold" cX1_roomOf [] (some .int) "roomOf" 2 10 3088) (hN : gNm C yX1_roomOf) {K : Int32 → gS → Prop} {X : Nat → gS → Prop} (hK : ∀ r G, K r G → cxK C (some (vI r)) G) (hX : ∀ q G, X q G → cxX C q G) {G : gS} {t0 : Nat} {x1 : Int32} (h : wp_X1_roomOf (cxA C) G t0 x1 X K) : gGo C G 0 [(0, vQ (some t0)), (1, vI x1)] [] := by
  unfold wp_X1_roomOf at h
  refine g_aload_n hC (pc := 0) 0 rfl rfl dX1_roomOf_0 ?_
  refine g_iload_n hC (pc := 1) 1 rfl rfl dX1_roomOf_1 ?_
  refine g_indyC hC (pc := 2) (q := gSite_14) hN (List.mem_of_getElem? (i := 14) rfl) rfl rfl (gle rfl) (gle rfl) dX1_roomOf_2 ?_
  obtain ⟨hi, h⟩ := h
  refine g_callV hC (pc := 7) (ci := 1) (As := [vI x1, vQ (some (cxA C 214))]) gc_X1_about (m_X1_about hC.fl h) rfl hi q1864 q1866 qs27 (gle rfl) (gle rfl) rfl (gle rfl) rfl dX1_roomOf_7 (gk_i fun r2 G1 h => ?_) (fun _ _ h hio => g_out0 hC (hX _ _ h) hio)
  exact g_iret hC (pc := 10) (hK _ _ h) dX1_roomOf_10
theorem gc_X1_roomOf : gCode yX1_roomOf cX1_roomOf 2 (some .int) 1 := ⟨q1877, q94, ⟨by decide, by decide⟩, rfl⟩
theorem m_X1_roomOf {l : Launch} (hfl : l.stackTraces = false) {E : gE} {G : gS} {t0 : Nat} {x1 : Int32} {X : Nat → gS → Prop} {K : Int32 → gS → Prop} (h : wp_X1_roomOf (gAd E) G t0 x1 X K) : gMet l yX1_roomOf (ws_ yX1_roomOf cX1_roomOf 2 (some .int)) 10 3088 [vQ (some t0), vI x1] E G (gRi K) X :=
  g_metN hfl (plainFor_of_name (by decide +kernel)) rfl rfl rfl (gle rfl) (fun p e R s m args below meth c hC hN => w_X1_roomOf hC hN (fun _ _ h => h) (fun _ _ h => h) h)
def wp_X0_roomOf_12 (ad : Nat → Nat) (X : Nat → gS → Prop) (K : Int32 → gS → Prop) (G : gS) (ts0 : Nat) : Prop :=
  K (1 : Int32) G
theorem w_X0_roomOf_12 {C : gCx} (hC : gOk C "GoblinHouseholdLaw" cX0_roomOf [(0, 9, 12, 37)] (some .int) "roomOf" 4 11 3117) {K : Int32 → gS → Prop} {X : Nat → gS → Prop} (hK : ∀ r G, K r G → cxK C (some (vI r)) G) (hX : ∀ q G, X q G → cxX C q G) {G : gS} {ts0 : Nat} (h : wp_X0_roomOf_12 (cxA C) X K G ts0) : gGo C G 12 [] [vQ (some ts0)] := by
  unfold wp_X0_roomOf_12 at h
  refine g_astore_n hC (pc := 12) (lv' := [(3, vQ (some ts0))]) rfl (by decide) rfl dX0_roomOf_12 ?_
  refine g_iconst hC (pc := 13) (v := (1 : Int32)) (by decide) dX0_roomOf_13 ?_
  exact g_iret hC (pc := 14) (hK _ _ h) dX0_roomOf_14
def wp_X0_roomOf (ad : Nat → Nat) (G : gS) (o0 : Option Nat) (x1 : Int32) (o2 : Option Nat) (X : Nat → gS → Prop) (K : Int32 → gS → Prop) : Prop :=
  wNN o0 fun c1 => (gIs G c1 1 ∧ wp_X1_roomOf ad G c1 x1 (fun y3 G4 => (gHas G4 y3 23 ∧ (wp_X0_roomOf_12 ad X K G4 y3))) (fun r5 G2 => wNN o2 fun c6 => wAstL G2 c6 (0 : Int32) ((r5).toInt64) fun G7 => K (0 : Int32) G7))
theorem w_X0_roomOf {C : gCx} (hC : gOk C "GoblinHouseholdLaw" cX0_roomOf [(0, 9, 12, 37)] (some .int) "roomOf" 4 11 3117) {K : Int32 → gS → Prop} {X : Nat → gS → Prop} (hK : ∀ r G, K r G → cxK C (some (vI r)) G) (hX : ∀ q G, X q G → cxX C q G) {G : gS} {o0 : Option Nat} {x1 : Int32} {o2 : Option Nat} (h : wp_X0_roomOf (cxA C) G o0 x1 o2 X K) : gGo C G 0 [(0, vQ o0), (1, vI x1), (2, vQ o2)] [] := by
  unfold wp_X0_roomOf at h
  refine g_aload_n hC (pc := 0) 2 rfl rfl dX0_roomOf_0 ?_
  refine g_iconst hC (pc := 1) (v := (0 : Int32)) (by decide) dX0_roomOf_1 ?_
  refine g_aload_n hC (pc := 2) 0 rfl rfl dX0_roomOf_2 ?_
  refine g_iload_n hC (pc := 3) 1 rfl rfl dX0_roomOf_3 ?_
  rcases o0 with _ | c1
  · exact (gNN0 h).elim
  replace h := gNN1 h
  obtain ⟨hi, h⟩ := h
  refine g_callV hC (pc := 4) (ci := 1) (As := [vI x1]) gc_X1_roomOf (m_X1_roomOf hC.fl h) rfl hi q1874 q1875 q1876 (gle rfl) (gle rfl) rfl (gle rfl) rfl dX0_roomOf_4 (gk_i fun r5 G2 h => ?_) (fun y3 G4 h hio => ?_)
  · refine g_i2l hC (pc := 7) dX0_roomOf_7 ?_
    rcases o2 with _ | c6
    · exact (gNN0 h).elim
    replace h := gNN1 h
    refine g_astL hC (pc := 8) h dX0_roomOf_8 (fun G7 h => ?_)
    refine g_goto hC (pc := 9) 15 (by decide) dX0_roomOf_9 ?_
    refine g_iconst hC (pc := 15) (v := (0 : Int32)) (by decide) dX0_roomOf_15 ?_
    exact g_iret hC (pc := 16) (hK _ _ h) dX0_roomOf_16
  · obtain ⟨hq, h⟩ := h
    refine g_catchI hC (pc := 4) (ci := 23) rfl hq 0 rfl (fun _ h => nomatch h) rfl (by decide) q1418 (List.mem_of_getElem? (i := 8) rfl) rfl ?_
    exact g_sub [] rfl (w_X0_roomOf_12 hC hK hX h)
theorem gc_X0_roomOf : gCodeW yX0_roomOf cX0_roomOf 4 (some .int) [(0, 9, 12, 37)] 3 := ⟨q1873, q93, ⟨by decide, by decide⟩, rfl⟩
theorem m_X0_roomOf {l : Launch} (hfl : l.stackTraces = false) {E : gE} {G : gS} {o0 : Option Nat} {x1 : Int32} {o2 : Option Nat} {X : Nat → gS → Prop} {K : Int32 → gS → Prop} (h : wp_X0_roomOf (gAd E) G o0 x1 o2 X K) : gMet l yX0_roomOf (wsW_ yX0_roomOf cX0_roomOf 4 (some .int) [(0, 9, 12, 37)]) 11 3117 [vQ o0, vI x1, vQ o2] E G (gRi K) X :=
  g_metW hfl (plainFor_of_name (by decide +kernel)) rfl rfl rfl (gle rfl) (fun p e R s m args below meth c hC => w_X0_roomOf hC (fun _ _ h => h) (fun _ _ h => h) h)
def wp_X3_roomOf (ad : Nat → Nat) (G : gS) (t0 : Nat) (x1 : Int32) (X : Nat → gS → Prop) (K : Int32 → gS → Prop) : Prop :=
  (gIs G t0 0 ∧ wp_X3_asksContract ad G t0 x1 (2 : Int32) X (fun r2 G1 => K r2 G1))
theorem w_X3_roomOf {C : gCx} (hC : gOk C "GoblinHouseholdModel" cX3_roomOf [] (some .int) "roomOf" 2 3 92) {K : Int32 → gS → Prop} {X : Nat → gS → Prop} (hK : ∀ r G, K r G → cxK C (some (vI r)) G) (hX : ∀ q G, X q G → cxX C q G) {G : gS} {t0 : Nat} {x1 : Int32} (h : wp_X3_roomOf (cxA C) G t0 x1 X K) : gGo C G 0 [(0, vQ (some t0)), (1, vI x1)] [] := by
  unfold wp_X3_roomOf at h
  refine g_aload_n hC (pc := 0) 0 rfl rfl dX3_roomOf_0 ?_
  refine g_iload_n hC (pc := 1) 1 rfl rfl dX3_roomOf_1 ?_
  refine g_iconst hC (pc := 2) (v := (2 : Int32)) (by decide) dX3_roomOf_2 ?_
  obtain ⟨hi, h⟩ := h
  refine g_callV hC (pc := 3) (ci := 0) (As := [vI x1, vI (2 : Int32)]) gc_X3_asksContract (m_X3_asksContract hC.fl h) rfl hi q2817 q2819 qs76 (gle rfl) (gle rfl) rfl (gle rfl) rfl dX3_roomOf_3 (gk_i fun r2 G1 h => ?_) (fun _ _ h hio => g_out0 hC (hX _ _ h) hio)
  exact g_iret hC (pc := 6) (hK _ _ h) dX3_roomOf_6
theorem gc_X3_roomOf : gCode yX3_roomOf cX3_roomOf 2 (some .int) 1 := ⟨q2824, q105, ⟨by decide, by decide⟩, rfl⟩
theorem m_X3_roomOf {l : Launch} (hfl : l.stackTraces = false) {E : gE} {G : gS} {t0 : Nat} {x1 : Int32} {X : Nat → gS → Prop} {K : Int32 → gS → Prop} (h : wp_X3_roomOf (gAd E) G t0 x1 X K) : gMet l yX3_roomOf (ws_ yX3_roomOf cX3_roomOf 2 (some .int)) 3 92 [vQ (some t0), vI x1] E G (gRi K) X :=
  g_met hfl (plainFor_of_name (by decide +kernel)) rfl rfl rfl (gle rfl) (fun p e R s m args below meth c hC => w_X3_roomOf hC (fun _ _ h => h) (fun _ _ h => h) h)
def wp_X1_wage (ad : Nat → Nat) (G : gS) (t0 : Nat) (x1 : Int32) (X : Nat → gS → Prop) (K : Int32 → gS → Prop) : Prop :=
  (gIs G t0 1 ∧ wp_X1_about ad G t0 x1 (some (ad 215)) X (fun r2 G1 => K r2 G1))
theorem w_X1_wage {C : gCx} (hC : gOk C "GoblinHousehold" cX1_wage [] (some .int) "wage" 2 10 3088) (hN : gNm C yX1_wage) {K : Int32 → gS → Prop} {X : Nat → gS → Prop} (hK : ∀ r G, K r G → cxK C (some (vI r)) G) (hX : ∀ q G, X q G → cxX C q G) {G : gS} {t0 : Nat} {x1 : Int32} (h : wp_X1_wage (cxA C) G t0 x1 X K) : gGo C G 0 [(0, vQ (some t0)), (1, vI x1)] [] := by
  unfold wp_X1_wage at h
  refine g_aload_n hC (pc := 0) 0 rfl rfl dX1_wage_0 ?_
  refine g_iload_n hC (pc := 1) 1 rfl rfl dX1_wage_1 ?_
  refine g_indyC hC (pc := 2) (q := gSite_15) hN (List.mem_of_getElem? (i := 15) rfl) rfl rfl (gle rfl) (gle rfl) dX1_wage_2 ?_
  obtain ⟨hi, h⟩ := h
  refine g_callV hC (pc := 7) (ci := 1) (As := [vI x1, vQ (some (cxA C 215))]) gc_X1_about (m_X1_about hC.fl h) rfl hi q1864 q1866 qs27 (gle rfl) (gle rfl) rfl (gle rfl) rfl dX1_wage_7 (gk_i fun r2 G1 h => ?_) (fun _ _ h hio => g_out0 hC (hX _ _ h) hio)
  exact g_iret hC (pc := 10) (hK _ _ h) dX1_wage_10
theorem gc_X1_wage : gCode yX1_wage cX1_wage 2 (some .int) 1 := ⟨q1886, q94, ⟨by decide, by decide⟩, rfl⟩
theorem m_X1_wage {l : Launch} (hfl : l.stackTraces = false) {E : gE} {G : gS} {t0 : Nat} {x1 : Int32} {X : Nat → gS → Prop} {K : Int32 → gS → Prop} (h : wp_X1_wage (gAd E) G t0 x1 X K) : gMet l yX1_wage (ws_ yX1_wage cX1_wage 2 (some .int)) 10 3088 [vQ (some t0), vI x1] E G (gRi K) X :=
  g_metN hfl (plainFor_of_name (by decide +kernel)) rfl rfl rfl (gle rfl) (fun p e R s m args below meth c hC hN => w_X1_wage hC hN (fun _ _ h => h) (fun _ _ h => h) h)
def wp_X0_wage_12 (ad : Nat → Nat) (X : Nat → gS → Prop) (K : Int32 → gS → Prop) (G : gS) (ts0 : Nat) : Prop :=
  K (1 : Int32) G
theorem w_X0_wage_12 {C : gCx} (hC : gOk C "GoblinHouseholdLaw" cX0_wage [(0, 9, 12, 37)] (some .int) "wage" 4 11 3117) {K : Int32 → gS → Prop} {X : Nat → gS → Prop} (hK : ∀ r G, K r G → cxK C (some (vI r)) G) (hX : ∀ q G, X q G → cxX C q G) {G : gS} {ts0 : Nat} (h : wp_X0_wage_12 (cxA C) X K G ts0) : gGo C G 12 [] [vQ (some ts0)] := by
  unfold wp_X0_wage_12 at h
  refine g_astore_n hC (pc := 12) (lv' := [(3, vQ (some ts0))]) rfl (by decide) rfl dX0_wage_12 ?_
  refine g_iconst hC (pc := 13) (v := (1 : Int32)) (by decide) dX0_wage_13 ?_
  exact g_iret hC (pc := 14) (hK _ _ h) dX0_wage_14
def wp_X0_wage (ad : Nat → Nat) (G : gS) (o0 : Option Nat) (x1 : Int32) (o2 : Option Nat) (X : Nat → gS → Prop) (K : Int32 → gS → Prop) : Prop :=
  wNN o0 fun c1 => (gIs G c1 1 ∧ wp_X1_wage ad G c1 x1 (fun y3 G4 => (gHas G4 y3 23 ∧ (wp_X0_wage_12 ad X K G4 y3))) (fun r5 G2 => wNN o2 fun c6 => wAstL G2 c6 (0 : Int32) ((r5).toInt64) fun G7 => K (0 : Int32) G7))
theorem w_X0_wage {C : gCx} (hC : gOk C "GoblinHouseholdLaw" cX0_wage [(0, 9, 12, 37)] (some .int) "wage" 4 11 3117) {K : Int32 → gS → Prop} {X : Nat → gS → Prop} (hK : ∀ r G, K r G → cxK C (some (vI r)) G) (hX : ∀ q G, X q G → cxX C q G) {G : gS} {o0 : Option Nat} {x1 : Int32} {o2 : Option Nat} (h : wp_X0_wage (cxA C) G o0 x1 o2 X K) : gGo C G 0 [(0, vQ o0), (1, vI x1), (2, vQ o2)] [] := by
  unfold wp_X0_wage at h
  refine g_aload_n hC (pc := 0) 2 rfl rfl dX0_wage_0 ?_
  refine g_iconst hC (pc := 1) (v := (0 : Int32)) (by decide) dX0_wage_1 ?_
  refine g_aload_n hC (pc := 2) 0 rfl rfl dX0_wage_2 ?_
  refine g_iload_n hC (pc := 3) 1 rfl rfl dX0_wage_3 ?_
  rcases o0 with _ | c1
  · exact (gNN0 h).elim
  replace h := gNN1 h
  obtain ⟨hi, h⟩ := h
  refine g_callV hC (pc := 4) (ci := 1) (As := [vI x1]) gc_X1_wage (m_X1_wage hC.fl h) rfl hi q1883 q1884 q1885 (gle rfl) (gle rfl) rfl (gle rfl) rfl dX0_wage_4 (gk_i fun r5 G2 h => ?_) (fun y3 G4 h hio => ?_)
  · refine g_i2l hC (pc := 7) dX0_wage_7 ?_
    rcases o2 with _ | c6
    · exact (gNN0 h).elim
    replace h := gNN1 h
    refine g_astL hC (pc := 8) h dX0_wage_8 (fun G7 h => ?_)
    refine g_goto hC (pc := 9) 15 (by decide) dX0_wage_9 ?_
    refine g_iconst hC (pc := 15) (v := (0 : Int32)) (by decide) dX0_wage_15 ?_
    exact g_iret hC (pc := 16) (hK _ _ h) dX0_wage_16
  · obtain ⟨hq, h⟩ := h
    refine g_catchI hC (pc := 4) (ci := 23) rfl hq 0 rfl (fun _ h => nomatch h) rfl (by decide) q1418 (List.mem_of_getElem? (i := 8) rfl) rfl ?_
    exact g_sub [] rfl (w_X0_wage_12 hC hK hX h)
theorem gc_X0_wage : gCodeW yX0_wage cX0_wage 4 (some .int) [(0, 9, 12, 37)] 3 := ⟨q1882, q93, ⟨by decide, by decide⟩, rfl⟩
theorem m_X0_wage {l : Launch} (hfl : l.stackTraces = false) {E : gE} {G : gS} {o0 : Option Nat} {x1 : Int32} {o2 : Option Nat} {X : Nat → gS → Prop} {K : Int32 → gS → Prop} (h : wp_X0_wage (gAd E) G o0 x1 o2 X K) : gMet l yX0_wage (wsW_ yX0_wage cX0_wage 4 (some .int) [(0, 9, 12, 37)]) 11 3117 [vQ o0, vI x1, vQ o2] E G (gRi K) X :=
  g_metW hfl (plainFor_of_name (by decide +kernel)) rfl rfl rfl (gle rfl) (fun p e R s m args below meth c hC => w_X0_wage hC (fun _ _ h => h) (fun _ _ h => h) h)
def wp_X3_wage (ad : Nat → Nat) (G : gS) (t0 : Nat) (x1 : Int32) (X : Nat → gS → Prop) (K : Int32 → gS → Prop) : Prop :=
  (gIs G t0 0 ∧ wp_X3_asksContract ad G t0 x1 (3 : Int32) X (fun r2 G1 => K r2 G1))
theorem w_X3_wage {C : gCx} (hC : gOk C "GoblinHouseholdModel" cX3_wage [] (some .int) "wage" 2 3 92) {K : Int32 → gS → Prop} {X : Nat → gS → Prop} (hK : ∀ r G, K r G → cxK C (some (vI r)) G) (hX : ∀ q G, X q G → cxX C q G) {G : gS} {t0 : Nat} {x1 : Int32} (h : wp_X3_wage (cxA C) G t0 x1 X K) : gGo C G 0 [(0, vQ (some t0)), (1, vI x1)] [] := by
  unfold wp_X3_wage at h
  refine g_aload_n hC (pc := 0) 0 rfl rfl dX3_wage_0 ?_
  refine g_iload_n hC (pc := 1) 1 rfl rfl dX3_wage_1 ?_
  refine g_iconst hC (pc := 2) (v := (3 : Int32)) (by decide) dX3_wage_2 ?_
  obtain ⟨hi, h⟩ := h
  refine g_callV hC (pc := 3) (ci := 0) (As := [vI x1, vI (3 : Int32)]) gc_X3_asksContract (m_X3_asksContract hC.fl h) rfl hi q2817 q2819 qs76 (gle rfl) (gle rfl) rfl (gle rfl) rfl dX3_wage_3 (gk_i fun r2 G1 h => ?_) (fun _ _ h hio => g_out0 hC (hX _ _ h) hio)
  exact g_iret hC (pc := 6) (hK _ _ h) dX3_wage_6
theorem gc_X3_wage : gCode yX3_wage cX3_wage 2 (some .int) 1 := ⟨q2828, q105, ⟨by decide, by decide⟩, rfl⟩
theorem m_X3_wage {l : Launch} (hfl : l.stackTraces = false) {E : gE} {G : gS} {t0 : Nat} {x1 : Int32} {X : Nat → gS → Prop} {K : Int32 → gS → Prop} (h : wp_X3_wage (gAd E) G t0 x1 X K) : gMet l yX3_wage (ws_ yX3_wage cX3_wage 2 (some .int)) 3 92 [vQ (some t0), vI x1] E G (gRi K) X :=
  g_met hfl (plainFor_of_name (by decide +kernel)) rfl rfl rfl (gle rfl) (fun p e R s m args below meth c hC => w_X3_wage hC (fun _ _ h => h) (fun _ _ h => h) h)
def wp_X1_effort (ad : Nat → Nat) (G : gS) (t0 : Nat) (x1 : Int32) (X : Nat → gS → Prop) (K : Int32 → gS → Prop) : Prop :=
  (gIs G t0 1 ∧ wp_X1_about ad G t0 x1 (some (ad 216)) X (fun r2 G1 => K r2 G1))
theorem w_X1_effort {C : gCx} (hC : gOk C "GoblinHousehold" cX1_effort [] (some .int) "effort" 2 10 3088) (hN : gNm C yX1_effort) {K : Int32 → gS → Prop} {X : Nat → gS → Prop} (hK : ∀ r G, K r G → cxK C (some (vI r)) G) (hX : ∀ q G, X q G → cxX C q G) {G : gS} {t0 : Nat} {x1 : Int32} (h : wp_X1_effort (cxA C) G t0 x1 X K) : gGo C G 0 [(0, vQ (some t0)), (1, vI x1)] [] := by
  unfold wp_X1_effort at h
  refine g_aload_n hC (pc := 0) 0 rfl rfl dX1_effort_0 ?_
  refine g_iload_n hC (pc := 1) 1 rfl rfl dX1_effort_1 ?_
  refine g_indyC hC (pc := 2) (q := gSite_16) hN (List.mem_of_getElem? (i := 16) rfl) rfl rfl (gle rfl) (gle rfl) dX1_effort_2 ?_
  obtain ⟨hi, h⟩ := h
  refine g_callV hC (pc := 7) (ci := 1) (As := [vI x1, vQ (some (cxA C 216))]) gc_X1_about (m_X1_about hC.fl h) rfl hi q1864 q1866 qs27 (gle rfl) (gle rfl) rfl (gle rfl) rfl dX1_effort_7 (gk_i fun r2 G1 h => ?_) (fun _ _ h hio => g_out0 hC (hX _ _ h) hio)
  exact g_iret hC (pc := 10) (hK _ _ h) dX1_effort_10
theorem gc_X1_effort : gCode yX1_effort cX1_effort 2 (some .int) 1 := ⟨q1895, q94, ⟨by decide, by decide⟩, rfl⟩
theorem m_X1_effort {l : Launch} (hfl : l.stackTraces = false) {E : gE} {G : gS} {t0 : Nat} {x1 : Int32} {X : Nat → gS → Prop} {K : Int32 → gS → Prop} (h : wp_X1_effort (gAd E) G t0 x1 X K) : gMet l yX1_effort (ws_ yX1_effort cX1_effort 2 (some .int)) 10 3088 [vQ (some t0), vI x1] E G (gRi K) X :=
  g_metN hfl (plainFor_of_name (by decide +kernel)) rfl rfl rfl (gle rfl) (fun p e R s m args below meth c hC hN => w_X1_effort hC hN (fun _ _ h => h) (fun _ _ h => h) h)
def wp_X0_effort_12 (ad : Nat → Nat) (X : Nat → gS → Prop) (K : Int32 → gS → Prop) (G : gS) (ts0 : Nat) : Prop :=
  K (1 : Int32) G
theorem w_X0_effort_12 {C : gCx} (hC : gOk C "GoblinHouseholdLaw" cX0_effort [(0, 9, 12, 37)] (some .int) "effort" 4 11 3117) {K : Int32 → gS → Prop} {X : Nat → gS → Prop} (hK : ∀ r G, K r G → cxK C (some (vI r)) G) (hX : ∀ q G, X q G → cxX C q G) {G : gS} {ts0 : Nat} (h : wp_X0_effort_12 (cxA C) X K G ts0) : gGo C G 12 [] [vQ (some ts0)] := by
  unfold wp_X0_effort_12 at h
  refine g_astore_n hC (pc := 12) (lv' := [(3, vQ (some ts0))]) rfl (by decide) rfl dX0_effort_12 ?_
  refine g_iconst hC (pc := 13) (v := (1 : Int32)) (by decide) dX0_effort_13 ?_
  exact g_iret hC (pc := 14) (hK _ _ h) dX0_effort_14
def wp_X0_effort (ad : Nat → Nat) (G : gS) (o0 : Option Nat) (x1 : Int32) (o2 : Option Nat) (X : Nat → gS → Prop) (K : Int32 → gS → Prop) : Prop :=
  wNN o0 fun c1 => (gIs G c1 1 ∧ wp_X1_effort ad G c1 x1 (fun y3 G4 => (gHas G4 y3 23 ∧ (wp_X0_effort_12 ad X K G4 y3))) (fun r5 G2 => wNN o2 fun c6 => wAstL G2 c6 (0 : Int32) ((r5).toInt64) fun G7 => K (0 : Int32) G7))
theorem w_X0_effort {C : gCx} (hC : gOk C "GoblinHouseholdLaw" cX0_effort [(0, 9, 12, 37)] (some .int) "effort" 4 11 3117) {K : Int32 → gS → Prop} {X : Nat → gS → Prop} (hK : ∀ r G, K r G → cxK C (some (vI r)) G) (hX : ∀ q G, X q G → cxX C q G) {G : gS} {o0 : Option Nat} {x1 : Int32} {o2 : Option Nat} (h : wp_X0_effort (cxA C) G o0 x1 o2 X K) : gGo C G 0 [(0, vQ o0), (1, vI x1), (2, vQ o2)] [] := by
  unfold wp_X0_effort at h
  refine g_aload_n hC (pc := 0) 2 rfl rfl dX0_effort_0 ?_
  refine g_iconst hC (pc := 1) (v := (0 : Int32)) (by decide) dX0_effort_1 ?_
  refine g_aload_n hC (pc := 2) 0 rfl rfl dX0_effort_2 ?_
  refine g_iload_n hC (pc := 3) 1 rfl rfl dX0_effort_3 ?_
  rcases o0 with _ | c1
  · exact (gNN0 h).elim
  replace h := gNN1 h
  obtain ⟨hi, h⟩ := h
  refine g_callV hC (pc := 4) (ci := 1) (As := [vI x1]) gc_X1_effort (m_X1_effort hC.fl h) rfl hi q1892 q1893 q1894 (gle rfl) (gle rfl) rfl (gle rfl) rfl dX0_effort_4 (gk_i fun r5 G2 h => ?_) (fun y3 G4 h hio => ?_)
  · refine g_i2l hC (pc := 7) dX0_effort_7 ?_
    rcases o2 with _ | c6
    · exact (gNN0 h).elim
    replace h := gNN1 h
    refine g_astL hC (pc := 8) h dX0_effort_8 (fun G7 h => ?_)
    refine g_goto hC (pc := 9) 15 (by decide) dX0_effort_9 ?_
    refine g_iconst hC (pc := 15) (v := (0 : Int32)) (by decide) dX0_effort_15 ?_
    exact g_iret hC (pc := 16) (hK _ _ h) dX0_effort_16
  · obtain ⟨hq, h⟩ := h
    refine g_catchI hC (pc := 4) (ci := 23) rfl hq 0 rfl (fun _ h => nomatch h) rfl (by decide) q1418 (List.mem_of_getElem? (i := 8) rfl) rfl ?_
    exact g_sub [] rfl (w_X0_effort_12 hC hK hX h)
theorem gc_X0_effort : gCodeW yX0_effort cX0_effort 4 (some .int) [(0, 9, 12, 37)] 3 := ⟨q1891, q93, ⟨by decide, by decide⟩, rfl⟩
theorem m_X0_effort {l : Launch} (hfl : l.stackTraces = false) {E : gE} {G : gS} {o0 : Option Nat} {x1 : Int32} {o2 : Option Nat} {X : Nat → gS → Prop} {K : Int32 → gS → Prop} (h : wp_X0_effort (gAd E) G o0 x1 o2 X K) : gMet l yX0_effort (wsW_ yX0_effort cX0_effort 4 (some .int) [(0, 9, 12, 37)]) 11 3117 [vQ o0, vI x1, vQ o2] E G (gRi K) X :=
  g_metW hfl (plainFor_of_name (by decide +kernel)) rfl rfl rfl (gle rfl) (fun p e R s m args below meth c hC => w_X0_effort hC (fun _ _ h => h) (fun _ _ h => h) h)
def wp_X3_effort (ad : Nat → Nat) (G : gS) (t0 : Nat) (x1 : Int32) (X : Nat → gS → Prop) (K : Int32 → gS → Prop) : Prop :=
  (gIs G t0 0 ∧ wp_X3_asksContract ad G t0 x1 (4 : Int32) X (fun r2 G1 => K r2 G1))
theorem w_X3_effort {C : gCx} (hC : gOk C "GoblinHouseholdModel" cX3_effort [] (some .int) "effort" 2 3 92) {K : Int32 → gS → Prop} {X : Nat → gS → Prop} (hK : ∀ r G, K r G → cxK C (some (vI r)) G) (hX : ∀ q G, X q G → cxX C q G) {G : gS} {t0 : Nat} {x1 : Int32} (h : wp_X3_effort (cxA C) G t0 x1 X K) : gGo C G 0 [(0, vQ (some t0)), (1, vI x1)] [] := by
  unfold wp_X3_effort at h
  refine g_aload_n hC (pc := 0) 0 rfl rfl dX3_effort_0 ?_
  refine g_iload_n hC (pc := 1) 1 rfl rfl dX3_effort_1 ?_
  refine g_iconst hC (pc := 2) (v := (4 : Int32)) (by decide) dX3_effort_2 ?_
  obtain ⟨hi, h⟩ := h
  refine g_callV hC (pc := 3) (ci := 0) (As := [vI x1, vI (4 : Int32)]) gc_X3_asksContract (m_X3_asksContract hC.fl h) rfl hi q2817 q2819 qs76 (gle rfl) (gle rfl) rfl (gle rfl) rfl dX3_effort_3 (gk_i fun r2 G1 h => ?_) (fun _ _ h hio => g_out0 hC (hX _ _ h) hio)
  exact g_iret hC (pc := 6) (hK _ _ h) dX3_effort_6
theorem gc_X3_effort : gCode yX3_effort cX3_effort 2 (some .int) 1 := ⟨q2832, q105, ⟨by decide, by decide⟩, rfl⟩
theorem m_X3_effort {l : Launch} (hfl : l.stackTraces = false) {E : gE} {G : gS} {t0 : Nat} {x1 : Int32} {X : Nat → gS → Prop} {K : Int32 → gS → Prop} (h : wp_X3_effort (gAd E) G t0 x1 X K) : gMet l yX3_effort (ws_ yX3_effort cX3_effort 2 (some .int)) 3 92 [vQ (some t0), vI x1] E G (gRi K) X :=
  g_met hfl (plainFor_of_name (by decide +kernel)) rfl rfl rfl (gle rfl) (fun p e R s m args below meth c hC => w_X3_effort hC (fun _ _ h => h) (fun _ _ h => h) h)
def wp_X2_goblinOf (ad : Nat → Nat) (G : gS) (t0 : Nat) (x1 : Int32) (X : Nat → gS → Prop) (K : Int32 → gS → Prop) : Prop :=
  (gIs G t0 2 ∧ wp_X2_find ad G t0 x1 X (fun q2 G1 => wNN q2 fun c3 => wGetI G1 c3 10 1 fun i4 => K i4 G1))
theorem w_X2_goblinOf {C : gCx} (hC : gOk C "GoblinHousehold$Household" cX2_goblinOf [] (some .int) "goblinOf" 2 4 119) {K : Int32 → gS → Prop} {X : Nat → gS → Prop} (hK : ∀ r G, K r G → cxK C (some (vI r)) G) (hX : ∀ q G, X q G → cxX C q G) {G : gS} {t0 : Nat} {x1 : Int32} (h : wp_X2_goblinOf (cxA C) G t0 x1 X K) : gGo C G 0 [(0, vQ (some t0)), (1, vI x1)] [] := by
  unfold wp_X2_goblinOf at h
  refine g_aload_n hC (pc := 0) 0 rfl rfl dX2_goblinOf_0 ?_
  refine g_iload_n hC (pc := 1) 1 rfl rfl dX2_goblinOf_1 ?_
  obtain ⟨hi, h⟩ := h
  refine g_callV hC (pc := 2) (ci := 2) (As := [vI x1]) gc_X2_find (m_X2_find hC.fl h) rfl hi q1429 q1430 q1431 (gle rfl) (gle rfl) rfl (gle rfl) rfl dX2_goblinOf_2 (gk_q fun q2 G1 h => ?_) (fun _ _ h hio => g_out0 hC (hX _ _ h) hio)
  rcases q2 with _ | c3
  · exact (gNN0 h).elim
  replace h := gNN1 h
  refine g_getIN hC (pc := 5) in_X10 (ci := 10) rfl 1 (by decide) (List.mem_of_getElem? (i := 20) rfl) (Or.inl rfl) h dX2_goblinOf_5 (fun i4 h => ?_)
  exact g_iret hC (pc := 8) (hK _ _ h) dX2_goblinOf_8
theorem gc_X2_goblinOf : gCode yX2_goblinOf cX2_goblinOf 2 (some .int) 1 := ⟨q1913, q95, ⟨by decide, by decide⟩, rfl⟩
theorem m_X2_goblinOf {l : Launch} (hfl : l.stackTraces = false) {E : gE} {G : gS} {t0 : Nat} {x1 : Int32} {X : Nat → gS → Prop} {K : Int32 → gS → Prop} (h : wp_X2_goblinOf (gAd E) G t0 x1 X K) : gMet l yX2_goblinOf (ws_ yX2_goblinOf cX2_goblinOf 2 (some .int)) 4 119 [vQ (some t0), vI x1] E G (gRi K) X :=
  g_met hfl (plainFor_of_name (by decide +kernel)) rfl rfl rfl (gle rfl) (fun p e R s m args below meth c hC => w_X2_goblinOf hC (fun _ _ h => h) (fun _ _ h => h) h)
def wp_X2_wasBroken (ad : Nat → Nat) (G : gS) (t0 : Nat) (x1 : Int32) (x2 : Int32) (X : Nat → gS → Prop) (K : Int32 → gS → Prop) : Prop :=
  wGetI G t0 2 10 fun i1 => (i1 ≤ x1 → K (0 : Int32) G) ∧ (¬ i1 ≤ x1 → wGetQ G t0 2 2 fun q2 => wNN q2 fun c3 => (gIs G c3 3 ∧ wp_J2_get ad G c3 x2 X (fun q5 G4 => wCast G4 q5 [9] (wNN q5 fun c6 => wGetI G4 c6 9 4 fun i7 => (i7 = (0 : Int32) → K (0 : Int32) G4) ∧ (¬ i7 = (0 : Int32) → K (1 : Int32) G4)))))
theorem w_X2_wasBroken {C : gCx} (hC : gOk C "GoblinHousehold$Household" cX2_wasBroken [] (some .boolean) "wasBroken" 3 3 88) {K : Int32 → gS → Prop} {X : Nat → gS → Prop} (hK : ∀ r G, K r G → cxK C (some (vI r)) G) (hX : ∀ q G, X q G → cxX C q G) {G : gS} {t0 : Nat} {x1 : Int32} {x2 : Int32} (h : wp_X2_wasBroken (cxA C) G t0 x1 x2 X K) : gGo C G 0 [(0, vQ (some t0)), (1, vI x1), (2, vI x2)] [] := by
  unfold wp_X2_wasBroken at h
  refine g_aload_n hC (pc := 0) 0 rfl rfl dX2_wasBroken_0 ?_
  refine g_getI hC (pc := 1) in_X2 (ci := 2) rfl 10 (by decide) q205 (Or.inl rfl) h dX2_wasBroken_1 (fun i1 h => ?_)
  refine g_iload_n hC (pc := 4) 1 rfl rfl dX2_wasBroken_4 ?_
  refine g_icmp_le hC (pc := 5) 31 h (by decide) dX2_wasBroken_5 (fun h => ?_) (fun h => ?_)
  · refine g_iconst hC (pc := 31) (v := (0 : Int32)) (by decide) dX2_wasBroken_31 ?_
    exact g_zret hC (pc := 32) rfl (hK _ _ h) dX2_wasBroken_32
  · refine g_aload_n hC (pc := 8) 0 rfl rfl dX2_wasBroken_8 ?_
    refine g_getQ hC (pc := 9) in_X2 (ci := 2) rfl 2 (by decide) q192 (Or.inl rfl) h dX2_wasBroken_9 (fun q2 h => ?_)
    refine g_iload_n hC (pc := 12) 2 rfl rfl dX2_wasBroken_12 ?_
    rcases q2 with _ | c3
    · exact (gNN0 h).elim
    replace h := gNN1 h
    obtain ⟨hi, h⟩ := h
    refine g_callF hC (pc := 13) (ci := 3) (As := [vI x2]) gc_J2_get (m_J2_get hC.fl h) rfl hi q361 (List.mem_of_getElem? (i := 2) rfl) rfl q364 q366 (gle rfl) (gle rfl) rfl (gle rfl) rfl dX2_wasBroken_13 (gk_q fun q5 G4 h => ?_) (fun _ _ h hio => g_out0 hC (hX _ _ h) hio)
    refine g_cast hC (pc := 18) q706 h (List.forall_mem_cons.mpr ⟨⟨_, rfl, Or.inr ⟨rfl, by decide⟩⟩, fun _ h => nomatch h⟩) dX2_wasBroken_18 (fun h => ?_)
    rcases q5 with _ | c6
    · exact (gNN0 h).elim
    replace h := gNN1 h
    refine g_getIN hC (pc := 21) in_X8 (ci := 9) rfl 4 (by decide) (List.mem_of_getElem? (i := 12) rfl) (Or.inl rfl) h dX2_wasBroken_21 (fun i7 h => ?_)
    refine g_if_eq hC (pc := 24) 31 h (by decide) dX2_wasBroken_24 (fun h => ?_) (fun h => ?_)
    · refine g_iconst hC (pc := 31) (v := (0 : Int32)) (by decide) dX2_wasBroken_31 ?_
      exact g_zret hC (pc := 32) rfl (hK _ _ h) dX2_wasBroken_32
    · refine g_iconst hC (pc := 27) (v := (1 : Int32)) (by decide) dX2_wasBroken_27 ?_
      refine g_goto hC (pc := 28) 32 (by decide) dX2_wasBroken_28 ?_
      exact g_zret hC (pc := 32) rfl (hK _ _ h) dX2_wasBroken_32
theorem gc_X2_wasBroken : gCode yX2_wasBroken cX2_wasBroken 3 (some .boolean) 2 := ⟨q1917, q95, ⟨by decide, by decide⟩, rfl⟩
theorem m_X2_wasBroken {l : Launch} (hfl : l.stackTraces = false) {E : gE} {G : gS} {t0 : Nat} {x1 : Int32} {x2 : Int32} {X : Nat → gS → Prop} {K : Int32 → gS → Prop} (h : wp_X2_wasBroken (gAd E) G t0 x1 x2 X K) : gMet l yX2_wasBroken (ws_ yX2_wasBroken cX2_wasBroken 3 (some .boolean)) 3 88 [vQ (some t0), vI x1, vI x2] E G (gRi K) X :=
  g_met hfl (plainFor_of_name (by decide +kernel)) rfl rfl rfl (gle rfl) (fun p e R s m args below meth c hC => w_X2_wasBroken hC (fun _ _ h => h) (fun _ _ h => h) h)
def wp_X2_nightsUntilDone_32 (ad : Nat → Nat) (X : Nat → gS → Prop) (K : Int32 → gS → Prop) (G : gS) (t0 : Nat) (x1 : Int32) (t2 : Nat) (x3 : Int32) (x4 : Int32) : Prop :=
  (gIs G t0 2 ∧ wp_X2_goblinOf ad G t0 x1 X (fun r2 G1 => (gIs G1 t2 2 ∧ wp_X2_wasBroken ad G1 t2 x4 r2 X (fun r4 G3 => (r4 = (0 : Int32) → K x3 G3) ∧ (¬ r4 = (0 : Int32) → K (-1 : Int32) G3)))))
theorem w_X2_nightsUntilDone_32 {C : gCx} (hC : gOk C "GoblinHousehold$Household" cX2_nightsUntilDone [] (some .int) "nightsUntilDone" 5 8 247) {K : Int32 → gS → Prop} {X : Nat → gS → Prop} (hK : ∀ r G, K r G → cxK C (some (vI r)) G) (hX : ∀ q G, X q G → cxX C q G) {G : gS} {t0 : Nat} {x1 : Int32} {t2 : Nat} {x3 : Int32} {x4 : Int32} (h : wp_X2_nightsUntilDone_32 (cxA C) X K G t0 x1 t2 x3 x4) : gGo C G 32 [(0, vQ (some t0)), (1, vI x1), (2, vQ (some t2)), (3, vI x3), (4, vI x4)] [] := by
  unfold wp_X2_nightsUntilDone_32 at h
  refine g_aload_n hC (pc := 32) 2 rfl rfl dX2_nightsUntilDone_32 ?_
  refine g_iload hC (pc := 33) 4 rfl dX2_nightsUntilDone_33 ?_
  refine g_aload_n hC (pc := 35) 0 rfl rfl dX2_nightsUntilDone_35 ?_
  refine g_iload_n hC (pc := 36) 1 rfl rfl dX2_nightsUntilDone_36 ?_
  obtain ⟨hi, h⟩ := h
  refine g_callV hC (pc := 37) (ci := 2) (As := [vI x1]) gc_X2_goblinOf (m_X2_goblinOf hC.fl h) rfl hi q1910 q1912 qs28 (gle rfl) (gle rfl) rfl (gle rfl) rfl dX2_nightsUntilDone_37 (gk_i fun r2 G1 h => ?_) (fun _ _ h hio => g_out0 hC (hX _ _ h) hio)
  obtain ⟨hi, h⟩ := h
  refine g_callV hC (pc := 40) (ci := 2) (As := [vI x4, vI r2]) gc_X2_wasBroken (m_X2_wasBroken hC.fl h) rfl hi q1914 q1916 qs29 (gle rfl) (gle rfl) rfl (gle rfl) rfl dX2_nightsUntilDone_40 (gk_i fun r4 G3 h => ?_) (fun _ _ h hio => g_out0 hC (hX _ _ h) hio)
  refine g_if_eq hC (pc := 43) 50 h (by decide) dX2_nightsUntilDone_43 (fun h => ?_) (fun h => ?_)
  · refine g_iload_n hC (pc := 50) 3 rfl rfl dX2_nightsUntilDone_50 ?_
    exact g_iret hC (pc := 51) (hK _ _ h) dX2_nightsUntilDone_51
  · refine g_iconst hC (pc := 46) (v := (-1 : Int32)) (by decide) dX2_nightsUntilDone_46 ?_
    refine g_goto hC (pc := 47) 51 (by decide) dX2_nightsUntilDone_47 ?_
    exact g_iret hC (pc := 51) (hK _ _ h) dX2_nightsUntilDone_51
def wp_X2_nightsUntilDone_7 (ad : Nat → Nat) (X : Nat → gS → Prop) (K : Int32 → gS → Prop) (J7 : gS → Nat → Int32 → Option Nat → Int32 → Prop) (G : gS) (t0 : Nat) (x1 : Int32) (o2 : Option Nat) (x3 : Int32) : Prop :=
  ((60 : Int32) < x3 → K (-1 : Int32) G) ∧ (¬ (60 : Int32) < x3 → wNN o2 fun c1 => wGetI G c1 2 10 fun i2 => (gIs G c1 2 ∧ wp_X2_pass ad G c1 (1 : Int32) X (fun G3 => (gIs G3 c1 2 ∧ wp_X2_find ad G3 c1 x1 X (fun q5 G4 => (q5 = none → wp_X2_nightsUntilDone_32 ad X K G4 t0 x1 c1 x3 i2) ∧ (∀ c6, q5 = some c6 → J7 G4 t0 x1 (some c1) (x3 + (1 : Int32))))))))
theorem w_X2_nightsUntilDone_7 {C : gCx} (hC : gOk C "GoblinHousehold$Household" cX2_nightsUntilDone [] (some .int) "nightsUntilDone" 5 8 247) {K : Int32 → gS → Prop} {X : Nat → gS → Prop} (hK : ∀ r G, K r G → cxK C (some (vI r)) G) (hX : ∀ q G, X q G → cxX C q G) (n : Nat) : ∀ (G : gS) (t0 : Nat) (x1 : Int32) (o2 : Option Nat) (x3 : Int32), gLoop (fun _ _ _ _ _ => False) (wp_X2_nightsUntilDone_7 (cxA C) X K) n G t0 x1 o2 x3 → gGo C G 7 [(0, vQ (some t0)), (1, vI x1), (2, vQ o2), (3, vI x3)] [] := by
  induction n with
  | zero => intro G t0 x1 o2 x3 h; exact h.elim
  | succ n ih =>
    intro G t0 x1 o2 x3 h
    have hJ7 := ih
    replace h : wp_X2_nightsUntilDone_7 (cxA C) X K _ G t0 x1 o2 x3 := h
    unfold wp_X2_nightsUntilDone_7 at h
    refine g_iload_n hC (pc := 7) 3 rfl rfl dX2_nightsUntilDone_7 ?_
    refine g_bipush hC (pc := 8) (v := (60 : Int32)) (by decide) dX2_nightsUntilDone_8 ?_
    refine g_icmp_gt hC (pc := 10) 58 h (by decide) dX2_nightsUntilDone_10 (fun h => ?_) (fun h => ?_)
    · refine g_iconst hC (pc := 58) (v := (-1 : Int32)) (by decide) dX2_nightsUntilDone_58 ?_
      exact g_iret hC (pc := 59) (hK _ _ h) dX2_nightsUntilDone_59
    · refine g_aload_n hC (pc := 13) 2 rfl rfl dX2_nightsUntilDone_13 ?_
      rcases o2 with _ | c1
      · exact (gNN0 h).elim
      replace h := gNN1 h
      refine g_getI hC (pc := 14) in_X2 (ci := 2) rfl 10 (by decide) q205 (Or.inl rfl) h dX2_nightsUntilDone_14 (fun i2 h => ?_)
      refine g_istore hC (pc := 17) (lv' := [(4, vI i2), (0, vQ (some t0)), (1, vI x1), (2, vQ (some c1)), (3, vI x3)]) (by decide) rfl dX2_nightsUntilDone_17 ?_
      refine g_aload_n hC (pc := 19) 3 rfl rfl dX2_nightsUntilDone_19 ?_
      refine g_iconst hC (pc := 20) (v := (1 : Int32)) (by decide) dX2_nightsUntilDone_20 ?_
      obtain ⟨hi, h⟩ := h
      refine g_callV hC (pc := 21) (ci := 2) (As := [vI (1 : Int32)]) gc_X2_pass (m_X2_pass hC.fl h) rfl hi q1633 q1634 q1635 (gle rfl) (gle rfl) rfl (gle rfl) rfl dX2_nightsUntilDone_21 (gk_v fun G3 h => ?_) (fun _ _ h hio => g_out0 hC (hX _ _ h) hio)
      refine g_aload_n hC (pc := 24) 3 rfl rfl dX2_nightsUntilDone_24 ?_
      refine g_iload_n hC (pc := 25) 2 rfl rfl dX2_nightsUntilDone_25 ?_
      obtain ⟨hi, h⟩ := h
      refine g_callV hC (pc := 26) (ci := 2) (As := [vI x1]) gc_X2_find (m_X2_find hC.fl h) rfl hi q1429 q1430 q1431 (gle rfl) (gle rfl) rfl (gle rfl) rfl dX2_nightsUntilDone_26 (gk_q fun q5 G4 h => ?_) (fun _ _ h hio => g_out0 hC (hX _ _ h) hio)
      have hn := h; clear h
      refine g_ifnonnull hC (pc := 29) 52 (P := ¬ q5 = none) (Q := _) ⟨id, hn.1⟩ (by decide) dX2_nightsUntilDone_29 (fun e0 => ?_) (fun h => ?_)
      · rcases q5 with _ | c6
        · exact absurd rfl e0
        have h := hn.2 _ rfl
        refine g_iinc hC (pc := 52) 4 (d := (1 : Int32)) (v := (x3 + (1 : Int32))) (lv' := [(3, vI (x3 + (1 : Int32))), (4, vI i2), (0, vQ (some t0)), (1, vI x1), (2, vQ (some c1))]) rfl (by decide) rfl (by decide) rfl dX2_nightsUntilDone_52 ?_
        refine g_goto hC (pc := 55) 7 (by decide) dX2_nightsUntilDone_55 ?_
        exact g_sub [2, 3, 4, 0] rfl (hJ7 _ _ _ _ _ h)
      · exact g_sub [1, 2, 3, 4, 0] rfl (w_X2_nightsUntilDone_32 hC hK hX h)
def wp_X2_nightsUntilDone (ad : Nat → Nat) (G : gS) (t0 : Nat) (x1 : Int32) (X : Nat → gS → Prop) (K : Int32 → gS → Prop) : Prop :=
  (gIs G t0 2 ∧ wp_X2_copy ad G t0  X (fun q2 G1 => gLoop (fun _ _ _ _ _ => False) (wp_X2_nightsUntilDone_7 ad X K) gFuel G1 t0 x1 q2 (1 : Int32)))
theorem w_X2_nightsUntilDone {C : gCx} (hC : gOk C "GoblinHousehold$Household" cX2_nightsUntilDone [] (some .int) "nightsUntilDone" 5 8 247) {K : Int32 → gS → Prop} {X : Nat → gS → Prop} (hK : ∀ r G, K r G → cxK C (some (vI r)) G) (hX : ∀ q G, X q G → cxX C q G) {G : gS} {t0 : Nat} {x1 : Int32} (h : wp_X2_nightsUntilDone (cxA C) G t0 x1 X K) : gGo C G 0 [(0, vQ (some t0)), (1, vI x1)] [] := by
  unfold wp_X2_nightsUntilDone at h
  refine g_aload_n hC (pc := 0) 0 rfl rfl dX2_nightsUntilDone_0 ?_
  obtain ⟨hi, h⟩ := h
  refine g_callV hC (pc := 1) (ci := 2) (As := []) gc_X2_copy (m_X2_copy hC.fl h) rfl hi q1909 q1055 q1056 (gle rfl) (gle rfl) rfl (gle rfl) rfl dX2_nightsUntilDone_1 (gk_q fun q2 G1 h => ?_) (fun _ _ h hio => g_out0 hC (hX _ _ h) hio)
  refine g_astore_n hC (pc := 4) (lv' := [(2, vQ q2), (0, vQ (some t0)), (1, vI x1)]) rfl (by decide) rfl dX2_nightsUntilDone_4 ?_
  refine g_iconst hC (pc := 5) (v := (1 : Int32)) (by decide) dX2_nightsUntilDone_5 ?_
  refine g_istore_n hC (pc := 6) (lv' := [(3, vI (1 : Int32)), (2, vQ q2), (0, vQ (some t0)), (1, vI x1)]) rfl (by decide) rfl dX2_nightsUntilDone_6 ?_
  exact g_sub [2, 3, 1, 0] rfl (w_X2_nightsUntilDone_7 hC hK hX gFuel _ _ _ _ _ h)
theorem gc_X2_nightsUntilDone : gCode yX2_nightsUntilDone cX2_nightsUntilDone 5 (some .int) 1 := ⟨q1908, q95, ⟨by decide, by decide⟩, rfl⟩
theorem m_X2_nightsUntilDone {l : Launch} (hfl : l.stackTraces = false) {E : gE} {G : gS} {t0 : Nat} {x1 : Int32} {X : Nat → gS → Prop} {K : Int32 → gS → Prop} (h : wp_X2_nightsUntilDone (gAd E) G t0 x1 X K) : gMet l yX2_nightsUntilDone (ws_ yX2_nightsUntilDone cX2_nightsUntilDone 5 (some .int)) 8 247 [vQ (some t0), vI x1] E G (gRi K) X :=
  g_met hfl (plainFor_of_name (by decide +kernel)) rfl rfl rfl (gle rfl) (fun p e R s m args below meth c hC => w_X2_nightsUntilDone hC (fun _ _ h => h) (fun _ _ h => h) h)
def wp_X1_checkState (ad : Nat → Nat) (G : gS) (x0 : Int32) (X : Nat → gS → Prop) (K : gS → Prop) : Prop :=
  (¬ x0 = (0 : Int32) → K G) ∧ (x0 = (0 : Int32) → wNew G 22 6 [.null, .null, .null, .null, .null, .int 0] fun c2 G1 => wp_J24_init ad G1 c2  X (fun G3 => wThrow G3 c2 X))
theorem w_X1_checkState {C : gCx} (hC : gOk C "GoblinHousehold" cX1_checkState [] none "checkState" 1 8 212) {K : gS → Prop} {X : Nat → gS → Prop} (hK : ∀ G, K G → cxK C none G) (hX : ∀ q G, X q G → cxX C q G) {G : gS} {x0 : Int32} (h : wp_X1_checkState (cxA C) G x0 X K) : gGo C G 0 [(0, vI x0)] [] := by
  unfold wp_X1_checkState at h
  refine g_iload_n hC (pc := 0) 0 rfl rfl dX1_checkState_0 ?_
  refine g_if_ne hC (pc := 1) 12 h (by decide) dX1_checkState_1 (fun h => ?_) (fun h => ?_)
  · exact g_vret hC (pc := 12) (hK _ h) dX1_checkState_12
  · refine g_new hC (pc := 4) in_J24 (ci := 22) rfl (by decide) tyJ24_ok q1921 q1171 q130 gdf_J24 h dX1_checkState_4 (fun c2 G1 h => ?_)
    refine g_dup hC (pc := 7) rfl dX1_checkState_7 ?_
    refine g_callI hC (pc := 8) (As := []) gc_J24_init (m_J24_init hC.fl h) rfl q1922 q1180 (gle rfl) (gle rfl) rfl (gle rfl) rfl dX1_checkState_8 (gk_v fun G3 h => ?_) (fun _ _ h hio => g_out0 hC (hX _ _ h) hio)
    exact g_athrow hC (pc := 11) dX1_checkState_11 h.1 (g_out0 hC (hX _ _ h.2) h.1)
theorem gc_X1_checkState : gCode yX1_checkState cX1_checkState 1 none 1 := ⟨q1920, q94, ⟨by decide, by decide⟩, rfl⟩
theorem m_X1_checkState {l : Launch} (hfl : l.stackTraces = false) {E : gE} {G : gS} {x0 : Int32} {X : Nat → gS → Prop} {K : gS → Prop} (h : wp_X1_checkState (gAd E) G x0 X K) : gMet l yX1_checkState (ws_ yX1_checkState cX1_checkState 1 none) 8 212 [vI x0] E G (gRv K) X :=
  g_met hfl (plainFor_of_name (by decide +kernel)) rfl rfl rfl (gle rfl) (fun p e R s m args below meth c hC => w_X1_checkState hC (fun _ h => h) (fun _ _ h => h) h)
def wp_X1_nightsUntilDone_38 (ad : Nat → Nat) (X : Nat → gS → Prop) (K : Int32 → gS → Prop) (G : gS) (x2 : Int32) (xs0 : Int32) : Prop :=
  wp_X1_checkState ad G xs0 X (fun G1 => K x2 G1)
theorem w_X1_nightsUntilDone_38 {C : gCx} (hC : gOk C "GoblinHousehold" cX1_nightsUntilDone [] (some .int) "nightsUntilDone" 3 9 279) {K : Int32 → gS → Prop} {X : Nat → gS → Prop} (hK : ∀ r G, K r G → cxK C (some (vI r)) G) (hX : ∀ q G, X q G → cxX C q G) {G : gS} {x2 : Int32} {xs0 : Int32} (h : wp_X1_nightsUntilDone_38 (cxA C) X K G x2 xs0) : gGo C G 38 [(2, vI x2)] [vI xs0] := by
  unfold wp_X1_nightsUntilDone_38 at h
  refine g_callS hC (pc := 38) (b := 0) (As := [vI xs0]) gc_X1_checkState (m_X1_checkState hC.fl h) q1918 q1919 (gle rfl) (gle rfl) rfl (gle rfl) rfl dX1_nightsUntilDone_38 (gk_v fun G1 h => ?_) (fun _ _ h hio => g_out0 hC (hX _ _ h) hio)
  refine g_iload_n hC (pc := 41) 0 rfl rfl dX1_nightsUntilDone_41 ?_
  exact g_iret hC (pc := 42) (hK _ _ h) dX1_nightsUntilDone_42
def wp_X1_nightsUntilDone_16 (ad : Nat → Nat) (X : Nat → gS → Prop) (K : Int32 → gS → Prop) (G : gS) (t0 : Nat) (x1 : Int32) (xs0 : Int32) : Prop :=
  wp_X1_checkElement ad G xs0 X (fun G1 => wGetQ G1 t0 1 0 fun q2 => wNN q2 fun c3 => (gIs G1 c3 2 ∧ wp_X2_nightsUntilDone ad G1 c3 x1 X (fun r5 G4 => (r5 = (-1 : Int32) → wp_X1_nightsUntilDone_38 ad X K G4 r5 (0 : Int32)) ∧ (¬ r5 = (-1 : Int32) → wp_X1_nightsUntilDone_38 ad X K G4 r5 (1 : Int32)))))
theorem w_X1_nightsUntilDone_16 {C : gCx} (hC : gOk C "GoblinHousehold" cX1_nightsUntilDone [] (some .int) "nightsUntilDone" 3 9 279) {K : Int32 → gS → Prop} {X : Nat → gS → Prop} (hK : ∀ r G, K r G → cxK C (some (vI r)) G) (hX : ∀ q G, X q G → cxX C q G) {G : gS} {t0 : Nat} {x1 : Int32} {xs0 : Int32} (h : wp_X1_nightsUntilDone_16 (cxA C) X K G t0 x1 xs0) : gGo C G 16 [(0, vQ (some t0)), (1, vI x1)] [vI xs0] := by
  unfold wp_X1_nightsUntilDone_16 at h
  refine g_callS hC (pc := 16) (b := 0) (As := [vI xs0]) gc_X1_checkElement (m_X1_checkElement hC.fl h) q1733 q1734 (gle rfl) (gle rfl) rfl (gle rfl) rfl dX1_nightsUntilDone_16 (gk_v fun G1 h => ?_) (fun _ _ h hio => g_out0 hC (hX _ _ h) hio)
  refine g_aload_n hC (pc := 19) 0 rfl rfl dX1_nightsUntilDone_19 ?_
  refine g_getQ hC (pc := 20) in_X1 (ci := 1) rfl 0 (by decide) q292 (Or.inl rfl) h dX1_nightsUntilDone_20 (fun q2 h => ?_)
  refine g_iload_n hC (pc := 23) 1 rfl rfl dX1_nightsUntilDone_23 ?_
  rcases q2 with _ | c3
  · exact (gNN0 h).elim
  replace h := gNN1 h
  obtain ⟨hi, h⟩ := h
  refine g_callV hC (pc := 24) (ci := 2) (As := [vI x1]) gc_X2_nightsUntilDone (m_X2_nightsUntilDone hC.fl h) rfl hi q1905 q1906 q1907 (gle rfl) (gle rfl) rfl (gle rfl) rfl dX1_nightsUntilDone_24 (gk_i fun r5 G4 h => ?_) (fun _ _ h hio => g_out0 hC (hX _ _ h) hio)
  refine g_istore_n hC (pc := 27) (lv' := [(2, vI r5), (0, vQ (some t0)), (1, vI x1)]) rfl (by decide) rfl dX1_nightsUntilDone_27 ?_
  refine g_iload_n hC (pc := 28) 0 rfl rfl dX1_nightsUntilDone_28 ?_
  refine g_iconst hC (pc := 29) (v := (-1 : Int32)) (by decide) dX1_nightsUntilDone_29 ?_
  refine g_icmp_eq hC (pc := 30) 37 h (by decide) dX1_nightsUntilDone_30 (fun h => ?_) (fun h => ?_)
  · refine g_iconst hC (pc := 37) (v := (0 : Int32)) (by decide) dX1_nightsUntilDone_37 ?_
    exact g_sub [0] rfl (w_X1_nightsUntilDone_38 hC hK hX h)
  · refine g_iconst hC (pc := 33) (v := (1 : Int32)) (by decide) dX1_nightsUntilDone_33 ?_
    refine g_goto hC (pc := 34) 38 (by decide) dX1_nightsUntilDone_34 ?_
    exact g_sub [0] rfl (w_X1_nightsUntilDone_38 hC hK hX h)
def wp_X1_nightsUntilDone (ad : Nat → Nat) (G : gS) (t0 : Nat) (x1 : Int32) (X : Nat → gS → Prop) (K : Int32 → gS → Prop) : Prop :=
  wGetQ G t0 1 0 fun q1 => wNN q1 fun c2 => (gIs G c2 2 ∧ wp_X2_find ad G c2 x1 X (fun q4 G3 => (q4 = none → wp_X1_nightsUntilDone_16 ad X K G3 t0 x1 (0 : Int32)) ∧ (∀ c5, q4 = some c5 → wp_X1_nightsUntilDone_16 ad X K G3 t0 x1 (1 : Int32))))
theorem w_X1_nightsUntilDone {C : gCx} (hC : gOk C "GoblinHousehold" cX1_nightsUntilDone [] (some .int) "nightsUntilDone" 3 9 279) {K : Int32 → gS → Prop} {X : Nat → gS → Prop} (hK : ∀ r G, K r G → cxK C (some (vI r)) G) (hX : ∀ q G, X q G → cxX C q G) {G : gS} {t0 : Nat} {x1 : Int32} (h : wp_X1_nightsUntilDone (cxA C) G t0 x1 X K) : gGo C G 0 [(0, vQ (some t0)), (1, vI x1)] [] := by
  unfold wp_X1_nightsUntilDone at h
  refine g_aload_n hC (pc := 0) 0 rfl rfl dX1_nightsUntilDone_0 ?_
  refine g_getQ hC (pc := 1) in_X1 (ci := 1) rfl 0 (by decide) q292 (Or.inl rfl) h dX1_nightsUntilDone_1 (fun q1 h => ?_)
  refine g_iload_n hC (pc := 4) 1 rfl rfl dX1_nightsUntilDone_4 ?_
  rcases q1 with _ | c2
  · exact (gNN0 h).elim
  replace h := gNN1 h
  obtain ⟨hi, h⟩ := h
  refine g_callV hC (pc := 5) (ci := 2) (As := [vI x1]) gc_X2_find (m_X2_find hC.fl h) rfl hi q1868 q1430 q1431 (gle rfl) (gle rfl) rfl (gle rfl) rfl dX1_nightsUntilDone_5 (gk_q fun q4 G3 h => ?_) (fun _ _ h hio => g_out0 hC (hX _ _ h) hio)
  have hn := h; clear h
  refine g_ifnull hC (pc := 8) 15 (P := _) (Q := ¬ q4 = none) ⟨hn.1, id⟩ (by decide) dX1_nightsUntilDone_8 (fun h => ?_) (fun e0 => ?_)
  · refine g_iconst hC (pc := 15) (v := (0 : Int32)) (by decide) dX1_nightsUntilDone_15 ?_
    exact g_sub [0, 1] rfl (w_X1_nightsUntilDone_16 hC hK hX h)
  · rcases q4 with _ | c5
    · exact absurd rfl e0
    have h := hn.2 _ rfl
    refine g_iconst hC (pc := 11) (v := (1 : Int32)) (by decide) dX1_nightsUntilDone_11 ?_
    refine g_goto hC (pc := 12) 16 (by decide) dX1_nightsUntilDone_12 ?_
    exact g_sub [0, 1] rfl (w_X1_nightsUntilDone_16 hC hK hX h)
theorem gc_X1_nightsUntilDone : gCode yX1_nightsUntilDone cX1_nightsUntilDone 3 (some .int) 1 := ⟨q1904, q94, ⟨by decide, by decide⟩, rfl⟩
theorem m_X1_nightsUntilDone {l : Launch} (hfl : l.stackTraces = false) {E : gE} {G : gS} {t0 : Nat} {x1 : Int32} {X : Nat → gS → Prop} {K : Int32 → gS → Prop} (h : wp_X1_nightsUntilDone (gAd E) G t0 x1 X K) : gMet l yX1_nightsUntilDone (ws_ yX1_nightsUntilDone cX1_nightsUntilDone 3 (some .int)) 9 279 [vQ (some t0), vI x1] E G (gRi K) X :=
  g_met hfl (plainFor_of_name (by decide +kernel)) rfl rfl rfl (gle rfl) (fun p e R s m args below meth c hC => w_X1_nightsUntilDone hC (fun _ _ h => h) (fun _ _ h => h) h)
def wp_X0_nightsUntilDone_12 (ad : Nat → Nat) (X : Nat → gS → Prop) (K : Int32 → gS → Prop) (G : gS) (ts0 : Nat) : Prop :=
  K (1 : Int32) G
theorem w_X0_nightsUntilDone_12 {C : gCx} (hC : gOk C "GoblinHouseholdLaw" cX0_nightsUntilDone [(0, 9, 12, 37), (0, 9, 15, 15)] (some .int) "nightsUntilDone" 4 10 309) {K : Int32 → gS → Prop} {X : Nat → gS → Prop} (hK : ∀ r G, K r G → cxK C (some (vI r)) G) (hX : ∀ q G, X q G → cxX C q G) {G : gS} {ts0 : Nat} (h : wp_X0_nightsUntilDone_12 (cxA C) X K G ts0) : gGo C G 12 [] [vQ (some ts0)] := by
  unfold wp_X0_nightsUntilDone_12 at h
  refine g_astore_n hC (pc := 12) (lv' := [(3, vQ (some ts0))]) rfl (by decide) rfl dX0_nightsUntilDone_12 ?_
  refine g_iconst hC (pc := 13) (v := (1 : Int32)) (by decide) dX0_nightsUntilDone_13 ?_
  exact g_iret hC (pc := 14) (hK _ _ h) dX0_nightsUntilDone_14
def wp_X0_nightsUntilDone_15 (ad : Nat → Nat) (X : Nat → gS → Prop) (K : Int32 → gS → Prop) (G : gS) (ts0 : Nat) : Prop :=
  K (2 : Int32) G
theorem w_X0_nightsUntilDone_15 {C : gCx} (hC : gOk C "GoblinHouseholdLaw" cX0_nightsUntilDone [(0, 9, 12, 37), (0, 9, 15, 15)] (some .int) "nightsUntilDone" 4 10 309) {K : Int32 → gS → Prop} {X : Nat → gS → Prop} (hK : ∀ r G, K r G → cxK C (some (vI r)) G) (hX : ∀ q G, X q G → cxX C q G) {G : gS} {ts0 : Nat} (h : wp_X0_nightsUntilDone_15 (cxA C) X K G ts0) : gGo C G 15 [] [vQ (some ts0)] := by
  unfold wp_X0_nightsUntilDone_15 at h
  refine g_astore_n hC (pc := 15) (lv' := [(3, vQ (some ts0))]) rfl (by decide) rfl dX0_nightsUntilDone_15 ?_
  refine g_iconst hC (pc := 16) (v := (2 : Int32)) (by decide) dX0_nightsUntilDone_16 ?_
  exact g_iret hC (pc := 17) (hK _ _ h) dX0_nightsUntilDone_17
def wp_X0_nightsUntilDone (ad : Nat → Nat) (G : gS) (o0 : Option Nat) (x1 : Int32) (o2 : Option Nat) (X : Nat → gS → Prop) (K : Int32 → gS → Prop) : Prop :=
  wNN o0 fun c1 => (gIs G c1 1 ∧ wp_X1_nightsUntilDone ad G c1 x1 (fun y3 G4 => (gHas G4 y3 23 ∧ (wp_X0_nightsUntilDone_12 ad X K G4 y3)) ∨ (gHas G4 y3 22 ∧ (wp_X0_nightsUntilDone_15 ad X K G4 y3))) (fun r5 G2 => wNN o2 fun c6 => wAstL G2 c6 (0 : Int32) ((r5).toInt64) fun G7 => K (0 : Int32) G7))
theorem w_X0_nightsUntilDone {C : gCx} (hC : gOk C "GoblinHouseholdLaw" cX0_nightsUntilDone [(0, 9, 12, 37), (0, 9, 15, 15)] (some .int) "nightsUntilDone" 4 10 309) {K : Int32 → gS → Prop} {X : Nat → gS → Prop} (hK : ∀ r G, K r G → cxK C (some (vI r)) G) (hX : ∀ q G, X q G → cxX C q G) {G : gS} {o0 : Option Nat} {x1 : Int32} {o2 : Option Nat} (h : wp_X0_nightsUntilDone (cxA C) G o0 x1 o2 X K) : gGo C G 0 [(0, vQ o0), (1, vI x1), (2, vQ o2)] [] := by
  unfold wp_X0_nightsUntilDone at h
  refine g_aload_n hC (pc := 0) 2 rfl rfl dX0_nightsUntilDone_0 ?_
  refine g_iconst hC (pc := 1) (v := (0 : Int32)) (by decide) dX0_nightsUntilDone_1 ?_
  refine g_aload_n hC (pc := 2) 0 rfl rfl dX0_nightsUntilDone_2 ?_
  refine g_iload_n hC (pc := 3) 1 rfl rfl dX0_nightsUntilDone_3 ?_
  rcases o0 with _ | c1
  · exact (gNN0 h).elim
  replace h := gNN1 h
  obtain ⟨hi, h⟩ := h
  refine g_callV hC (pc := 4) (ci := 1) (As := [vI x1]) gc_X1_nightsUntilDone (m_X1_nightsUntilDone hC.fl h) rfl hi q1901 q1902 q1903 (gle rfl) (gle rfl) rfl (gle rfl) rfl dX0_nightsUntilDone_4 (gk_i fun r5 G2 h => ?_) (fun y3 G4 h hio => ?_)
  · refine g_i2l hC (pc := 7) dX0_nightsUntilDone_7 ?_
    rcases o2 with _ | c6
    · exact (gNN0 h).elim
    replace h := gNN1 h
    refine g_astL hC (pc := 8) h dX0_nightsUntilDone_8 (fun G7 h => ?_)
    refine g_goto hC (pc := 9) 18 (by decide) dX0_nightsUntilDone_9 ?_
    refine g_iconst hC (pc := 18) (v := (0 : Int32)) (by decide) dX0_nightsUntilDone_18 ?_
    exact g_iret hC (pc := 19) (hK _ _ h) dX0_nightsUntilDone_19
  · rcases h with h | h
    · obtain ⟨hq, h⟩ := h
      refine g_catchI hC (pc := 4) (ci := 23) rfl hq 0 rfl (fun _ h => nomatch h) rfl (by decide) q1418 (List.mem_of_getElem? (i := 8) rfl) rfl ?_
      exact g_sub [] rfl (w_X0_nightsUntilDone_12 hC hK hX h)
    · obtain ⟨hq, h⟩ := h
      refine g_catchI hC (pc := 4) (ci := 22) rfl hq 1 rfl (List.forall_mem_cons.mpr ⟨Or.inr ⟨by decide, "java/util/NoSuchElementException", q1418, (List.mem_of_getElem? (i := 12) rfl)⟩, fun _ h => nomatch h⟩) rfl (by decide) q872 (List.mem_of_getElem? (i := 9) rfl) rfl ?_
      exact g_sub [] rfl (w_X0_nightsUntilDone_15 hC hK hX h)
theorem gc_X0_nightsUntilDone : gCodeW yX0_nightsUntilDone cX0_nightsUntilDone 4 (some .int) [(0, 9, 12, 37), (0, 9, 15, 15)] 3 := ⟨q1900, q93, ⟨by decide, by decide⟩, rfl⟩
theorem m_X0_nightsUntilDone {l : Launch} (hfl : l.stackTraces = false) {E : gE} {G : gS} {o0 : Option Nat} {x1 : Int32} {o2 : Option Nat} {X : Nat → gS → Prop} {K : Int32 → gS → Prop} (h : wp_X0_nightsUntilDone (gAd E) G o0 x1 o2 X K) : gMet l yX0_nightsUntilDone (wsW_ yX0_nightsUntilDone cX0_nightsUntilDone 4 (some .int) [(0, 9, 12, 37), (0, 9, 15, 15)]) 10 309 [vQ o0, vI x1, vQ o2] E G (gRi K) X :=
  g_metW hfl (plainFor_of_name (by decide +kernel)) rfl rfl rfl (gle rfl) (fun p e R s m args below meth c hC => w_X0_nightsUntilDone hC (fun _ _ h => h) (fun _ _ h => h) h)
def wp_X3_wasBroken_52 (ad : Nat → Nat) (X : Nat → gS → Prop) (K : Int32 → gS → Prop) (J5 : gS → Nat → Int32 → Int32 → Int32 → Int32 → Prop) (G : gS) (t0 : Nat) (x1 : Int32) (x2 : Int32) (x4 : Int32) (xs0 : Int32) : Prop :=
  J5 G t0 x1 x2 xs0 (x4 + (1 : Int32))
theorem w_X3_wasBroken_52 {C : gCx} (hC : gOk C "GoblinHouseholdModel" cX3_wasBroken [] (some .boolean) "wasBroken" 6 4 119) {K : Int32 → gS → Prop} {X : Nat → gS → Prop} (hK : ∀ r G, K r G → cxK C (some (vI r)) G) (hX : ∀ q G, X q G → cxX C q G) {J5 : gS → Nat → Int32 → Int32 → Int32 → Int32 → Prop} (hJ5 : ∀ G z0 z1 z2 z3 z4, J5 G z0 z1 z2 z3 z4 → gGo C G 5 [(0, vQ (some z0)), (1, vI z1), (2, vI z2), (3, vI z3), (4, vI z4)] []) {G : gS} {t0 : Nat} {x1 : Int32} {x2 : Int32} {x4 : Int32} {xs0 : Int32} (h : wp_X3_wasBroken_52 (cxA C) X K J5 G t0 x1 x2 x4 xs0) : gGo C G 52 [(0, vQ (some t0)), (1, vI x1), (2, vI x2), (4, vI x4)] [vI xs0] := by
  unfold wp_X3_wasBroken_52 at h
  refine g_istore_n hC (pc := 52) (lv' := [(3, vI xs0), (0, vQ (some t0)), (1, vI x1), (2, vI x2), (4, vI x4)]) rfl (by decide) rfl dX3_wasBroken_52 ?_
  refine g_iinc hC (pc := 53) 4 (d := (1 : Int32)) (v := (x4 + (1 : Int32))) (lv' := [(4, vI (x4 + (1 : Int32))), (3, vI xs0), (0, vQ (some t0)), (1, vI x1), (2, vI x2)]) rfl (by decide) rfl (by decide) rfl dX3_wasBroken_53 ?_
  refine g_goto hC (pc := 56) 5 (by decide) dX3_wasBroken_56 ?_
  exact g_sub [2, 3, 4, 1, 0] rfl (hJ5 _ _ _ _ _ _ h)
def wp_X3_wasBroken_59 (ad : Nat → Nat) (X : Nat → gS → Prop) (K : Int32 → gS → Prop) (G : gS) (t0 : Nat) (x2 : Int32) (x3 : Int32) : Prop :=
  wGetQ G t0 0 0 fun q1 => wNN q1 fun c2 => wAldI G c2 (5 : Int32) fun i3 => (i3 ≤ x2 → K (0 : Int32) G) ∧ (¬ i3 ≤ x2 → (gIs G t0 0 ∧ wp_X3_of ad G t0 x3 (4 : Int32) X (fun r5 G4 => (¬ r5 = (1 : Int32) → K (0 : Int32) G4) ∧ (r5 = (1 : Int32) → K (1 : Int32) G4))))
theorem w_X3_wasBroken_59 {C : gCx} (hC : gOk C "GoblinHouseholdModel" cX3_wasBroken [] (some .boolean) "wasBroken" 6 4 119) {K : Int32 → gS → Prop} {X : Nat → gS → Prop} (hK : ∀ r G, K r G → cxK C (some (vI r)) G) (hX : ∀ q G, X q G → cxX C q G) {G : gS} {t0 : Nat} {x2 : Int32} {x3 : Int32} (h : wp_X3_wasBroken_59 (cxA C) X K G t0 x2 x3) : gGo C G 59 [(0, vQ (some t0)), (2, vI x2), (3, vI x3)] [] := by
  unfold wp_X3_wasBroken_59 at h
  refine g_aload_n hC (pc := 59) 0 rfl rfl dX3_wasBroken_59 ?_
  refine g_getQ hC (pc := 60) in_X3 (ci := 0) rfl 0 (by decide) q2477 (Or.inl rfl) h dX3_wasBroken_60 (fun q1 h => ?_)
  refine g_iconst hC (pc := 63) (v := (5 : Int32)) (by decide) dX3_wasBroken_63 ?_
  rcases q1 with _ | c2
  · exact (gNN0 h).elim
  replace h := gNN1 h
  refine g_aldI hC (pc := 64) h dX3_wasBroken_64 (fun i3 h => ?_)
  refine g_iload_n hC (pc := 65) 1 rfl rfl dX3_wasBroken_65 ?_
  refine g_icmp_le hC (pc := 66) 83 h (by decide) dX3_wasBroken_66 (fun h => ?_) (fun h => ?_)
  · refine g_iconst hC (pc := 83) (v := (0 : Int32)) (by decide) dX3_wasBroken_83 ?_
    exact g_zret hC (pc := 84) rfl (hK _ _ h) dX3_wasBroken_84
  · refine g_aload_n hC (pc := 69) 0 rfl rfl dX3_wasBroken_69 ?_
    refine g_iload_n hC (pc := 70) 2 rfl rfl dX3_wasBroken_70 ?_
    refine g_iconst hC (pc := 71) (v := (4 : Int32)) (by decide) dX3_wasBroken_71 ?_
    obtain ⟨hi, h⟩ := h
    refine g_callV hC (pc := 72) (ci := 0) (As := [vI x3, vI (4 : Int32)]) gc_X3_of (m_X3_of hC.fl h) rfl hi q2632 q2634 qs56 (gle rfl) (gle rfl) rfl (gle rfl) rfl dX3_wasBroken_72 (gk_i fun r5 G4 h => ?_) (fun _ _ h hio => g_out0 hC (hX _ _ h) hio)
    refine g_iconst hC (pc := 75) (v := (1 : Int32)) (by decide) dX3_wasBroken_75 ?_
    refine g_icmp_ne hC (pc := 76) 83 h (by decide) dX3_wasBroken_76 (fun h => ?_) (fun h => ?_)
    · refine g_iconst hC (pc := 83) (v := (0 : Int32)) (by decide) dX3_wasBroken_83 ?_
      exact g_zret hC (pc := 84) rfl (hK _ _ h) dX3_wasBroken_84
    · refine g_iconst hC (pc := 79) (v := (1 : Int32)) (by decide) dX3_wasBroken_79 ?_
      refine g_goto hC (pc := 80) 84 (by decide) dX3_wasBroken_80 ?_
      exact g_zret hC (pc := 84) rfl (hK _ _ h) dX3_wasBroken_84
def wp_X3_wasBroken_5 (ad : Nat → Nat) (X : Nat → gS → Prop) (K : Int32 → gS → Prop) (J5 : gS → Nat → Int32 → Int32 → Int32 → Int32 → Prop) (G : gS) (t0 : Nat) (x1 : Int32) (x2 : Int32) (x3 : Int32) (x4 : Int32) : Prop :=
  wGetQ G t0 0 2 fun q1 => wNN q1 fun c2 => wAldI G c2 (11 : Int32) fun i3 => (i3 ≤ x4 → wp_X3_wasBroken_59 ad X K G t0 x2 x3) ∧ (¬ i3 ≤ x4 → wGetQ G t0 0 2 fun q4 => wNN q4 fun c5 => wAldI G c5 (((51 : Int32) + ((5 : Int32) * x4)) + (0 : Int32)) fun i6 => (¬ i6 = x1 → wp_X3_wasBroken_52 ad X K J5 G t0 x1 x2 x4 x3) ∧ (i6 = x1 → wGetQ G t0 0 2 fun q7 => wNN q7 fun c8 => wAldI G c8 (((51 : Int32) + ((5 : Int32) * x4)) + (1 : Int32)) fun i9 => wp_X3_wasBroken_52 ad X K J5 G t0 x1 x2 x4 i9))
theorem w_X3_wasBroken_5 {C : gCx} (hC : gOk C "GoblinHouseholdModel" cX3_wasBroken [] (some .boolean) "wasBroken" 6 4 119) {K : Int32 → gS → Prop} {X : Nat → gS → Prop} (hK : ∀ r G, K r G → cxK C (some (vI r)) G) (hX : ∀ q G, X q G → cxX C q G) (n : Nat) : ∀ (G : gS) (t0 : Nat) (x1 : Int32) (x2 : Int32) (x3 : Int32) (x4 : Int32), gLoop (fun _ _ _ _ _ _ => False) (wp_X3_wasBroken_5 (cxA C) X K) n G t0 x1 x2 x3 x4 → gGo C G 5 [(0, vQ (some t0)), (1, vI x1), (2, vI x2), (3, vI x3), (4, vI x4)] [] := by
  induction n with
  | zero => intro G t0 x1 x2 x3 x4 h; exact h.elim
  | succ n ih =>
    intro G t0 x1 x2 x3 x4 h
    have hJ5 := ih
    replace h : wp_X3_wasBroken_5 (cxA C) X K _ G t0 x1 x2 x3 x4 := h
    unfold wp_X3_wasBroken_5 at h
    refine g_iload hC (pc := 5) 4 rfl dX3_wasBroken_5 ?_
    refine g_aload_n hC (pc := 7) 0 rfl rfl dX3_wasBroken_7 ?_
    refine g_getQ hC (pc := 8) in_X3 (ci := 0) rfl 2 (by decide) q2479 (Or.inl rfl) h dX3_wasBroken_8 (fun q1 h => ?_)
    refine g_bipush hC (pc := 11) (v := (11 : Int32)) (by decide) dX3_wasBroken_11 ?_
    rcases q1 with _ | c2
    · exact (gNN0 h).elim
    replace h := gNN1 h
    refine g_aldI hC (pc := 13) h dX3_wasBroken_13 (fun i3 h => ?_)
    refine g_icmp_ge hC (pc := 14) 59 h (by decide) dX3_wasBroken_14 (fun h => ?_) (fun h => ?_)
    · exact g_sub [0, 2, 3] rfl (w_X3_wasBroken_59 hC hK hX h)
    · refine g_bipush hC (pc := 17) (v := (51 : Int32)) (by decide) dX3_wasBroken_17 ?_
      refine g_iconst hC (pc := 19) (v := (5 : Int32)) (by decide) dX3_wasBroken_19 ?_
      refine g_iload hC (pc := 20) 4 rfl dX3_wasBroken_20 ?_
      refine g_imul hC (pc := 22) dX3_wasBroken_22 ?_
      refine g_iadd hC (pc := 23) dX3_wasBroken_23 ?_
      refine g_istore hC (pc := 24) (lv' := [(5, vI ((51 : Int32) + ((5 : Int32) * x4))), (0, vQ (some t0)), (1, vI x1), (2, vI x2), (3, vI x3), (4, vI x4)]) (by decide) rfl dX3_wasBroken_24 ?_
      refine g_aload_n hC (pc := 26) 1 rfl rfl dX3_wasBroken_26 ?_
      refine g_getQ hC (pc := 27) in_X3 (ci := 0) rfl 2 (by decide) q2479 (Or.inl rfl) h dX3_wasBroken_27 (fun q4 h => ?_)
      refine g_iload hC (pc := 30) 0 rfl dX3_wasBroken_30 ?_
      refine g_iconst hC (pc := 32) (v := (0 : Int32)) (by decide) dX3_wasBroken_32 ?_
      refine g_iadd hC (pc := 33) dX3_wasBroken_33 ?_
      rcases q4 with _ | c5
      · exact (gNN0 h).elim
      replace h := gNN1 h
      refine g_aldI hC (pc := 34) h dX3_wasBroken_34 (fun i6 h => ?_)
      refine g_iload_n hC (pc := 35) 2 rfl rfl dX3_wasBroken_35 ?_
      refine g_icmp_ne hC (pc := 36) 51 h (by decide) dX3_wasBroken_36 (fun h => ?_) (fun h => ?_)
      · refine g_iload_n hC (pc := 51) 4 rfl rfl dX3_wasBroken_51 ?_
        exact g_sub [1, 2, 3, 5] rfl (w_X3_wasBroken_52 hC hK hX hJ5 h)
      · refine g_aload_n hC (pc := 39) 1 rfl rfl dX3_wasBroken_39 ?_
        refine g_getQ hC (pc := 40) in_X3 (ci := 0) rfl 2 (by decide) q2479 (Or.inl rfl) h dX3_wasBroken_40 (fun q7 h => ?_)
        refine g_iload hC (pc := 43) 0 rfl dX3_wasBroken_43 ?_
        refine g_iconst hC (pc := 45) (v := (1 : Int32)) (by decide) dX3_wasBroken_45 ?_
        refine g_iadd hC (pc := 46) dX3_wasBroken_46 ?_
        rcases q7 with _ | c8
        · exact (gNN0 h).elim
        replace h := gNN1 h
        refine g_aldI hC (pc := 47) h dX3_wasBroken_47 (fun i9 h => ?_)
        refine g_goto hC (pc := 48) 52 (by decide) dX3_wasBroken_48 ?_
        exact g_sub [1, 2, 3, 5] rfl (w_X3_wasBroken_52 hC hK hX hJ5 h)
def wp_X3_wasBroken (ad : Nat → Nat) (G : gS) (t0 : Nat) (x1 : Int32) (x2 : Int32) (X : Nat → gS → Prop) (K : Int32 → gS → Prop) : Prop :=
  gLoop (fun _ _ _ _ _ _ => False) (wp_X3_wasBroken_5 ad X K) gFuel G t0 x1 x2 (-1 : Int32) (0 : Int32)
theorem w_X3_wasBroken {C : gCx} (hC : gOk C "GoblinHouseholdModel" cX3_wasBroken [] (some .boolean) "wasBroken" 6 4 119) {K : Int32 → gS → Prop} {X : Nat → gS → Prop} (hK : ∀ r G, K r G → cxK C (some (vI r)) G) (hX : ∀ q G, X q G → cxX C q G) {G : gS} {t0 : Nat} {x1 : Int32} {x2 : Int32} (h : wp_X3_wasBroken (cxA C) G t0 x1 x2 X K) : gGo C G 0 [(0, vQ (some t0)), (1, vI x1), (2, vI x2)] [] := by
  unfold wp_X3_wasBroken at h
  refine g_iconst hC (pc := 0) (v := (-1 : Int32)) (by decide) dX3_wasBroken_0 ?_
  refine g_istore_n hC (pc := 1) (lv' := [(3, vI (-1 : Int32)), (0, vQ (some t0)), (1, vI x1), (2, vI x2)]) rfl (by decide) rfl dX3_wasBroken_1 ?_
  refine g_iconst hC (pc := 2) (v := (0 : Int32)) (by decide) dX3_wasBroken_2 ?_
  refine g_istore hC (pc := 3) (lv' := [(4, vI (0 : Int32)), (3, vI (-1 : Int32)), (0, vQ (some t0)), (1, vI x1), (2, vI x2)]) (by decide) rfl dX3_wasBroken_3 ?_
  exact g_sub [2, 3, 4, 1, 0] rfl (w_X3_wasBroken_5 hC hK hX gFuel _ _ _ _ _ _ h)
theorem gc_X3_wasBroken : gCode yX3_wasBroken cX3_wasBroken 6 (some .boolean) 2 := ⟨q2840, q105, ⟨by decide, by decide⟩, rfl⟩
theorem m_X3_wasBroken {l : Launch} (hfl : l.stackTraces = false) {E : gE} {G : gS} {t0 : Nat} {x1 : Int32} {x2 : Int32} {X : Nat → gS → Prop} {K : Int32 → gS → Prop} (h : wp_X3_wasBroken (gAd E) G t0 x1 x2 X K) : gMet l yX3_wasBroken (ws_ yX3_wasBroken cX3_wasBroken 6 (some .boolean)) 4 119 [vQ (some t0), vI x1, vI x2] E G (gRi K) X :=
  g_met hfl (plainFor_of_name (by decide +kernel)) rfl rfl rfl (gle rfl) (fun p e R s m args below meth c hC => w_X3_wasBroken hC (fun _ _ h => h) (fun _ _ h => h) h)
def wp_X3_nightsUntilDone_100 (ad : Nat → Nat) (X : Nat → gS → Prop) (K : Int32 → gS → Prop) (J33 : gS → Nat → Int32 → Int32 → Int32 → Int32 → Prop) (G : gS) (t0 : Nat) (x1 : Int32) (x2 : Int32) (x4 : Int32) (xs0 : Int32) : Prop :=
  J33 G t0 x1 x2 xs0 (x4 + (1 : Int32))
theorem w_X3_nightsUntilDone_100 {C : gCx} (hC : gOk C "GoblinHouseholdModel" cX3_nightsUntilDone [] (some .int) "nightsUntilDone" 8 7 217) {K : Int32 → gS → Prop} {X : Nat → gS → Prop} (hK : ∀ r G, K r G → cxK C (some (vI r)) G) (hX : ∀ q G, X q G → cxX C q G) {J33 : gS → Nat → Int32 → Int32 → Int32 → Int32 → Prop} (hJ33 : ∀ G z0 z1 z2 z3 z4, J33 G z0 z1 z2 z3 z4 → gGo C G 33 [(0, vQ (some z0)), (1, vI z1), (2, vI z2), (3, vI z3), (4, vI z4)] []) {G : gS} {t0 : Nat} {x1 : Int32} {x2 : Int32} {x4 : Int32} {xs0 : Int32} (h : wp_X3_nightsUntilDone_100 (cxA C) X K J33 G t0 x1 x2 x4 xs0) : gGo C G 100 [(0, vQ (some t0)), (1, vI x1), (2, vI x2), (4, vI x4)] [vI xs0] := by
  unfold wp_X3_nightsUntilDone_100 at h
  refine g_istore_n hC (pc := 100) (lv' := [(3, vI xs0), (0, vQ (some t0)), (1, vI x1), (2, vI x2), (4, vI x4)]) rfl (by decide) rfl dX3_nightsUntilDone_100 ?_
  refine g_iinc hC (pc := 101) 4 (d := (1 : Int32)) (v := (x4 + (1 : Int32))) (lv' := [(4, vI (x4 + (1 : Int32))), (3, vI xs0), (0, vQ (some t0)), (1, vI x1), (2, vI x2)]) rfl (by decide) rfl (by decide) rfl dX3_nightsUntilDone_101 ?_
  refine g_goto hC (pc := 104) 33 (by decide) dX3_nightsUntilDone_104 ?_
  exact g_sub [2, 3, 4, 1, 0] rfl (hJ33 _ _ _ _ _ _ h)
def wp_X3_nightsUntilDone_99 (ad : Nat → Nat) (X : Nat → gS → Prop) (K : Int32 → gS → Prop) (J33 : gS → Nat → Int32 → Int32 → Int32 → Int32 → Prop) (G : gS) (t0 : Nat) (x1 : Int32) (x2 : Int32) (x3 : Int32) (x4 : Int32) : Prop :=
  wp_X3_nightsUntilDone_100 ad X K J33 G t0 x1 x2 x4 x3
theorem w_X3_nightsUntilDone_99 {C : gCx} (hC : gOk C "GoblinHouseholdModel" cX3_nightsUntilDone [] (some .int) "nightsUntilDone" 8 7 217) {K : Int32 → gS → Prop} {X : Nat → gS → Prop} (hK : ∀ r G, K r G → cxK C (some (vI r)) G) (hX : ∀ q G, X q G → cxX C q G) {J33 : gS → Nat → Int32 → Int32 → Int32 → Int32 → Prop} (hJ33 : ∀ G z0 z1 z2 z3 z4, J33 G z0 z1 z2 z3 z4 → gGo C G 33 [(0, vQ (some z0)), (1, vI z1), (2, vI z2), (3, vI z3), (4, vI z4)] []) {G : gS} {t0 : Nat} {x1 : Int32} {x2 : Int32} {x3 : Int32} {x4 : Int32} (h : wp_X3_nightsUntilDone_99 (cxA C) X K J33 G t0 x1 x2 x3 x4) : gGo C G 99 [(0, vQ (some t0)), (1, vI x1), (2, vI x2), (3, vI x3), (4, vI x4)] [] := by
  unfold wp_X3_nightsUntilDone_99 at h
  refine g_iload_n hC (pc := 99) 3 rfl rfl dX3_nightsUntilDone_99 ?_
  exact g_sub [0, 1, 2, 4] rfl (w_X3_nightsUntilDone_100 hC hK hX hJ33 h)
def wp_X3_nightsUntilDone_77 (ad : Nat → Nat) (X : Nat → gS → Prop) (K : Int32 → gS → Prop) (J33 : gS → Nat → Int32 → Int32 → Int32 → Int32 → Prop) (G : gS) (t0 : Nat) (x1 : Int32) (x2 : Int32) (x3 : Int32) (x4 : Int32) (x5 : Int32) (xs0 : Int32) : Prop :=
  (xs0 = (0 : Int32) → wp_X3_nightsUntilDone_99 ad X K J33 G t0 x1 x2 x3 x4) ∧ (¬ xs0 = (0 : Int32) → (gIs G t0 0 ∧ wp_X3_wasBroken ad G t0 x1 x5 X (fun r2 G1 => (¬ r2 = (0 : Int32) → wp_X3_nightsUntilDone_99 ad X K J33 G1 t0 x1 x2 x3 x4) ∧ (r2 = (0 : Int32) → wp_X3_nightsUntilDone_100 ad X K J33 G1 t0 x1 x2 x4 x4))))
theorem w_X3_nightsUntilDone_77 {C : gCx} (hC : gOk C "GoblinHouseholdModel" cX3_nightsUntilDone [] (some .int) "nightsUntilDone" 8 7 217) {K : Int32 → gS → Prop} {X : Nat → gS → Prop} (hK : ∀ r G, K r G → cxK C (some (vI r)) G) (hX : ∀ q G, X q G → cxX C q G) {J33 : gS → Nat → Int32 → Int32 → Int32 → Int32 → Prop} (hJ33 : ∀ G z0 z1 z2 z3 z4, J33 G z0 z1 z2 z3 z4 → gGo C G 33 [(0, vQ (some z0)), (1, vI z1), (2, vI z2), (3, vI z3), (4, vI z4)] []) {G : gS} {t0 : Nat} {x1 : Int32} {x2 : Int32} {x3 : Int32} {x4 : Int32} {x5 : Int32} {xs0 : Int32} (h : wp_X3_nightsUntilDone_77 (cxA C) X K J33 G t0 x1 x2 x3 x4 x5 xs0) : gGo C G 77 [(0, vQ (some t0)), (1, vI x1), (2, vI x2), (3, vI x3), (4, vI x4), (5, vI x5)] [vI xs0] := by
  unfold wp_X3_nightsUntilDone_77 at h
  refine g_istore hC (pc := 77) (lv' := [(7, vI xs0), (0, vQ (some t0)), (1, vI x1), (2, vI x2), (3, vI x3), (4, vI x4), (5, vI x5)]) (by decide) rfl dX3_nightsUntilDone_77 ?_
  refine g_iload hC (pc := 79) 0 rfl dX3_nightsUntilDone_79 ?_
  refine g_if_eq hC (pc := 81) 99 h (by decide) dX3_nightsUntilDone_81 (fun h => ?_) (fun h => ?_)
  · exact g_sub [1, 2, 3, 4, 5] rfl (w_X3_nightsUntilDone_99 hC hK hX hJ33 h)
  · refine g_aload_n hC (pc := 84) 1 rfl rfl dX3_nightsUntilDone_84 ?_
    refine g_iload_n hC (pc := 85) 2 rfl rfl dX3_nightsUntilDone_85 ?_
    refine g_iload hC (pc := 86) 6 rfl dX3_nightsUntilDone_86 ?_
    obtain ⟨hi, h⟩ := h
    refine g_callV hC (pc := 88) (ci := 0) (As := [vI x1, vI x5]) gc_X3_wasBroken (m_X3_wasBroken hC.fl h) rfl hi q2837 q2839 qs77 (gle rfl) (gle rfl) rfl (gle rfl) rfl dX3_nightsUntilDone_88 (gk_i fun r2 G1 h => ?_) (fun _ _ h hio => g_out0 hC (hX _ _ h) hio)
    refine g_if_ne hC (pc := 91) 99 h (by decide) dX3_nightsUntilDone_91 (fun h => ?_) (fun h => ?_)
    · exact g_sub [1, 2, 3, 4, 5] rfl (w_X3_nightsUntilDone_99 hC hK hX hJ33 h)
    · refine g_iload hC (pc := 94) 5 rfl dX3_nightsUntilDone_94 ?_
      refine g_goto hC (pc := 96) 100 (by decide) dX3_nightsUntilDone_96 ?_
      exact g_sub [1, 2, 3, 5] rfl (w_X3_nightsUntilDone_100 hC hK hX hJ33 h)
def wp_X3_nightsUntilDone_132 (ad : Nat → Nat) (X : Nat → gS → Prop) (K : Int32 → gS → Prop) (G : gS) (x3 : Int32) (xs0 : Int32) (xs1 : Int32) (ts2 : Nat) : Prop :=
  (gIs G ts2 0 ∧ wp_X3_holds ad G ts2 xs1 xs0 (1 : Int32) (1 : Int32) X (fun r2 G1 => (r2 = (0 : Int32) → K (0 : Int32) G1) ∧ (¬ r2 = (0 : Int32) → K x3 G1)))
theorem w_X3_nightsUntilDone_132 {C : gCx} (hC : gOk C "GoblinHouseholdModel" cX3_nightsUntilDone [] (some .int) "nightsUntilDone" 8 7 217) {K : Int32 → gS → Prop} {X : Nat → gS → Prop} (hK : ∀ r G, K r G → cxK C (some (vI r)) G) (hX : ∀ q G, X q G → cxX C q G) {G : gS} {x3 : Int32} {xs0 : Int32} {xs1 : Int32} {ts2 : Nat} (h : wp_X3_nightsUntilDone_132 (cxA C) X K G x3 xs0 xs1 ts2) : gGo C G 132 [(3, vI x3)] [vI xs0, vI xs1, vQ (some ts2)] := by
  unfold wp_X3_nightsUntilDone_132 at h
  refine g_iconst hC (pc := 132) (v := (1 : Int32)) (by decide) dX3_nightsUntilDone_132 ?_
  refine g_iconst hC (pc := 133) (v := (1 : Int32)) (by decide) dX3_nightsUntilDone_133 ?_
  obtain ⟨hi, h⟩ := h
  refine g_callV hC (pc := 134) (ci := 0) (As := [vI xs1, vI xs0, vI (1 : Int32), vI (1 : Int32)]) gc_X3_holds (m_X3_holds hC.fl h) rfl hi q2550 q2552 qs44 (gle rfl) (gle rfl) rfl (gle rfl) rfl dX3_nightsUntilDone_134 (gk_i fun r2 G1 h => ?_) (fun _ _ h hio => g_out0 hC (hX _ _ h) hio)
  refine g_if_eq hC (pc := 137) 144 h (by decide) dX3_nightsUntilDone_137 (fun h => ?_) (fun h => ?_)
  · refine g_iconst hC (pc := 144) (v := (0 : Int32)) (by decide) dX3_nightsUntilDone_144 ?_
    exact g_iret hC (pc := 145) (hK _ _ h) dX3_nightsUntilDone_145
  · refine g_iload_n hC (pc := 140) 0 rfl rfl dX3_nightsUntilDone_140 ?_
    refine g_goto hC (pc := 141) 145 (by decide) dX3_nightsUntilDone_141 ?_
    exact g_iret hC (pc := 145) (hK _ _ h) dX3_nightsUntilDone_145
def wp_X3_nightsUntilDone_107 (ad : Nat → Nat) (X : Nat → gS → Prop) (K : Int32 → gS → Prop) (G : gS) (t0 : Nat) (x2 : Int32) (x3 : Int32) : Prop :=
  wGetQ G t0 0 2 fun q1 => wGetQ G t0 0 0 fun q2 => wp_X3_copies ad G q1 (0 : Int32) q2 (0 : Int32) X (fun G3 => (x3 = (-1 : Int32) → wp_X3_nightsUntilDone_132 ad X K G3 x3 (0 : Int32) x2 t0) ∧ (¬ x3 = (-1 : Int32) → wp_X3_nightsUntilDone_132 ad X K G3 x3 (1 : Int32) x2 t0))
theorem w_X3_nightsUntilDone_107 {C : gCx} (hC : gOk C "GoblinHouseholdModel" cX3_nightsUntilDone [] (some .int) "nightsUntilDone" 8 7 217) {K : Int32 → gS → Prop} {X : Nat → gS → Prop} (hK : ∀ r G, K r G → cxK C (some (vI r)) G) (hX : ∀ q G, X q G → cxX C q G) {G : gS} {t0 : Nat} {x2 : Int32} {x3 : Int32} (h : wp_X3_nightsUntilDone_107 (cxA C) X K G t0 x2 x3) : gGo C G 107 [(0, vQ (some t0)), (2, vI x2), (3, vI x3)] [] := by
  unfold wp_X3_nightsUntilDone_107 at h
  refine g_aload_n hC (pc := 107) 0 rfl rfl dX3_nightsUntilDone_107 ?_
  refine g_getQ hC (pc := 108) in_X3 (ci := 0) rfl 2 (by decide) q2479 (Or.inl rfl) h dX3_nightsUntilDone_108 (fun q1 h => ?_)
  refine g_iconst hC (pc := 111) (v := (0 : Int32)) (by decide) dX3_nightsUntilDone_111 ?_
  refine g_aload_n hC (pc := 112) 0 rfl rfl dX3_nightsUntilDone_112 ?_
  refine g_getQ hC (pc := 113) in_X3 (ci := 0) rfl 0 (by decide) q2477 (Or.inl rfl) h dX3_nightsUntilDone_113 (fun q2 h => ?_)
  refine g_iconst hC (pc := 116) (v := (0 : Int32)) (by decide) dX3_nightsUntilDone_116 ?_
  refine g_callS hC (pc := 117) (b := 0) (As := [vQ q1, vI (0 : Int32), vQ q2, vI (0 : Int32)]) gc_X3_copies (m_X3_copies hC.fl h) q2554 q2555 (gle rfl) (gle rfl) rfl (gle rfl) rfl dX3_nightsUntilDone_117 (gk_v fun G3 h => ?_) (fun _ _ h hio => g_out0 hC (hX _ _ h) hio)
  refine g_aload_n hC (pc := 120) 0 rfl rfl dX3_nightsUntilDone_120 ?_
  refine g_iload_n hC (pc := 121) 1 rfl rfl dX3_nightsUntilDone_121 ?_
  refine g_iload_n hC (pc := 122) 2 rfl rfl dX3_nightsUntilDone_122 ?_
  refine g_iconst hC (pc := 123) (v := (-1 : Int32)) (by decide) dX3_nightsUntilDone_123 ?_
  refine g_icmp_eq hC (pc := 124) 131 h (by decide) dX3_nightsUntilDone_124 (fun h => ?_) (fun h => ?_)
  · refine g_iconst hC (pc := 131) (v := (0 : Int32)) (by decide) dX3_nightsUntilDone_131 ?_
    exact g_sub [2] rfl (w_X3_nightsUntilDone_132 hC hK hX h)
  · refine g_iconst hC (pc := 127) (v := (1 : Int32)) (by decide) dX3_nightsUntilDone_127 ?_
    refine g_goto hC (pc := 128) 132 (by decide) dX3_nightsUntilDone_128 ?_
    exact g_sub [2] rfl (w_X3_nightsUntilDone_132 hC hK hX h)
def wp_X3_nightsUntilDone_33 (ad : Nat → Nat) (X : Nat → gS → Prop) (K : Int32 → gS → Prop) (J33 : gS → Nat → Int32 → Int32 → Int32 → Int32 → Prop) (G : gS) (t0 : Nat) (x1 : Int32) (x2 : Int32) (x3 : Int32) (x4 : Int32) : Prop :=
  ((60 : Int32) < x4 → wp_X3_nightsUntilDone_107 ad X K G t0 x2 x3) ∧ (¬ (60 : Int32) < x4 → (gIs G t0 0 ∧ wp_X3_find ad G t0 x1 X (fun r2 G1 => (r2 = (-1 : Int32) → wp_X3_nightsUntilDone_107 ad X K G1 t0 x2 x3) ∧ (¬ r2 = (-1 : Int32) → wGetQ G1 t0 0 0 fun q3 => wNN q3 fun c4 => wAldI G1 c4 (5 : Int32) fun i5 => (gIs G1 t0 0 ∧ wp_X3_passes ad G1 t0  X (fun r7 G6 => (gIs G6 t0 0 ∧ wp_X3_find ad G6 t0 x1 X (fun r9 G8 => (¬ r9 = (-1 : Int32) → wp_X3_nightsUntilDone_77 ad X K J33 G8 t0 x1 x2 x3 x4 i5 (0 : Int32)) ∧ (r9 = (-1 : Int32) → wp_X3_nightsUntilDone_77 ad X K J33 G8 t0 x1 x2 x3 x4 i5 (1 : Int32))))))))))
theorem w_X3_nightsUntilDone_33 {C : gCx} (hC : gOk C "GoblinHouseholdModel" cX3_nightsUntilDone [] (some .int) "nightsUntilDone" 8 7 217) {K : Int32 → gS → Prop} {X : Nat → gS → Prop} (hK : ∀ r G, K r G → cxK C (some (vI r)) G) (hX : ∀ q G, X q G → cxX C q G) (n : Nat) : ∀ (G : gS) (t0 : Nat) (x1 : Int32) (x2 : Int32) (x3 : Int32) (x4 : Int32), gLoop (fun _ _ _ _ _ _ => False) (wp_X3_nightsUntilDone_33 (cxA C) X K) n G t0 x1 x2 x3 x4 → gGo C G 33 [(0, vQ (some t0)), (1, vI x1), (2, vI x2), (3, vI x3), (4, vI x4)] [] := by
  induction n with
  | zero => intro G t0 x1 x2 x3 x4 h; exact h.elim
  | succ n ih =>
    intro G t0 x1 x2 x3 x4 h
    have hJ33 := ih
    replace h : wp_X3_nightsUntilDone_33 (cxA C) X K _ G t0 x1 x2 x3 x4 := h
    unfold wp_X3_nightsUntilDone_33 at h
    refine g_iload hC (pc := 33) 4 rfl dX3_nightsUntilDone_33 ?_
    refine g_bipush hC (pc := 35) (v := (60 : Int32)) (by decide) dX3_nightsUntilDone_35 ?_
    refine g_icmp_gt hC (pc := 37) 107 h (by decide) dX3_nightsUntilDone_37 (fun h => ?_) (fun h => ?_)
    · exact g_sub [0, 2, 3] rfl (w_X3_nightsUntilDone_107 hC hK hX h)
    · refine g_aload_n hC (pc := 40) 0 rfl rfl dX3_nightsUntilDone_40 ?_
      refine g_iload_n hC (pc := 41) 1 rfl rfl dX3_nightsUntilDone_41 ?_
      obtain ⟨hi, h⟩ := h
      refine g_callV hC (pc := 42) (ci := 0) (As := [vI x1]) gc_X3_find (m_X3_find hC.fl h) rfl hi q2671 q2673 qs62 (gle rfl) (gle rfl) rfl (gle rfl) rfl dX3_nightsUntilDone_42 (gk_i fun r2 G1 h => ?_) (fun _ _ h hio => g_out0 hC (hX _ _ h) hio)
      refine g_iconst hC (pc := 45) (v := (-1 : Int32)) (by decide) dX3_nightsUntilDone_45 ?_
      refine g_icmp_eq hC (pc := 46) 107 h (by decide) dX3_nightsUntilDone_46 (fun h => ?_) (fun h => ?_)
      · exact g_sub [0, 2, 3] rfl (w_X3_nightsUntilDone_107 hC hK hX h)
      · refine g_aload_n hC (pc := 49) 0 rfl rfl dX3_nightsUntilDone_49 ?_
        refine g_getQ hC (pc := 50) in_X3 (ci := 0) rfl 0 (by decide) q2477 (Or.inl rfl) h dX3_nightsUntilDone_50 (fun q3 h => ?_)
        refine g_iconst hC (pc := 53) (v := (5 : Int32)) (by decide) dX3_nightsUntilDone_53 ?_
        rcases q3 with _ | c4
        · exact (gNN0 h).elim
        replace h := gNN1 h
        refine g_aldI hC (pc := 54) h dX3_nightsUntilDone_54 (fun i5 h => ?_)
        refine g_istore hC (pc := 55) (lv' := [(5, vI i5), (0, vQ (some t0)), (1, vI x1), (2, vI x2), (3, vI x3), (4, vI x4)]) (by decide) rfl dX3_nightsUntilDone_55 ?_
        refine g_aload_n hC (pc := 57) 1 rfl rfl dX3_nightsUntilDone_57 ?_
        obtain ⟨hi, h⟩ := h
        refine g_callV hC (pc := 58) (ci := 0) (As := []) gc_X3_passes (m_X3_passes hC.fl h) rfl hi q2712 q2714 qs68 (gle rfl) (gle rfl) rfl (gle rfl) rfl dX3_nightsUntilDone_58 (gk_i fun r7 G6 h => ?_) (fun _ _ h hio => g_out0 hC (hX _ _ h) hio)
        refine g_istore hC (pc := 61) (lv' := [(6, vI r7), (5, vI i5), (0, vQ (some t0)), (1, vI x1), (2, vI x2), (3, vI x3), (4, vI x4)]) (by decide) rfl dX3_nightsUntilDone_61 ?_
        refine g_aload_n hC (pc := 63) 2 rfl rfl dX3_nightsUntilDone_63 ?_
        refine g_iload_n hC (pc := 64) 3 rfl rfl dX3_nightsUntilDone_64 ?_
        obtain ⟨hi, h⟩ := h
        refine g_callV hC (pc := 65) (ci := 0) (As := [vI x1]) gc_X3_find (m_X3_find hC.fl h) rfl hi q2671 q2673 qs62 (gle rfl) (gle rfl) rfl (gle rfl) rfl dX3_nightsUntilDone_65 (gk_i fun r9 G8 h => ?_) (fun _ _ h hio => g_out0 hC (hX _ _ h) hio)
        refine g_iconst hC (pc := 68) (v := (-1 : Int32)) (by decide) dX3_nightsUntilDone_68 ?_
        refine g_icmp_ne hC (pc := 69) 76 h (by decide) dX3_nightsUntilDone_69 (fun h => ?_) (fun h => ?_)
        · refine g_iconst hC (pc := 76) (v := (0 : Int32)) (by decide) dX3_nightsUntilDone_76 ?_
          exact g_sub [2, 3, 4, 5, 6, 1] rfl (w_X3_nightsUntilDone_77 hC hK hX hJ33 h)
        · refine g_iconst hC (pc := 72) (v := (1 : Int32)) (by decide) dX3_nightsUntilDone_72 ?_
          refine g_goto hC (pc := 73) 77 (by decide) dX3_nightsUntilDone_73 ?_
          exact g_sub [2, 3, 4, 5, 6, 1] rfl (w_X3_nightsUntilDone_77 hC hK hX hJ33 h)
def wp_X3_nightsUntilDone_14 (ad : Nat → Nat) (X : Nat → gS → Prop) (K : Int32 → gS → Prop) (G : gS) (t0 : Nat) (x1 : Int32) (xs0 : Int32) : Prop :=
  wGetQ G t0 0 0 fun q1 => wGetQ G t0 0 2 fun q2 => wp_X3_copies ad G q1 (0 : Int32) q2 (0 : Int32) X (fun G3 => gLoop (fun _ _ _ _ _ _ => False) (wp_X3_nightsUntilDone_33 ad X K) gFuel G3 t0 x1 xs0 (-1 : Int32) (1 : Int32))
theorem w_X3_nightsUntilDone_14 {C : gCx} (hC : gOk C "GoblinHouseholdModel" cX3_nightsUntilDone [] (some .int) "nightsUntilDone" 8 7 217) {K : Int32 → gS → Prop} {X : Nat → gS → Prop} (hK : ∀ r G, K r G → cxK C (some (vI r)) G) (hX : ∀ q G, X q G → cxX C q G) {G : gS} {t0 : Nat} {x1 : Int32} {xs0 : Int32} (h : wp_X3_nightsUntilDone_14 (cxA C) X K G t0 x1 xs0) : gGo C G 14 [(0, vQ (some t0)), (1, vI x1)] [vI xs0] := by
  unfold wp_X3_nightsUntilDone_14 at h
  refine g_istore_n hC (pc := 14) (lv' := [(2, vI xs0), (0, vQ (some t0)), (1, vI x1)]) rfl (by decide) rfl dX3_nightsUntilDone_14 ?_
  refine g_iconst hC (pc := 15) (v := (-1 : Int32)) (by decide) dX3_nightsUntilDone_15 ?_
  refine g_istore_n hC (pc := 16) (lv' := [(3, vI (-1 : Int32)), (2, vI xs0), (0, vQ (some t0)), (1, vI x1)]) rfl (by decide) rfl dX3_nightsUntilDone_16 ?_
  refine g_aload_n hC (pc := 17) 2 rfl rfl dX3_nightsUntilDone_17 ?_
  refine g_getQ hC (pc := 18) in_X3 (ci := 0) rfl 0 (by decide) q2477 (Or.inl rfl) h dX3_nightsUntilDone_18 (fun q1 h => ?_)
  refine g_iconst hC (pc := 21) (v := (0 : Int32)) (by decide) dX3_nightsUntilDone_21 ?_
  refine g_aload_n hC (pc := 22) 2 rfl rfl dX3_nightsUntilDone_22 ?_
  refine g_getQ hC (pc := 23) in_X3 (ci := 0) rfl 2 (by decide) q2479 (Or.inl rfl) h dX3_nightsUntilDone_23 (fun q2 h => ?_)
  refine g_iconst hC (pc := 26) (v := (0 : Int32)) (by decide) dX3_nightsUntilDone_26 ?_
  refine g_callS hC (pc := 27) (b := 0) (As := [vQ q1, vI (0 : Int32), vQ q2, vI (0 : Int32)]) gc_X3_copies (m_X3_copies hC.fl h) q2554 q2555 (gle rfl) (gle rfl) rfl (gle rfl) rfl dX3_nightsUntilDone_27 (gk_v fun G3 h => ?_) (fun _ _ h hio => g_out0 hC (hX _ _ h) hio)
  refine g_iconst hC (pc := 30) (v := (1 : Int32)) (by decide) dX3_nightsUntilDone_30 ?_
  refine g_istore hC (pc := 31) (lv' := [(4, vI (1 : Int32)), (3, vI (-1 : Int32)), (2, vI xs0), (0, vQ (some t0)), (1, vI x1)]) (by decide) rfl dX3_nightsUntilDone_31 ?_
  exact g_sub [3, 4, 2, 1, 0] rfl (w_X3_nightsUntilDone_33 hC hK hX gFuel _ _ _ _ _ _ h)
def wp_X3_nightsUntilDone (ad : Nat → Nat) (G : gS) (t0 : Nat) (x1 : Int32) (X : Nat → gS → Prop) (K : Int32 → gS → Prop) : Prop :=
  (gIs G t0 0 ∧ wp_X3_find ad G t0 x1 X (fun r2 G1 => (r2 = (-1 : Int32) → wp_X3_nightsUntilDone_14 ad X K G1 t0 x1 (0 : Int32)) ∧ (¬ r2 = (-1 : Int32) → wp_X3_nightsUntilDone_14 ad X K G1 t0 x1 (1 : Int32))))
theorem w_X3_nightsUntilDone {C : gCx} (hC : gOk C "GoblinHouseholdModel" cX3_nightsUntilDone [] (some .int) "nightsUntilDone" 8 7 217) {K : Int32 → gS → Prop} {X : Nat → gS → Prop} (hK : ∀ r G, K r G → cxK C (some (vI r)) G) (hX : ∀ q G, X q G → cxX C q G) {G : gS} {t0 : Nat} {x1 : Int32} (h : wp_X3_nightsUntilDone (cxA C) G t0 x1 X K) : gGo C G 0 [(0, vQ (some t0)), (1, vI x1)] [] := by
  unfold wp_X3_nightsUntilDone at h
  refine g_aload_n hC (pc := 0) 0 rfl rfl dX3_nightsUntilDone_0 ?_
  refine g_iload_n hC (pc := 1) 1 rfl rfl dX3_nightsUntilDone_1 ?_
  obtain ⟨hi, h⟩ := h
  refine g_callV hC (pc := 2) (ci := 0) (As := [vI x1]) gc_X3_find (m_X3_find hC.fl h) rfl hi q2671 q2673 qs62 (gle rfl) (gle rfl) rfl (gle rfl) rfl dX3_nightsUntilDone_2 (gk_i fun r2 G1 h => ?_) (fun _ _ h hio => g_out0 hC (hX _ _ h) hio)
  refine g_iconst hC (pc := 5) (v := (-1 : Int32)) (by decide) dX3_nightsUntilDone_5 ?_
  refine g_icmp_eq hC (pc := 6) 13 h (by decide) dX3_nightsUntilDone_6 (fun h => ?_) (fun h => ?_)
  · refine g_iconst hC (pc := 13) (v := (0 : Int32)) (by decide) dX3_nightsUntilDone_13 ?_
    exact g_sub [0, 1] rfl (w_X3_nightsUntilDone_14 hC hK hX h)
  · refine g_iconst hC (pc := 9) (v := (1 : Int32)) (by decide) dX3_nightsUntilDone_9 ?_
    refine g_goto hC (pc := 10) 14 (by decide) dX3_nightsUntilDone_10 ?_
    exact g_sub [0, 1] rfl (w_X3_nightsUntilDone_14 hC hK hX h)
theorem gc_X3_nightsUntilDone : gCode yX3_nightsUntilDone cX3_nightsUntilDone 8 (some .int) 1 := ⟨q2836, q105, ⟨by decide, by decide⟩, rfl⟩
theorem m_X3_nightsUntilDone {l : Launch} (hfl : l.stackTraces = false) {E : gE} {G : gS} {t0 : Nat} {x1 : Int32} {X : Nat → gS → Prop} {K : Int32 → gS → Prop} (h : wp_X3_nightsUntilDone (gAd E) G t0 x1 X K) : gMet l yX3_nightsUntilDone (ws_ yX3_nightsUntilDone cX3_nightsUntilDone 8 (some .int)) 7 217 [vQ (some t0), vI x1] E G (gRi K) X :=
  g_met hfl (plainFor_of_name (by decide +kernel)) rfl rfl rfl (gle rfl) (fun p e R s m args below meth c hC => w_X3_nightsUntilDone hC (fun _ _ h => h) (fun _ _ h => h) h)
def wp_X1_checkArgument (ad : Nat → Nat) (G : gS) (x0 : Int32) (X : Nat → gS → Prop) (K : gS → Prop) : Prop :=
  (¬ x0 = (0 : Int32) → K G) ∧ (x0 = (0 : Int32) → wNew G 21 6 [.null, .null, .null, .null, .null, .int 0] fun c2 G1 => wp_J21_init_2 ad G1 c2  X (fun G3 => wThrow G3 c2 X))
theorem w_X1_checkArgument {C : gCx} (hC : gOk C "GoblinHousehold" cX1_checkArgument [] none "checkArgument" 1 8 212) {K : gS → Prop} {X : Nat → gS → Prop} (hK : ∀ G, K G → cxK C none G) (hX : ∀ q G, X q G → cxX C q G) {G : gS} {x0 : Int32} (h : wp_X1_checkArgument (cxA C) G x0 X K) : gGo C G 0 [(0, vI x0)] [] := by
  unfold wp_X1_checkArgument at h
  refine g_iload_n hC (pc := 0) 0 rfl rfl dX1_checkArgument_0 ?_
  refine g_if_ne hC (pc := 1) 12 h (by decide) dX1_checkArgument_1 (fun h => ?_) (fun h => ?_)
  · exact g_vret hC (pc := 12) (hK _ h) dX1_checkArgument_12
  · refine g_new hC (pc := 4) in_J21 (ci := 21) rfl (by decide) tyJ21_ok q1933 q631 q125 gdf_J21 h dX1_checkArgument_4 (fun c2 G1 h => ?_)
    refine g_dup hC (pc := 7) rfl dX1_checkArgument_7 ?_
    refine g_callI hC (pc := 8) (As := []) gc_J21_init_2 (m_J21_init_2 hC.fl h) rfl q1934 q1268 (gle rfl) (gle rfl) rfl (gle rfl) rfl dX1_checkArgument_8 (gk_v fun G3 h => ?_) (fun _ _ h hio => g_out0 hC (hX _ _ h) hio)
    exact g_athrow hC (pc := 11) dX1_checkArgument_11 h.1 (g_out0 hC (hX _ _ h.2) h.1)
theorem gc_X1_checkArgument : gCode yX1_checkArgument cX1_checkArgument 1 none 1 := ⟨q1932, q94, ⟨by decide, by decide⟩, rfl⟩
theorem m_X1_checkArgument {l : Launch} (hfl : l.stackTraces = false) {E : gE} {G : gS} {x0 : Int32} {X : Nat → gS → Prop} {K : gS → Prop} (h : wp_X1_checkArgument (gAd E) G x0 X K) : gMet l yX1_checkArgument (ws_ yX1_checkArgument cX1_checkArgument 1 none) 8 212 [vI x0] E G (gRv K) X :=
  g_met hfl (plainFor_of_name (by decide +kernel)) rfl rfl rfl (gle rfl) (fun p e R s m args below meth c hC => w_X1_checkArgument hC (fun _ h => h) (fun _ _ h => h) h)
def wp_X2_after (ad : Nat → Nat) (G : gS) (t0 : Nat) (x1 : Int32) (X : Nat → gS → Prop) (K : Option Nat → gS → Prop) : Prop :=
  (gIs G t0 2 ∧ wp_X2_copy ad G t0  X (fun q2 G1 => wNN q2 fun c3 => (gIs G1 c3 2 ∧ wp_X2_pass ad G1 c3 x1 X (fun G4 => K (some c3) G4))))
theorem w_X2_after {C : gCx} (hC : gOk C "GoblinHousehold$Household" cX2_after [] (some (Jvm.ClassFile.FieldType.object "GoblinHousehold$Household")) "after" 3 8 247) {K : Option Nat → gS → Prop} {X : Nat → gS → Prop} (hK : ∀ r G, K r G → cxK C (some (vQ r)) G) (hX : ∀ q G, X q G → cxX C q G) {G : gS} {t0 : Nat} {x1 : Int32} (h : wp_X2_after (cxA C) G t0 x1 X K) : gGo C G 0 [(0, vQ (some t0)), (1, vI x1)] [] := by
  unfold wp_X2_after at h
  refine g_aload_n hC (pc := 0) 0 rfl rfl dX2_after_0 ?_
  obtain ⟨hi, h⟩ := h
  refine g_callV hC (pc := 1) (ci := 2) (As := []) gc_X2_copy (m_X2_copy hC.fl h) rfl hi q1909 q1055 q1056 (gle rfl) (gle rfl) rfl (gle rfl) rfl dX2_after_1 (gk_q fun q2 G1 h => ?_) (fun _ _ h hio => g_out0 hC (hX _ _ h) hio)
  refine g_astore_n hC (pc := 4) (lv' := [(2, vQ q2), (0, vQ (some t0)), (1, vI x1)]) rfl (by decide) rfl dX2_after_4 ?_
  refine g_aload_n hC (pc := 5) 0 rfl rfl dX2_after_5 ?_
  refine g_iload_n hC (pc := 6) 2 rfl rfl dX2_after_6 ?_
  rcases q2 with _ | c3
  · exact (gNN0 h).elim
  replace h := gNN1 h
  obtain ⟨hi, h⟩ := h
  refine g_callV hC (pc := 7) (ci := 2) (As := [vI x1]) gc_X2_pass (m_X2_pass hC.fl h) rfl hi q1633 q1634 q1635 (gle rfl) (gle rfl) rfl (gle rfl) rfl dX2_after_7 (gk_v fun G4 h => ?_) (fun _ _ h hio => g_out0 hC (hX _ _ h) hio)
  refine g_aload_n hC (pc := 10) 0 rfl rfl dX2_after_10 ?_
  exact g_aret hC (pc := 11) (Or.inl ⟨_, rfl⟩) (hK _ _ h) dX2_after_11
theorem gc_X2_after : gCode yX2_after cX2_after 3 (some (Jvm.ClassFile.FieldType.object "GoblinHousehold$Household")) 1 := ⟨q1938, q95, ⟨by decide, by decide⟩, rfl⟩
theorem m_X2_after {l : Launch} (hfl : l.stackTraces = false) {E : gE} {G : gS} {t0 : Nat} {x1 : Int32} {X : Nat → gS → Prop} {K : Option Nat → gS → Prop} (h : wp_X2_after (gAd E) G t0 x1 X K) : gMet l yX2_after (ws_ yX2_after cX2_after 3 (some (Jvm.ClassFile.FieldType.object "GoblinHousehold$Household"))) 8 247 [vQ (some t0), vI x1] E G (gRq K) X :=
  g_met hfl (plainFor_of_name (by decide +kernel)) rfl rfl rfl (gle rfl) (fun p e R s m args below meth c hC => w_X2_after hC (fun _ _ h => h) (fun _ _ h => h) h)
def wp_X1_chestAfter (ad : Nat → Nat) (G : gS) (t0 : Nat) (x1 : Int32) (X : Nat → gS → Prop) (K : Int32 → gS → Prop) : Prop :=
  wp_X1_isBetween ad G x1 (0 : Int32) (60 : Int32) X (fun r2 G1 => wp_X1_checkArgument ad G1 r2 X (fun G3 => wGetQ G3 t0 1 0 fun q4 => wNN q4 fun c5 => (gIs G3 c5 2 ∧ wp_X2_after ad G3 c5 x1 X (fun q7 G6 => wNN q7 fun c8 => wGetI G6 c8 2 5 fun i9 => K i9 G6))))
theorem w_X1_chestAfter {C : gCx} (hC : gOk C "GoblinHousehold" cX1_chestAfter [] (some .int) "chestAfter" 2 9 277) {K : Int32 → gS → Prop} {X : Nat → gS → Prop} (hK : ∀ r G, K r G → cxK C (some (vI r)) G) (hX : ∀ q G, X q G → cxX C q G) {G : gS} {t0 : Nat} {x1 : Int32} (h : wp_X1_chestAfter (cxA C) G t0 x1 X K) : gGo C G 0 [(0, vQ (some t0)), (1, vI x1)] [] := by
  unfold wp_X1_chestAfter at h
  refine g_iload_n hC (pc := 0) 1 rfl rfl dX1_chestAfter_0 ?_
  refine g_iconst hC (pc := 1) (v := (0 : Int32)) (by decide) dX1_chestAfter_1 ?_
  refine g_bipush hC (pc := 2) (v := (60 : Int32)) (by decide) dX1_chestAfter_2 ?_
  refine g_callS hC (pc := 4) (b := 0) (As := [vI x1, vI (0 : Int32), vI (60 : Int32)]) gc_X1_isBetween (m_X1_isBetween hC.fl h) q1713 q884 (gle rfl) (gle rfl) rfl (gle rfl) rfl dX1_chestAfter_4 (gk_i fun r2 G1 h => ?_) (fun _ _ h hio => g_out0 hC (hX _ _ h) hio)
  refine g_callS hC (pc := 7) (b := 0) (As := [vI r2]) gc_X1_checkArgument (m_X1_checkArgument hC.fl h) q1930 q1931 (gle rfl) (gle rfl) rfl (gle rfl) rfl dX1_chestAfter_7 (gk_v fun G3 h => ?_) (fun _ _ h hio => g_out0 hC (hX _ _ h) hio)
  refine g_aload_n hC (pc := 10) 0 rfl rfl dX1_chestAfter_10 ?_
  refine g_getQ hC (pc := 11) in_X1 (ci := 1) rfl 0 (by decide) q292 (Or.inl rfl) h dX1_chestAfter_11 (fun q4 h => ?_)
  refine g_iload_n hC (pc := 14) 1 rfl rfl dX1_chestAfter_14 ?_
  rcases q4 with _ | c5
  · exact (gNN0 h).elim
  replace h := gNN1 h
  obtain ⟨hi, h⟩ := h
  refine g_callV hC (pc := 15) (ci := 2) (As := [vI x1]) gc_X2_after (m_X2_after hC.fl h) rfl hi q1935 q1936 q1937 (gle rfl) (gle rfl) rfl (gle rfl) rfl dX1_chestAfter_15 (gk_q fun q7 G6 h => ?_) (fun _ _ h hio => g_out0 hC (hX _ _ h) hio)
  rcases q7 with _ | c8
  · exact (gNN0 h).elim
  replace h := gNN1 h
  refine g_getIN hC (pc := 18) in_X2 (ci := 2) rfl 5 (by decide) (List.mem_of_getElem? (i := 4) rfl) (Or.inl rfl) h dX1_chestAfter_18 (fun i9 h => ?_)
  exact g_iret hC (pc := 21) (hK _ _ h) dX1_chestAfter_21
theorem gc_X1_chestAfter : gCode yX1_chestAfter cX1_chestAfter 2 (some .int) 1 := ⟨q1929, q94, ⟨by decide, by decide⟩, rfl⟩
theorem m_X1_chestAfter {l : Launch} (hfl : l.stackTraces = false) {E : gE} {G : gS} {t0 : Nat} {x1 : Int32} {X : Nat → gS → Prop} {K : Int32 → gS → Prop} (h : wp_X1_chestAfter (gAd E) G t0 x1 X K) : gMet l yX1_chestAfter (ws_ yX1_chestAfter cX1_chestAfter 2 (some .int)) 9 277 [vQ (some t0), vI x1] E G (gRi K) X :=
  g_met hfl (plainFor_of_name (by decide +kernel)) rfl rfl rfl (gle rfl) (fun p e R s m args below meth c hC => w_X1_chestAfter hC (fun _ _ h => h) (fun _ _ h => h) h)
def wp_X0_chestAfter_12 (ad : Nat → Nat) (X : Nat → gS → Prop) (K : Int32 → gS → Prop) (G : gS) (ts0 : Nat) : Prop :=
  K (1 : Int32) G
theorem w_X0_chestAfter_12 {C : gCx} (hC : gOk C "GoblinHouseholdLaw" cX0_chestAfter [(0, 9, 12, 13)] (some .int) "chestAfter" 4 10 306) {K : Int32 → gS → Prop} {X : Nat → gS → Prop} (hK : ∀ r G, K r G → cxK C (some (vI r)) G) (hX : ∀ q G, X q G → cxX C q G) {G : gS} {ts0 : Nat} (h : wp_X0_chestAfter_12 (cxA C) X K G ts0) : gGo C G 12 [] [vQ (some ts0)] := by
  unfold wp_X0_chestAfter_12 at h
  refine g_astore_n hC (pc := 12) (lv' := [(3, vQ (some ts0))]) rfl (by decide) rfl dX0_chestAfter_12 ?_
  refine g_iconst hC (pc := 13) (v := (1 : Int32)) (by decide) dX0_chestAfter_13 ?_
  exact g_iret hC (pc := 14) (hK _ _ h) dX0_chestAfter_14
def wp_X0_chestAfter (ad : Nat → Nat) (G : gS) (o0 : Option Nat) (x1 : Int32) (o2 : Option Nat) (X : Nat → gS → Prop) (K : Int32 → gS → Prop) : Prop :=
  wNN o0 fun c1 => (gIs G c1 1 ∧ wp_X1_chestAfter ad G c1 x1 (fun y3 G4 => (gHas G4 y3 21 ∧ (wp_X0_chestAfter_12 ad X K G4 y3))) (fun r5 G2 => wNN o2 fun c6 => wAstL G2 c6 (0 : Int32) ((r5).toInt64) fun G7 => K (0 : Int32) G7))
theorem w_X0_chestAfter {C : gCx} (hC : gOk C "GoblinHouseholdLaw" cX0_chestAfter [(0, 9, 12, 13)] (some .int) "chestAfter" 4 10 306) {K : Int32 → gS → Prop} {X : Nat → gS → Prop} (hK : ∀ r G, K r G → cxK C (some (vI r)) G) (hX : ∀ q G, X q G → cxX C q G) {G : gS} {o0 : Option Nat} {x1 : Int32} {o2 : Option Nat} (h : wp_X0_chestAfter (cxA C) G o0 x1 o2 X K) : gGo C G 0 [(0, vQ o0), (1, vI x1), (2, vQ o2)] [] := by
  unfold wp_X0_chestAfter at h
  refine g_aload_n hC (pc := 0) 2 rfl rfl dX0_chestAfter_0 ?_
  refine g_iconst hC (pc := 1) (v := (0 : Int32)) (by decide) dX0_chestAfter_1 ?_
  refine g_aload_n hC (pc := 2) 0 rfl rfl dX0_chestAfter_2 ?_
  refine g_iload_n hC (pc := 3) 1 rfl rfl dX0_chestAfter_3 ?_
  rcases o0 with _ | c1
  · exact (gNN0 h).elim
  replace h := gNN1 h
  obtain ⟨hi, h⟩ := h
  refine g_callV hC (pc := 4) (ci := 1) (As := [vI x1]) gc_X1_chestAfter (m_X1_chestAfter hC.fl h) rfl hi q1926 q1927 q1928 (gle rfl) (gle rfl) rfl (gle rfl) rfl dX0_chestAfter_4 (gk_i fun r5 G2 h => ?_) (fun y3 G4 h hio => ?_)
  · refine g_i2l hC (pc := 7) dX0_chestAfter_7 ?_
    rcases o2 with _ | c6
    · exact (gNN0 h).elim
    replace h := gNN1 h
    refine g_astL hC (pc := 8) h dX0_chestAfter_8 (fun G7 h => ?_)
    refine g_goto hC (pc := 9) 15 (by decide) dX0_chestAfter_9 ?_
    refine g_iconst hC (pc := 15) (v := (0 : Int32)) (by decide) dX0_chestAfter_15 ?_
    exact g_iret hC (pc := 16) (hK _ _ h) dX0_chestAfter_16
  · obtain ⟨hq, h⟩ := h
    refine g_catchI hC (pc := 4) (ci := 21) rfl hq 0 rfl (fun _ h => nomatch h) rfl (by decide) q871 (List.mem_of_getElem? (i := 4) rfl) rfl ?_
    exact g_sub [] rfl (w_X0_chestAfter_12 hC hK hX h)
theorem gc_X0_chestAfter : gCodeW yX0_chestAfter cX0_chestAfter 4 (some .int) [(0, 9, 12, 13)] 3 := ⟨q1925, q93, ⟨by decide, by decide⟩, rfl⟩
theorem m_X0_chestAfter {l : Launch} (hfl : l.stackTraces = false) {E : gE} {G : gS} {o0 : Option Nat} {x1 : Int32} {o2 : Option Nat} {X : Nat → gS → Prop} {K : Int32 → gS → Prop} (h : wp_X0_chestAfter (gAd E) G o0 x1 o2 X K) : gMet l yX0_chestAfter (wsW_ yX0_chestAfter cX0_chestAfter 4 (some .int) [(0, 9, 12, 13)]) 10 306 [vQ o0, vI x1, vQ o2] E G (gRi K) X :=
  g_metW hfl (plainFor_of_name (by decide +kernel)) rfl rfl rfl (gle rfl) (fun p e R s m args below meth c hC => w_X0_chestAfter hC (fun _ _ h => h) (fun _ _ h => h) h)
def wp_X3_after_32 (ad : Nat → Nat) (X : Nat → gS → Prop) (K : Int32 → gS → Prop) (G : gS) (t0 : Nat) (x2 : Int32) : Prop :=
  wGetQ G t0 0 0 fun q1 => wNN q1 fun c2 => wAldI G c2 x2 fun i3 => wGetQ G t0 0 2 fun q4 => wGetQ G t0 0 0 fun q5 => wp_X3_copies ad G q4 (0 : Int32) q5 (0 : Int32) X (fun G6 => K i3 G6)
theorem w_X3_after_32 {C : gCx} (hC : gOk C "GoblinHouseholdModel" cX3_after [] (some .int) "after" 5 7 217) {K : Int32 → gS → Prop} {X : Nat → gS → Prop} (hK : ∀ r G, K r G → cxK C (some (vI r)) G) (hX : ∀ q G, X q G → cxX C q G) {G : gS} {t0 : Nat} {x2 : Int32} (h : wp_X3_after_32 (cxA C) X K G t0 x2) : gGo C G 32 [(0, vQ (some t0)), (2, vI x2)] [] := by
  unfold wp_X3_after_32 at h
  refine g_aload_n hC (pc := 32) 0 rfl rfl dX3_after_32 ?_
  refine g_getQ hC (pc := 33) in_X3 (ci := 0) rfl 0 (by decide) q2477 (Or.inl rfl) h dX3_after_33 (fun q1 h => ?_)
  refine g_iload_n hC (pc := 36) 1 rfl rfl dX3_after_36 ?_
  rcases q1 with _ | c2
  · exact (gNN0 h).elim
  replace h := gNN1 h
  refine g_aldI hC (pc := 37) h dX3_after_37 (fun i3 h => ?_)
  refine g_istore_n hC (pc := 38) (lv' := [(3, vI i3), (0, vQ (some t0)), (2, vI x2)]) rfl (by decide) rfl dX3_after_38 ?_
  refine g_aload_n hC (pc := 39) 1 rfl rfl dX3_after_39 ?_
  refine g_getQ hC (pc := 40) in_X3 (ci := 0) rfl 2 (by decide) q2479 (Or.inl rfl) h dX3_after_40 (fun q4 h => ?_)
  refine g_iconst hC (pc := 43) (v := (0 : Int32)) (by decide) dX3_after_43 ?_
  refine g_aload_n hC (pc := 44) 1 rfl rfl dX3_after_44 ?_
  refine g_getQ hC (pc := 45) in_X3 (ci := 0) rfl 0 (by decide) q2477 (Or.inl rfl) h dX3_after_45 (fun q5 h => ?_)
  refine g_iconst hC (pc := 48) (v := (0 : Int32)) (by decide) dX3_after_48 ?_
  refine g_callS hC (pc := 49) (b := 0) (As := [vQ q4, vI (0 : Int32), vQ q5, vI (0 : Int32)]) gc_X3_copies (m_X3_copies hC.fl h) q2554 q2555 (gle rfl) (gle rfl) rfl (gle rfl) rfl dX3_after_49 (gk_v fun G6 h => ?_) (fun _ _ h hio => g_out0 hC (hX _ _ h) hio)
  refine g_iload_n hC (pc := 52) 0 rfl rfl dX3_after_52 ?_
  exact g_iret hC (pc := 53) (hK _ _ h) dX3_after_53
def wp_X3_after_15 (ad : Nat → Nat) (X : Nat → gS → Prop) (K : Int32 → gS → Prop) (J15 : gS → Nat → Int32 → Int32 → Int32 → Prop) (G : gS) (t0 : Nat) (x1 : Int32) (x2 : Int32) (x3 : Int32) : Prop :=
  (x1 ≤ x3 → wp_X3_after_32 ad X K G t0 x2) ∧ (¬ x1 ≤ x3 → (gIs G t0 0 ∧ wp_X3_passes ad G t0  X (fun r2 G1 => J15 G1 t0 x1 x2 (x3 + (1 : Int32)))))
theorem w_X3_after_15 {C : gCx} (hC : gOk C "GoblinHouseholdModel" cX3_after [] (some .int) "after" 5 7 217) {K : Int32 → gS → Prop} {X : Nat → gS → Prop} (hK : ∀ r G, K r G → cxK C (some (vI r)) G) (hX : ∀ q G, X q G → cxX C q G) (n : Nat) : ∀ (G : gS) (t0 : Nat) (x1 : Int32) (x2 : Int32) (x3 : Int32), gLoop (fun _ _ _ _ _ => False) (wp_X3_after_15 (cxA C) X K) n G t0 x1 x2 x3 → gGo C G 15 [(0, vQ (some t0)), (1, vI x1), (2, vI x2), (3, vI x3)] [] := by
  induction n with
  | zero => intro G t0 x1 x2 x3 h; exact h.elim
  | succ n ih =>
    intro G t0 x1 x2 x3 h
    have hJ15 := ih
    replace h : wp_X3_after_15 (cxA C) X K _ G t0 x1 x2 x3 := h
    unfold wp_X3_after_15 at h
    refine g_iload_n hC (pc := 15) 3 rfl rfl dX3_after_15 ?_
    refine g_iload_n hC (pc := 16) 1 rfl rfl dX3_after_16 ?_
    refine g_icmp_ge hC (pc := 17) 32 h (by decide) dX3_after_17 (fun h => ?_) (fun h => ?_)
    · exact g_sub [0, 2] rfl (w_X3_after_32 hC hK hX h)
    · refine g_aload_n hC (pc := 20) 0 rfl rfl dX3_after_20 ?_
      obtain ⟨hi, h⟩ := h
      refine g_callV hC (pc := 21) (ci := 0) (As := []) gc_X3_passes (m_X3_passes hC.fl h) rfl hi q2712 q2714 qs68 (gle rfl) (gle rfl) rfl (gle rfl) rfl dX3_after_21 (gk_i fun r2 G1 h => ?_) (fun _ _ h hio => g_out0 hC (hX _ _ h) hio)
      refine g_istore hC (pc := 24) (lv' := [(4, vI r2), (0, vQ (some t0)), (1, vI x1), (2, vI x2), (3, vI x3)]) (by decide) rfl dX3_after_24 ?_
      refine g_iinc hC (pc := 26) 4 (d := (1 : Int32)) (v := (x3 + (1 : Int32))) (lv' := [(3, vI (x3 + (1 : Int32))), (4, vI r2), (0, vQ (some t0)), (1, vI x1), (2, vI x2)]) rfl (by decide) rfl (by decide) rfl dX3_after_26 ?_
      refine g_goto hC (pc := 29) 15 (by decide) dX3_after_29 ?_
      exact g_sub [2, 3, 4, 0] rfl (hJ15 _ _ _ _ _ h)
def wp_X3_after (ad : Nat → Nat) (G : gS) (t0 : Nat) (x1 : Int32) (x2 : Int32) (X : Nat → gS → Prop) (K : Int32 → gS → Prop) : Prop :=
  wGetQ G t0 0 0 fun q1 => wGetQ G t0 0 2 fun q2 => wp_X3_copies ad G q1 (0 : Int32) q2 (0 : Int32) X (fun G3 => gLoop (fun _ _ _ _ _ => False) (wp_X3_after_15 ad X K) gFuel G3 t0 x1 x2 (0 : Int32))
theorem w_X3_after {C : gCx} (hC : gOk C "GoblinHouseholdModel" cX3_after [] (some .int) "after" 5 7 217) {K : Int32 → gS → Prop} {X : Nat → gS → Prop} (hK : ∀ r G, K r G → cxK C (some (vI r)) G) (hX : ∀ q G, X q G → cxX C q G) {G : gS} {t0 : Nat} {x1 : Int32} {x2 : Int32} (h : wp_X3_after (cxA C) G t0 x1 x2 X K) : gGo C G 0 [(0, vQ (some t0)), (1, vI x1), (2, vI x2)] [] := by
  unfold wp_X3_after at h
  refine g_aload_n hC (pc := 0) 0 rfl rfl dX3_after_0 ?_
  refine g_getQ hC (pc := 1) in_X3 (ci := 0) rfl 0 (by decide) q2477 (Or.inl rfl) h dX3_after_1 (fun q1 h => ?_)
  refine g_iconst hC (pc := 4) (v := (0 : Int32)) (by decide) dX3_after_4 ?_
  refine g_aload_n hC (pc := 5) 0 rfl rfl dX3_after_5 ?_
  refine g_getQ hC (pc := 6) in_X3 (ci := 0) rfl 2 (by decide) q2479 (Or.inl rfl) h dX3_after_6 (fun q2 h => ?_)
  refine g_iconst hC (pc := 9) (v := (0 : Int32)) (by decide) dX3_after_9 ?_
  refine g_callS hC (pc := 10) (b := 0) (As := [vQ q1, vI (0 : Int32), vQ q2, vI (0 : Int32)]) gc_X3_copies (m_X3_copies hC.fl h) q2554 q2555 (gle rfl) (gle rfl) rfl (gle rfl) rfl dX3_after_10 (gk_v fun G3 h => ?_) (fun _ _ h hio => g_out0 hC (hX _ _ h) hio)
  refine g_iconst hC (pc := 13) (v := (0 : Int32)) (by decide) dX3_after_13 ?_
  refine g_istore_n hC (pc := 14) (lv' := [(3, vI (0 : Int32)), (0, vQ (some t0)), (1, vI x1), (2, vI x2)]) rfl (by decide) rfl dX3_after_14 ?_
  exact g_sub [1, 2, 3, 0] rfl (w_X3_after_15 hC hK hX gFuel _ _ _ _ _ h)
theorem gc_X3_after : gCode yX3_after cX3_after 5 (some .int) 2 := ⟨q2848, q105, ⟨by decide, by decide⟩, rfl⟩
theorem m_X3_after {l : Launch} (hfl : l.stackTraces = false) {E : gE} {G : gS} {t0 : Nat} {x1 : Int32} {x2 : Int32} {X : Nat → gS → Prop} {K : Int32 → gS → Prop} (h : wp_X3_after (gAd E) G t0 x1 x2 X K) : gMet l yX3_after (ws_ yX3_after cX3_after 5 (some .int)) 7 217 [vQ (some t0), vI x1, vI x2] E G (gRi K) X :=
  g_met hfl (plainFor_of_name (by decide +kernel)) rfl rfl rfl (gle rfl) (fun p e R s m args below meth c hC => w_X3_after hC (fun _ _ h => h) (fun _ _ h => h) h)
def wp_X3_chestAfter (ad : Nat → Nat) (G : gS) (t0 : Nat) (x1 : Int32) (X : Nat → gS → Prop) (K : Int32 → gS → Prop) : Prop :=
  wp_X3_isIn ad G x1 (0 : Int32) (60 : Int32) X (fun r2 G1 => (gIs G1 t0 0 ∧ wp_X3_goes ad G1 t0 r2 X (fun r4 G3 => (r4 = (0 : Int32) → K (0 : Int32) G3) ∧ (¬ r4 = (0 : Int32) → (gIs G3 t0 0 ∧ wp_X3_after ad G3 t0 x1 (1 : Int32) X (fun r6 G5 => K r6 G5))))))
theorem w_X3_chestAfter {C : gCx} (hC : gOk C "GoblinHouseholdModel" cX3_chestAfter [] (some .int) "chestAfter" 2 8 249) {K : Int32 → gS → Prop} {X : Nat → gS → Prop} (hK : ∀ r G, K r G → cxK C (some (vI r)) G) (hX : ∀ q G, X q G → cxX C q G) {G : gS} {t0 : Nat} {x1 : Int32} (h : wp_X3_chestAfter (cxA C) G t0 x1 X K) : gGo C G 0 [(0, vQ (some t0)), (1, vI x1)] [] := by
  unfold wp_X3_chestAfter at h
  refine g_aload_n hC (pc := 0) 0 rfl rfl dX3_chestAfter_0 ?_
  refine g_iload_n hC (pc := 1) 1 rfl rfl dX3_chestAfter_1 ?_
  refine g_iconst hC (pc := 2) (v := (0 : Int32)) (by decide) dX3_chestAfter_2 ?_
  refine g_bipush hC (pc := 3) (v := (60 : Int32)) (by decide) dX3_chestAfter_3 ?_
  refine g_callS hC (pc := 5) (b := 0) (As := [vI x1, vI (0 : Int32), vI (60 : Int32)]) gc_X3_isIn (m_X3_isIn hC.fl h) q2577 q2578 (gle rfl) (gle rfl) rfl (gle rfl) rfl dX3_chestAfter_5 (gk_i fun r2 G1 h => ?_) (fun _ _ h hio => g_out0 hC (hX _ _ h) hio)
  obtain ⟨hi, h⟩ := h
  refine g_callV hC (pc := 8) (ci := 0) (As := [vI r2]) gc_X3_goes (m_X3_goes hC.fl h) rfl hi q2546 q2548 qs43 (gle rfl) (gle rfl) rfl (gle rfl) rfl dX3_chestAfter_8 (gk_i fun r4 G3 h => ?_) (fun _ _ h hio => g_out0 hC (hX _ _ h) hio)
  refine g_if_eq hC (pc := 11) 23 h (by decide) dX3_chestAfter_11 (fun h => ?_) (fun h => ?_)
  · refine g_iconst hC (pc := 23) (v := (0 : Int32)) (by decide) dX3_chestAfter_23 ?_
    exact g_iret hC (pc := 24) (hK _ _ h) dX3_chestAfter_24
  · refine g_aload_n hC (pc := 14) 0 rfl rfl dX3_chestAfter_14 ?_
    refine g_iload_n hC (pc := 15) 1 rfl rfl dX3_chestAfter_15 ?_
    refine g_iconst hC (pc := 16) (v := (1 : Int32)) (by decide) dX3_chestAfter_16 ?_
    obtain ⟨hi, h⟩ := h
    refine g_callV hC (pc := 17) (ci := 0) (As := [vI x1, vI (1 : Int32)]) gc_X3_after (m_X3_after hC.fl h) rfl hi q2845 q2847 qs78 (gle rfl) (gle rfl) rfl (gle rfl) rfl dX3_chestAfter_17 (gk_i fun r6 G5 h => ?_) (fun _ _ h hio => g_out0 hC (hX _ _ h) hio)
    refine g_goto hC (pc := 20) 24 (by decide) dX3_chestAfter_20 ?_
    exact g_iret hC (pc := 24) (hK _ _ h) dX3_chestAfter_24
theorem gc_X3_chestAfter : gCode yX3_chestAfter cX3_chestAfter 2 (some .int) 1 := ⟨q2844, q105, ⟨by decide, by decide⟩, rfl⟩
theorem m_X3_chestAfter {l : Launch} (hfl : l.stackTraces = false) {E : gE} {G : gS} {t0 : Nat} {x1 : Int32} {X : Nat → gS → Prop} {K : Int32 → gS → Prop} (h : wp_X3_chestAfter (gAd E) G t0 x1 X K) : gMet l yX3_chestAfter (ws_ yX3_chestAfter cX3_chestAfter 2 (some .int)) 8 249 [vQ (some t0), vI x1] E G (gRi K) X :=
  g_met hfl (plainFor_of_name (by decide +kernel)) rfl rfl rfl (gle rfl) (fun p e R s m args below meth c hC => w_X3_chestAfter hC (fun _ _ h => h) (fun _ _ h => h) h)
def wp_X1_debtAfter (ad : Nat → Nat) (G : gS) (t0 : Nat) (x1 : Int32) (x2 : Int32) (X : Nat → gS → Prop) (K : Int32 → gS → Prop) : Prop :=
  wGetQ G t0 1 0 fun q1 => wNN q1 fun c2 => (gIs G c2 2 ∧ wp_X2_isGoblin ad G c2 x1 X (fun r4 G3 => wp_X1_checkIndex ad G3 r4 X (fun G5 => wp_X1_isBetween ad G5 x2 (0 : Int32) (60 : Int32) X (fun r7 G6 => wp_X1_checkArgument ad G6 r7 X (fun G8 => wGetQ G8 t0 1 0 fun q9 => wNN q9 fun c10 => (gIs G8 c10 2 ∧ wp_X2_after ad G8 c10 x2 X (fun q12 G11 => wNN q12 fun c13 => wGetQ G11 c13 2 2 fun q14 => wNN q14 fun c15 => (gIs G11 c15 3 ∧ wp_J2_get ad G11 c15 x1 X (fun q17 G16 => wCast G16 q17 [9] (wNN q17 fun c18 => (gIs G16 c18 9 ∧ wp_X7_debt ad G16 c18  X (fun r20 G19 => K r20 G19))))))))))))
theorem w_X1_debtAfter {C : gCx} (hC : gOk C "GoblinHousehold" cX1_debtAfter [] (some .int) "debtAfter" 3 9 277) {K : Int32 → gS → Prop} {X : Nat → gS → Prop} (hK : ∀ r G, K r G → cxK C (some (vI r)) G) (hX : ∀ q G, X q G → cxX C q G) {G : gS} {t0 : Nat} {x1 : Int32} {x2 : Int32} (h : wp_X1_debtAfter (cxA C) G t0 x1 x2 X K) : gGo C G 0 [(0, vQ (some t0)), (1, vI x1), (2, vI x2)] [] := by
  unfold wp_X1_debtAfter at h
  refine g_aload_n hC (pc := 0) 0 rfl rfl dX1_debtAfter_0 ?_
  refine g_getQ hC (pc := 1) in_X1 (ci := 1) rfl 0 (by decide) q292 (Or.inl rfl) h dX1_debtAfter_1 (fun q1 h => ?_)
  refine g_iload_n hC (pc := 4) 1 rfl rfl dX1_debtAfter_4 ?_
  rcases q1 with _ | c2
  · exact (gNN0 h).elim
  replace h := gNN1 h
  obtain ⟨hi, h⟩ := h
  refine g_callV hC (pc := 5) (ci := 2) (As := [vI x1]) gc_X2_isGoblin (m_X2_isGoblin hC.fl h) rfl hi q1770 q1378 q1379 (gle rfl) (gle rfl) rfl (gle rfl) rfl dX1_debtAfter_5 (gk_i fun r4 G3 h => ?_) (fun _ _ h hio => g_out0 hC (hX _ _ h) hio)
  refine g_callS hC (pc := 8) (b := 0) (As := [vI r4]) gc_X1_checkIndex (m_X1_checkIndex hC.fl h) q1714 q1715 (gle rfl) (gle rfl) rfl (gle rfl) rfl dX1_debtAfter_8 (gk_v fun G5 h => ?_) (fun _ _ h hio => g_out0 hC (hX _ _ h) hio)
  refine g_iload_n hC (pc := 11) 2 rfl rfl dX1_debtAfter_11 ?_
  refine g_iconst hC (pc := 12) (v := (0 : Int32)) (by decide) dX1_debtAfter_12 ?_
  refine g_bipush hC (pc := 13) (v := (60 : Int32)) (by decide) dX1_debtAfter_13 ?_
  refine g_callS hC (pc := 15) (b := 0) (As := [vI x2, vI (0 : Int32), vI (60 : Int32)]) gc_X1_isBetween (m_X1_isBetween hC.fl h) q1713 q884 (gle rfl) (gle rfl) rfl (gle rfl) rfl dX1_debtAfter_15 (gk_i fun r7 G6 h => ?_) (fun _ _ h hio => g_out0 hC (hX _ _ h) hio)
  refine g_callS hC (pc := 18) (b := 0) (As := [vI r7]) gc_X1_checkArgument (m_X1_checkArgument hC.fl h) q1930 q1931 (gle rfl) (gle rfl) rfl (gle rfl) rfl dX1_debtAfter_18 (gk_v fun G8 h => ?_) (fun _ _ h hio => g_out0 hC (hX _ _ h) hio)
  refine g_aload_n hC (pc := 21) 0 rfl rfl dX1_debtAfter_21 ?_
  refine g_getQ hC (pc := 22) in_X1 (ci := 1) rfl 0 (by decide) q292 (Or.inl rfl) h dX1_debtAfter_22 (fun q9 h => ?_)
  refine g_iload_n hC (pc := 25) 2 rfl rfl dX1_debtAfter_25 ?_
  rcases q9 with _ | c10
  · exact (gNN0 h).elim
  replace h := gNN1 h
  obtain ⟨hi, h⟩ := h
  refine g_callV hC (pc := 26) (ci := 2) (As := [vI x2]) gc_X2_after (m_X2_after hC.fl h) rfl hi q1935 q1936 q1937 (gle rfl) (gle rfl) rfl (gle rfl) rfl dX1_debtAfter_26 (gk_q fun q12 G11 h => ?_) (fun _ _ h hio => g_out0 hC (hX _ _ h) hio)
  rcases q12 with _ | c13
  · exact (gNN0 h).elim
  replace h := gNN1 h
  refine g_getQN hC (pc := 29) in_X2 (ci := 2) rfl 2 (by decide) (List.mem_of_getElem? (i := 2) rfl) (Or.inl rfl) h dX1_debtAfter_29 (fun q14 h => ?_)
  refine g_iload_n hC (pc := 32) 1 rfl rfl dX1_debtAfter_32 ?_
  rcases q14 with _ | c15
  · exact (gNN0 h).elim
  replace h := gNN1 h
  obtain ⟨hi, h⟩ := h
  refine g_callF hC (pc := 33) (ci := 3) (As := [vI x1]) gc_J2_get (m_J2_get hC.fl h) rfl hi q1065 (List.mem_of_getElem? (i := 2) rfl) rfl q364 q366 (gle rfl) (gle rfl) rfl (gle rfl) rfl dX1_debtAfter_33 (gk_q fun q17 G16 h => ?_) (fun _ _ h hio => g_out0 hC (hX _ _ h) hio)
  refine g_cast hC (pc := 38) q1771 h (List.forall_mem_cons.mpr ⟨⟨_, rfl, Or.inr ⟨rfl, by decide⟩⟩, fun _ h => nomatch h⟩) dX1_debtAfter_38 (fun h => ?_)
  rcases q17 with _ | c18
  · exact (gNN0 h).elim
  replace h := gNN1 h
  obtain ⟨hi, h⟩ := h
  refine g_callU hC (pc := 41) (ci := 9) (As := []) gc_X7_debt (m_X7_debt hC.fl h) (x := ⟨"GoblinHousehold$Goblin", "debt", "()I"⟩) (owner := "GoblinHousehold$Debtor") rfl hi q1787 q826 q829 q830 ⟨by decide, by decide⟩ rfl q828 q829 (gle rfl) (gle rfl) rfl (gle rfl) rfl dX1_debtAfter_41 (gk_i fun r20 G19 h => ?_) (fun _ _ h hio => g_out0 hC (hX _ _ h) hio)
  exact g_iret hC (pc := 44) (hK _ _ h) dX1_debtAfter_44
theorem gc_X1_debtAfter : gCode yX1_debtAfter cX1_debtAfter 3 (some .int) 2 := ⟨q1945, q94, ⟨by decide, by decide⟩, rfl⟩
theorem m_X1_debtAfter {l : Launch} (hfl : l.stackTraces = false) {E : gE} {G : gS} {t0 : Nat} {x1 : Int32} {x2 : Int32} {X : Nat → gS → Prop} {K : Int32 → gS → Prop} (h : wp_X1_debtAfter (gAd E) G t0 x1 x2 X K) : gMet l yX1_debtAfter (ws_ yX1_debtAfter cX1_debtAfter 3 (some .int)) 9 277 [vQ (some t0), vI x1, vI x2] E G (gRi K) X :=
  g_met hfl (plainFor_of_name (by decide +kernel)) rfl rfl rfl (gle rfl) (fun p e R s m args below meth c hC => w_X1_debtAfter hC (fun _ _ h => h) (fun _ _ h => h) h)
def wp_X0_debtAfter_13 (ad : Nat → Nat) (X : Nat → gS → Prop) (K : Int32 → gS → Prop) (G : gS) (ts0 : Nat) : Prop :=
  K (1 : Int32) G
theorem w_X0_debtAfter_13 {C : gCx} (hC : gOk C "GoblinHouseholdLaw" cX0_debtAfter [(0, 10, 13, 23), (0, 10, 17, 13)] (some .int) "debtAfter" 5 10 307) {K : Int32 → gS → Prop} {X : Nat → gS → Prop} (hK : ∀ r G, K r G → cxK C (some (vI r)) G) (hX : ∀ q G, X q G → cxX C q G) {G : gS} {ts0 : Nat} (h : wp_X0_debtAfter_13 (cxA C) X K G ts0) : gGo C G 13 [] [vQ (some ts0)] := by
  unfold wp_X0_debtAfter_13 at h
  refine g_astore hC (pc := 13) (lv' := [(4, vQ (some ts0))]) (by decide) rfl dX0_debtAfter_13 ?_
  refine g_iconst hC (pc := 15) (v := (1 : Int32)) (by decide) dX0_debtAfter_15 ?_
  exact g_iret hC (pc := 16) (hK _ _ h) dX0_debtAfter_16
def wp_X0_debtAfter_17 (ad : Nat → Nat) (X : Nat → gS → Prop) (K : Int32 → gS → Prop) (G : gS) (ts0 : Nat) : Prop :=
  K (2 : Int32) G
theorem w_X0_debtAfter_17 {C : gCx} (hC : gOk C "GoblinHouseholdLaw" cX0_debtAfter [(0, 10, 13, 23), (0, 10, 17, 13)] (some .int) "debtAfter" 5 10 307) {K : Int32 → gS → Prop} {X : Nat → gS → Prop} (hK : ∀ r G, K r G → cxK C (some (vI r)) G) (hX : ∀ q G, X q G → cxX C q G) {G : gS} {ts0 : Nat} (h : wp_X0_debtAfter_17 (cxA C) X K G ts0) : gGo C G 17 [] [vQ (some ts0)] := by
  unfold wp_X0_debtAfter_17 at h
  refine g_astore hC (pc := 17) (lv' := [(4, vQ (some ts0))]) (by decide) rfl dX0_debtAfter_17 ?_
  refine g_iconst hC (pc := 19) (v := (2 : Int32)) (by decide) dX0_debtAfter_19 ?_
  exact g_iret hC (pc := 20) (hK _ _ h) dX0_debtAfter_20
def wp_X0_debtAfter (ad : Nat → Nat) (G : gS) (o0 : Option Nat) (x1 : Int32) (x2 : Int32) (o3 : Option Nat) (X : Nat → gS → Prop) (K : Int32 → gS → Prop) : Prop :=
  wNN o0 fun c1 => (gIs G c1 1 ∧ wp_X1_debtAfter ad G c1 x1 x2 (fun y3 G4 => (gHas G4 y3 20 ∧ (wp_X0_debtAfter_13 ad X K G4 y3)) ∨ (gHas G4 y3 21 ∧ (wp_X0_debtAfter_17 ad X K G4 y3))) (fun r5 G2 => wNN o3 fun c6 => wAstL G2 c6 (0 : Int32) ((r5).toInt64) fun G7 => K (0 : Int32) G7))
theorem w_X0_debtAfter {C : gCx} (hC : gOk C "GoblinHouseholdLaw" cX0_debtAfter [(0, 10, 13, 23), (0, 10, 17, 13)] (some .int) "debtAfter" 5 10 307) {K : Int32 → gS → Prop} {X : Nat → gS → Prop} (hK : ∀ r G, K r G → cxK C (some (vI r)) G) (hX : ∀ q G, X q G → cxX C q G) {G : gS} {o0 : Option Nat} {x1 : Int32} {x2 : Int32} {o3 : Option Nat} (h : wp_X0_debtAfter (cxA C) G o0 x1 x2 o3 X K) : gGo C G 0 [(0, vQ o0), (1, vI x1), (2, vI x2), (3, vQ o3)] [] := by
  unfold wp_X0_debtAfter at h
  refine g_aload_n hC (pc := 0) 3 rfl rfl dX0_debtAfter_0 ?_
  refine g_iconst hC (pc := 1) (v := (0 : Int32)) (by decide) dX0_debtAfter_1 ?_
  refine g_aload_n hC (pc := 2) 0 rfl rfl dX0_debtAfter_2 ?_
  refine g_iload_n hC (pc := 3) 1 rfl rfl dX0_debtAfter_3 ?_
  refine g_iload_n hC (pc := 4) 2 rfl rfl dX0_debtAfter_4 ?_
  rcases o0 with _ | c1
  · exact (gNN0 h).elim
  replace h := gNN1 h
  obtain ⟨hi, h⟩ := h
  refine g_callV hC (pc := 5) (ci := 1) (As := [vI x1, vI x2]) gc_X1_debtAfter (m_X1_debtAfter hC.fl h) rfl hi q1942 q1943 q1944 (gle rfl) (gle rfl) rfl (gle rfl) rfl dX0_debtAfter_5 (gk_i fun r5 G2 h => ?_) (fun y3 G4 h hio => ?_)
  · refine g_i2l hC (pc := 8) dX0_debtAfter_8 ?_
    rcases o3 with _ | c6
    · exact (gNN0 h).elim
    replace h := gNN1 h
    refine g_astL hC (pc := 9) h dX0_debtAfter_9 (fun G7 h => ?_)
    refine g_goto hC (pc := 10) 21 (by decide) dX0_debtAfter_10 ?_
    refine g_iconst hC (pc := 21) (v := (0 : Int32)) (by decide) dX0_debtAfter_21 ?_
    exact g_iret hC (pc := 22) (hK _ _ h) dX0_debtAfter_22
  · rcases h with h | h
    · obtain ⟨hq, h⟩ := h
      refine g_catchI hC (pc := 5) (ci := 20) rfl hq 0 rfl (fun _ h => nomatch h) rfl (by decide) q1312 (List.mem_of_getElem? (i := 2) rfl) rfl ?_
      exact g_sub [] rfl (w_X0_debtAfter_13 hC hK hX h)
    · obtain ⟨hq, h⟩ := h
      refine g_catchI hC (pc := 5) (ci := 21) rfl hq 1 rfl (List.forall_mem_cons.mpr ⟨Or.inr ⟨by decide, "java/lang/IndexOutOfBoundsException", q1312, (List.mem_of_getElem? (i := 5) rfl)⟩, fun _ h => nomatch h⟩) rfl (by decide) q871 (List.mem_of_getElem? (i := 4) rfl) rfl ?_
      exact g_sub [] rfl (w_X0_debtAfter_17 hC hK hX h)
theorem gc_X0_debtAfter : gCodeW yX0_debtAfter cX0_debtAfter 5 (some .int) [(0, 10, 13, 23), (0, 10, 17, 13)] 4 := ⟨q1941, q93, ⟨by decide, by decide⟩, rfl⟩
theorem m_X0_debtAfter {l : Launch} (hfl : l.stackTraces = false) {E : gE} {G : gS} {o0 : Option Nat} {x1 : Int32} {x2 : Int32} {o3 : Option Nat} {X : Nat → gS → Prop} {K : Int32 → gS → Prop} (h : wp_X0_debtAfter (gAd E) G o0 x1 x2 o3 X K) : gMet l yX0_debtAfter (wsW_ yX0_debtAfter cX0_debtAfter 5 (some .int) [(0, 10, 13, 23), (0, 10, 17, 13)]) 10 307 [vQ o0, vI x1, vI x2, vQ o3] E G (gRi K) X :=
  g_metW hfl (plainFor_of_name (by decide +kernel)) rfl rfl rfl (gle rfl) (fun p e R s m args below meth c hC => w_X0_debtAfter hC (fun _ _ h => h) (fun _ _ h => h) h)
def wp_X3_debtAfter (ad : Nat → Nat) (G : gS) (t0 : Nat) (x1 : Int32) (x2 : Int32) (X : Nat → gS → Prop) (K : Int32 → gS → Prop) : Prop :=
  (gIs G t0 0 ∧ wp_X3_isGoblin ad G t0 x1 X (fun r2 G1 => wp_X3_isIn ad G1 x2 (0 : Int32) (60 : Int32) X (fun r4 G3 => (gIs G3 t0 0 ∧ wp_X3_holds ad G3 t0 r2 r4 (1 : Int32) (1 : Int32) X (fun r6 G5 => (r6 = (0 : Int32) → K (0 : Int32) G5) ∧ (¬ r6 = (0 : Int32) → (gIs G5 t0 0 ∧ wp_X3_place ad G5 t0 x1 (2 : Int32) X (fun r8 G7 => (gIs G7 t0 0 ∧ wp_X3_after ad G7 t0 x2 r8 X (fun r10 G9 => K r10 G9))))))))))
theorem w_X3_debtAfter {C : gCx} (hC : gOk C "GoblinHouseholdModel" cX3_debtAfter [] (some .int) "debtAfter" 3 8 249) {K : Int32 → gS → Prop} {X : Nat → gS → Prop} (hK : ∀ r G, K r G → cxK C (some (vI r)) G) (hX : ∀ q G, X q G → cxX C q G) {G : gS} {t0 : Nat} {x1 : Int32} {x2 : Int32} (h : wp_X3_debtAfter (cxA C) G t0 x1 x2 X K) : gGo C G 0 [(0, vQ (some t0)), (1, vI x1), (2, vI x2)] [] := by
  unfold wp_X3_debtAfter at h
  refine g_aload_n hC (pc := 0) 0 rfl rfl dX3_debtAfter_0 ?_
  refine g_aload_n hC (pc := 1) 0 rfl rfl dX3_debtAfter_1 ?_
  refine g_iload_n hC (pc := 2) 1 rfl rfl dX3_debtAfter_2 ?_
  obtain ⟨hi, h⟩ := h
  refine g_callV hC (pc := 3) (ci := 0) (As := [vI x1]) gc_X3_isGoblin (m_X3_isGoblin hC.fl h) rfl hi q2628 q2630 qs55 (gle rfl) (gle rfl) rfl (gle rfl) rfl dX3_debtAfter_3 (gk_i fun r2 G1 h => ?_) (fun _ _ h hio => g_out0 hC (hX _ _ h) hio)
  refine g_iload_n hC (pc := 6) 2 rfl rfl dX3_debtAfter_6 ?_
  refine g_iconst hC (pc := 7) (v := (0 : Int32)) (by decide) dX3_debtAfter_7 ?_
  refine g_bipush hC (pc := 8) (v := (60 : Int32)) (by decide) dX3_debtAfter_8 ?_
  refine g_callS hC (pc := 10) (b := 0) (As := [vI x2, vI (0 : Int32), vI (60 : Int32)]) gc_X3_isIn (m_X3_isIn hC.fl h) q2577 q2578 (gle rfl) (gle rfl) rfl (gle rfl) rfl dX3_debtAfter_10 (gk_i fun r4 G3 h => ?_) (fun _ _ h hio => g_out0 hC (hX _ _ h) hio)
  refine g_iconst hC (pc := 13) (v := (1 : Int32)) (by decide) dX3_debtAfter_13 ?_
  refine g_iconst hC (pc := 14) (v := (1 : Int32)) (by decide) dX3_debtAfter_14 ?_
  obtain ⟨hi, h⟩ := h
  refine g_callV hC (pc := 15) (ci := 0) (As := [vI r2, vI r4, vI (1 : Int32), vI (1 : Int32)]) gc_X3_holds (m_X3_holds hC.fl h) rfl hi q2550 q2552 qs44 (gle rfl) (gle rfl) rfl (gle rfl) rfl dX3_debtAfter_15 (gk_i fun r6 G5 h => ?_) (fun _ _ h hio => g_out0 hC (hX _ _ h) hio)
  refine g_if_eq hC (pc := 18) 35 h (by decide) dX3_debtAfter_18 (fun h => ?_) (fun h => ?_)
  · refine g_iconst hC (pc := 35) (v := (0 : Int32)) (by decide) dX3_debtAfter_35 ?_
    exact g_iret hC (pc := 36) (hK _ _ h) dX3_debtAfter_36
  · refine g_aload_n hC (pc := 21) 0 rfl rfl dX3_debtAfter_21 ?_
    refine g_iload_n hC (pc := 22) 2 rfl rfl dX3_debtAfter_22 ?_
    refine g_aload_n hC (pc := 23) 0 rfl rfl dX3_debtAfter_23 ?_
    refine g_iload_n hC (pc := 24) 1 rfl rfl dX3_debtAfter_24 ?_
    refine g_iconst hC (pc := 25) (v := (2 : Int32)) (by decide) dX3_debtAfter_25 ?_
    obtain ⟨hi, h⟩ := h
    refine g_callV hC (pc := 26) (ci := 0) (As := [vI x1, vI (2 : Int32)]) gc_X3_place (m_X3_place hC.fl h) rfl hi q2636 q2638 qs57 (gle rfl) (gle rfl) rfl (gle rfl) rfl dX3_debtAfter_26 (gk_i fun r8 G7 h => ?_) (fun _ _ h hio => g_out0 hC (hX _ _ h) hio)
    obtain ⟨hi, h⟩ := h
    refine g_callV hC (pc := 29) (ci := 0) (As := [vI x2, vI r8]) gc_X3_after (m_X3_after hC.fl h) rfl hi q2845 q2847 qs78 (gle rfl) (gle rfl) rfl (gle rfl) rfl dX3_debtAfter_29 (gk_i fun r10 G9 h => ?_) (fun _ _ h hio => g_out0 hC (hX _ _ h) hio)
    refine g_goto hC (pc := 32) 36 (by decide) dX3_debtAfter_32 ?_
    exact g_iret hC (pc := 36) (hK _ _ h) dX3_debtAfter_36
theorem gc_X3_debtAfter : gCode yX3_debtAfter cX3_debtAfter 3 (some .int) 2 := ⟨q2852, q105, ⟨by decide, by decide⟩, rfl⟩
theorem m_X3_debtAfter {l : Launch} (hfl : l.stackTraces = false) {E : gE} {G : gS} {t0 : Nat} {x1 : Int32} {x2 : Int32} {X : Nat → gS → Prop} {K : Int32 → gS → Prop} (h : wp_X3_debtAfter (gAd E) G t0 x1 x2 X K) : gMet l yX3_debtAfter (ws_ yX3_debtAfter cX3_debtAfter 3 (some .int)) 8 249 [vQ (some t0), vI x1, vI x2] E G (gRi K) X :=
  g_met hfl (plainFor_of_name (by decide +kernel)) rfl rfl rfl (gle rfl) (fun p e R s m args below meth c hC => w_X3_debtAfter hC (fun _ _ h => h) (fun _ _ h => h) h)
def wp_X1_night (ad : Nat → Nat) (G : gS) (t0 : Nat) (X : Nat → gS → Prop) (K : Int32 → gS → Prop) : Prop :=
  wGetQ G t0 1 0 fun q1 => wNN q1 fun c2 => wGetI G c2 2 6 fun i3 => K i3 G
theorem w_X1_night {C : gCx} (hC : gOk C "GoblinHousehold" cX1_night [] (some .int) "night" 1 0 0) {K : Int32 → gS → Prop} {X : Nat → gS → Prop} (hK : ∀ r G, K r G → cxK C (some (vI r)) G) (hX : ∀ q G, X q G → cxX C q G) {G : gS} {t0 : Nat} (h : wp_X1_night (cxA C) G t0 X K) : gGo C G 0 [(0, vQ (some t0))] [] := by
  unfold wp_X1_night at h
  refine g_aload_n hC (pc := 0) 0 rfl rfl dX1_night_0 ?_
  refine g_getQ hC (pc := 1) in_X1 (ci := 1) rfl 0 (by decide) q292 (Or.inl rfl) h dX1_night_1 (fun q1 h => ?_)
  rcases q1 with _ | c2
  · exact (gNN0 h).elim
  replace h := gNN1 h
  refine g_getIN hC (pc := 4) in_X2 (ci := 2) rfl 6 (by decide) (List.mem_of_getElem? (i := 5) rfl) (Or.inl rfl) h dX1_night_4 (fun i3 h => ?_)
  exact g_iret hC (pc := 7) (hK _ _ h) dX1_night_7
theorem gc_X1_night : gCode yX1_night cX1_night 1 (some .int) 0 := ⟨q345, q94, ⟨by decide, by decide⟩, rfl⟩
theorem m_X1_night {l : Launch} (hfl : l.stackTraces = false) {E : gE} {G : gS} {t0 : Nat} {X : Nat → gS → Prop} {K : Int32 → gS → Prop} (h : wp_X1_night (gAd E) G t0 X K) : gMet l yX1_night (ws_ yX1_night cX1_night 1 (some .int)) 0 0 [vQ (some t0)] E G (gRi K) X :=
  g_met hfl (plainFor_of_name (by decide +kernel)) rfl rfl rfl (gle rfl) (fun p e R s m args below meth c hC => w_X1_night hC (fun _ _ h => h) (fun _ _ h => h) h)
def wp_X3_total (ad : Nat → Nat) (G : gS) (t0 : Nat) (x1 : Int32) (X : Nat → gS → Prop) (K : Int32 → gS → Prop) : Prop :=
  wPut G t0 0 14 (.int (0 : Int32)) fun G1 => wGetQ G1 t0 0 0 fun q2 => wNN q2 fun c3 => wAldI G1 c3 x1 fun i4 => K i4 G1
theorem w_X3_total {C : gCx} (hC : gOk C "GoblinHouseholdModel" cX3_total [] (some .int) "total" 2 0 0) {K : Int32 → gS → Prop} {X : Nat → gS → Prop} (hK : ∀ r G, K r G → cxK C (some (vI r)) G) (hX : ∀ q G, X q G → cxX C q G) {G : gS} {t0 : Nat} {x1 : Int32} (h : wp_X3_total (cxA C) G t0 x1 X K) : gGo C G 0 [(0, vQ (some t0)), (1, vI x1)] [] := by
  unfold wp_X3_total at h
  refine g_aload_n hC (pc := 0) 0 rfl rfl dX3_total_0 ?_
  refine g_iconst hC (pc := 1) (v := (0 : Int32)) (by decide) dX3_total_1 ?_
  refine g_put hC (pc := 2) in_X3 (ci := 0) rfl 14 (by decide) tyX3_ok nmX3 q2491 (Or.inl rfl) rfl rfl rfl h dX3_total_2 (fun G1 h => ?_)
  refine g_aload_n hC (pc := 5) 0 rfl rfl dX3_total_5 ?_
  refine g_getQ hC (pc := 6) in_X3 (ci := 0) rfl 0 (by decide) q2477 (Or.inl rfl) h dX3_total_6 (fun q2 h => ?_)
  refine g_iload_n hC (pc := 9) 1 rfl rfl dX3_total_9 ?_
  rcases q2 with _ | c3
  · exact (gNN0 h).elim
  replace h := gNN1 h
  refine g_aldI hC (pc := 10) h dX3_total_10 (fun i4 h => ?_)
  exact g_iret hC (pc := 11) (hK _ _ h) dX3_total_11
theorem gc_X3_total : gCode yX3_total cX3_total 2 (some .int) 1 := ⟨q2860, q105, ⟨by decide, by decide⟩, rfl⟩
theorem m_X3_total {l : Launch} (hfl : l.stackTraces = false) {E : gE} {G : gS} {t0 : Nat} {x1 : Int32} {X : Nat → gS → Prop} {K : Int32 → gS → Prop} (h : wp_X3_total (gAd E) G t0 x1 X K) : gMet l yX3_total (ws_ yX3_total cX3_total 2 (some .int)) 0 0 [vQ (some t0), vI x1] E G (gRi K) X :=
  g_met hfl (plainFor_of_name (by decide +kernel)) rfl rfl rfl (gle rfl) (fun p e R s m args below meth c hC => w_X3_total hC (fun _ _ h => h) (fun _ _ h => h) h)
def wp_X3_night (ad : Nat → Nat) (G : gS) (t0 : Nat) (X : Nat → gS → Prop) (K : Int32 → gS → Prop) : Prop :=
  (gIs G t0 0 ∧ wp_X3_total ad G t0 (0 : Int32) X (fun r2 G1 => K r2 G1))
theorem w_X3_night {C : gCx} (hC : gOk C "GoblinHouseholdModel" cX3_night [] (some .int) "night" 1 1 29) {K : Int32 → gS → Prop} {X : Nat → gS → Prop} (hK : ∀ r G, K r G → cxK C (some (vI r)) G) (hX : ∀ q G, X q G → cxX C q G) {G : gS} {t0 : Nat} (h : wp_X3_night (cxA C) G t0 X K) : gGo C G 0 [(0, vQ (some t0))] [] := by
  unfold wp_X3_night at h
  refine g_aload_n hC (pc := 0) 0 rfl rfl dX3_night_0 ?_
  refine g_iconst hC (pc := 1) (v := (0 : Int32)) (by decide) dX3_night_1 ?_
  obtain ⟨hi, h⟩ := h
  refine g_callV hC (pc := 2) (ci := 0) (As := [vI (0 : Int32)]) gc_X3_total (m_X3_total hC.fl h) rfl hi q2857 q2859 qs79 (gle rfl) (gle rfl) rfl (gle rfl) rfl dX3_night_2 (gk_i fun r2 G1 h => ?_) (fun _ _ h hio => g_out0 hC (hX _ _ h) hio)
  exact g_iret hC (pc := 5) (hK _ _ h) dX3_night_5
theorem gc_X3_night : gCode yX3_night cX3_night 1 (some .int) 0 := ⟨q2856, q105, ⟨by decide, by decide⟩, rfl⟩
theorem m_X3_night {l : Launch} (hfl : l.stackTraces = false) {E : gE} {G : gS} {t0 : Nat} {X : Nat → gS → Prop} {K : Int32 → gS → Prop} (h : wp_X3_night (gAd E) G t0 X K) : gMet l yX3_night (ws_ yX3_night cX3_night 1 (some .int)) 1 29 [vQ (some t0)] E G (gRi K) X :=
  g_met hfl (plainFor_of_name (by decide +kernel)) rfl rfl rfl (gle rfl) (fun p e R s m args below meth c hC => w_X3_night hC (fun _ _ h => h) (fun _ _ h => h) h)
def wp_X1_chest (ad : Nat → Nat) (G : gS) (t0 : Nat) (X : Nat → gS → Prop) (K : Int32 → gS → Prop) : Prop :=
  wGetQ G t0 1 0 fun q1 => wNN q1 fun c2 => wGetI G c2 2 5 fun i3 => K i3 G
theorem w_X1_chest {C : gCx} (hC : gOk C "GoblinHousehold" cX1_chest [] (some .int) "chest" 1 0 0) {K : Int32 → gS → Prop} {X : Nat → gS → Prop} (hK : ∀ r G, K r G → cxK C (some (vI r)) G) (hX : ∀ q G, X q G → cxX C q G) {G : gS} {t0 : Nat} (h : wp_X1_chest (cxA C) G t0 X K) : gGo C G 0 [(0, vQ (some t0))] [] := by
  unfold wp_X1_chest at h
  refine g_aload_n hC (pc := 0) 0 rfl rfl dX1_chest_0 ?_
  refine g_getQ hC (pc := 1) in_X1 (ci := 1) rfl 0 (by decide) q292 (Or.inl rfl) h dX1_chest_1 (fun q1 h => ?_)
  rcases q1 with _ | c2
  · exact (gNN0 h).elim
  replace h := gNN1 h
  refine g_getIN hC (pc := 4) in_X2 (ci := 2) rfl 5 (by decide) (List.mem_of_getElem? (i := 4) rfl) (Or.inl rfl) h dX1_chest_4 (fun i3 h => ?_)
  exact g_iret hC (pc := 7) (hK _ _ h) dX1_chest_7
theorem gc_X1_chest : gCode yX1_chest cX1_chest 1 (some .int) 0 := ⟨q349, q94, ⟨by decide, by decide⟩, rfl⟩
theorem m_X1_chest {l : Launch} (hfl : l.stackTraces = false) {E : gE} {G : gS} {t0 : Nat} {X : Nat → gS → Prop} {K : Int32 → gS → Prop} (h : wp_X1_chest (gAd E) G t0 X K) : gMet l yX1_chest (ws_ yX1_chest cX1_chest 1 (some .int)) 0 0 [vQ (some t0)] E G (gRi K) X :=
  g_met hfl (plainFor_of_name (by decide +kernel)) rfl rfl rfl (gle rfl) (fun p e R s m args below meth c hC => w_X1_chest hC (fun _ _ h => h) (fun _ _ h => h) h)
def wp_X3_chest (ad : Nat → Nat) (G : gS) (t0 : Nat) (X : Nat → gS → Prop) (K : Int32 → gS → Prop) : Prop :=
  (gIs G t0 0 ∧ wp_X3_total ad G t0 (1 : Int32) X (fun r2 G1 => K r2 G1))
theorem w_X3_chest {C : gCx} (hC : gOk C "GoblinHouseholdModel" cX3_chest [] (some .int) "chest" 1 1 29) {K : Int32 → gS → Prop} {X : Nat → gS → Prop} (hK : ∀ r G, K r G → cxK C (some (vI r)) G) (hX : ∀ q G, X q G → cxX C q G) {G : gS} {t0 : Nat} (h : wp_X3_chest (cxA C) G t0 X K) : gGo C G 0 [(0, vQ (some t0))] [] := by
  unfold wp_X3_chest at h
  refine g_aload_n hC (pc := 0) 0 rfl rfl dX3_chest_0 ?_
  refine g_iconst hC (pc := 1) (v := (1 : Int32)) (by decide) dX3_chest_1 ?_
  obtain ⟨hi, h⟩ := h
  refine g_callV hC (pc := 2) (ci := 0) (As := [vI (1 : Int32)]) gc_X3_total (m_X3_total hC.fl h) rfl hi q2857 q2859 qs79 (gle rfl) (gle rfl) rfl (gle rfl) rfl dX3_chest_2 (gk_i fun r2 G1 h => ?_) (fun _ _ h hio => g_out0 hC (hX _ _ h) hio)
  exact g_iret hC (pc := 5) (hK _ _ h) dX3_chest_5
theorem gc_X3_chest : gCode yX3_chest cX3_chest 1 (some .int) 0 := ⟨q2864, q105, ⟨by decide, by decide⟩, rfl⟩
theorem m_X3_chest {l : Launch} (hfl : l.stackTraces = false) {E : gE} {G : gS} {t0 : Nat} {X : Nat → gS → Prop} {K : Int32 → gS → Prop} (h : wp_X3_chest (gAd E) G t0 X K) : gMet l yX3_chest (ws_ yX3_chest cX3_chest 1 (some .int)) 1 29 [vQ (some t0)] E G (gRi K) X :=
  g_met hfl (plainFor_of_name (by decide +kernel)) rfl rfl rfl (gle rfl) (fun p e R s m args below meth c hC => w_X3_chest hC (fun _ _ h => h) (fun _ _ h => h) h)
def wp_X2_allCrumbs_7 (ad : Nat → Nat) (X : Nat → gS → Prop) (K : Int32 → gS → Prop) (J7 : gS → Nat → Int32 → Int32 → Prop) (G : gS) (t0 : Nat) (x1 : Int32) (x2 : Int32) : Prop :=
  wGetQ G t0 2 2 fun q1 => wNN q1 fun c2 => (gIs G c2 3 ∧ wp_J2_size ad G c2  X (fun r4 G3 => (r4 ≤ x2 → K x1 G3) ∧ (¬ r4 ≤ x2 → wGetQ G3 t0 2 2 fun q5 => wNN q5 fun c6 => (gIs G3 c6 3 ∧ wp_J2_get ad G3 c6 x2 X (fun q8 G7 => wCast G7 q8 [9] (wNN q8 fun c9 => (gIs G7 c9 9 ∧ wp_X7_purse ad G7 c9  X (fun r11 G10 => J7 G10 t0 (x1 + r11) (x2 + (1 : Int32))))))))))
theorem w_X2_allCrumbs_7 {C : gCx} (hC : gOk C "GoblinHousehold$Household" cX2_allCrumbs [] (some .int) "allCrumbs" 3 3 88) {K : Int32 → gS → Prop} {X : Nat → gS → Prop} (hK : ∀ r G, K r G → cxK C (some (vI r)) G) (hX : ∀ q G, X q G → cxX C q G) (n : Nat) : ∀ (G : gS) (t0 : Nat) (x1 : Int32) (x2 : Int32), gLoop (fun _ _ _ _ => False) (wp_X2_allCrumbs_7 (cxA C) X K) n G t0 x1 x2 → gGo C G 7 [(0, vQ (some t0)), (1, vI x1), (2, vI x2)] [] := by
  induction n with
  | zero => intro G t0 x1 x2 h; exact h.elim
  | succ n ih =>
    intro G t0 x1 x2 h
    have hJ7 := ih
    replace h : wp_X2_allCrumbs_7 (cxA C) X K _ G t0 x1 x2 := h
    unfold wp_X2_allCrumbs_7 at h
    refine g_iload_n hC (pc := 7) 2 rfl rfl dX2_allCrumbs_7 ?_
    refine g_aload_n hC (pc := 8) 0 rfl rfl dX2_allCrumbs_8 ?_
    refine g_getQ hC (pc := 9) in_X2 (ci := 2) rfl 2 (by decide) q192 (Or.inl rfl) h dX2_allCrumbs_9 (fun q1 h => ?_)
    rcases q1 with _ | c2
    · exact (gNN0 h).elim
    replace h := gNN1 h
    obtain ⟨hi, h⟩ := h
    refine g_callF hC (pc := 12) (ci := 3) (As := []) gc_J2_size (m_J2_size hC.fl h) rfl hi q359 (List.mem_of_getElem? (i := 0) rfl) rfl q323 q325 (gle rfl) (gle rfl) rfl (gle rfl) rfl dX2_allCrumbs_12 (gk_i fun r4 G3 h => ?_) (fun _ _ h hio => g_out0 hC (hX _ _ h) hio)
    refine g_icmp_ge hC (pc := 17) 45 h (by decide) dX2_allCrumbs_17 (fun h => ?_) (fun h => ?_)
    · refine g_iload_n hC (pc := 45) 1 rfl rfl dX2_allCrumbs_45 ?_
      exact g_iret hC (pc := 46) (hK _ _ h) dX2_allCrumbs_46
    · refine g_iload_n hC (pc := 20) 1 rfl rfl dX2_allCrumbs_20 ?_
      refine g_aload_n hC (pc := 21) 0 rfl rfl dX2_allCrumbs_21 ?_
      refine g_getQ hC (pc := 22) in_X2 (ci := 2) rfl 2 (by decide) q192 (Or.inl rfl) h dX2_allCrumbs_22 (fun q5 h => ?_)
      refine g_iload_n hC (pc := 25) 2 rfl rfl dX2_allCrumbs_25 ?_
      rcases q5 with _ | c6
      · exact (gNN0 h).elim
      replace h := gNN1 h
      obtain ⟨hi, h⟩ := h
      refine g_callF hC (pc := 26) (ci := 3) (As := [vI x2]) gc_J2_get (m_J2_get hC.fl h) rfl hi q361 (List.mem_of_getElem? (i := 2) rfl) rfl q364 q366 (gle rfl) (gle rfl) rfl (gle rfl) rfl dX2_allCrumbs_26 (gk_q fun q8 G7 h => ?_) (fun _ _ h hio => g_out0 hC (hX _ _ h) hio)
      refine g_cast hC (pc := 31) q706 h (List.forall_mem_cons.mpr ⟨⟨_, rfl, Or.inr ⟨rfl, by decide⟩⟩, fun _ h => nomatch h⟩) dX2_allCrumbs_31 (fun h => ?_)
      rcases q8 with _ | c9
      · exact (gNN0 h).elim
      replace h := gNN1 h
      obtain ⟨hi, h⟩ := h
      refine g_callU hC (pc := 34) (ci := 9) (As := []) gc_X7_purse (m_X7_purse hC.fl h) (x := ⟨"GoblinHousehold$Goblin", "purse", "()I"⟩) (owner := "GoblinHousehold$Debtor") rfl hi q707 q708 q711 q712 ⟨by decide, by decide⟩ rfl q710 q711 (gle rfl) (gle rfl) rfl (gle rfl) rfl dX2_allCrumbs_34 (gk_i fun r11 G10 h => ?_) (fun _ _ h hio => g_out0 hC (hX _ _ h) hio)
      refine g_iadd hC (pc := 37) dX2_allCrumbs_37 ?_
      refine g_istore_n hC (pc := 38) (lv' := [(1, vI (x1 + r11)), (0, vQ (some t0)), (2, vI x2)]) rfl (by decide) rfl dX2_allCrumbs_38 ?_
      refine g_iinc hC (pc := 39) 2 (d := (1 : Int32)) (v := (x2 + (1 : Int32))) (lv' := [(2, vI (x2 + (1 : Int32))), (1, vI (x1 + r11)), (0, vQ (some t0))]) rfl (by decide) rfl (by decide) rfl dX2_allCrumbs_39 ?_
      refine g_goto hC (pc := 42) 7 (by decide) dX2_allCrumbs_42 ?_
      exact g_sub [2, 1, 0] rfl (hJ7 _ _ _ _ h)
def wp_X2_allCrumbs (ad : Nat → Nat) (G : gS) (t0 : Nat) (X : Nat → gS → Prop) (K : Int32 → gS → Prop) : Prop :=
  wGetI G t0 2 5 fun i1 => gLoop (fun _ _ _ _ => False) (wp_X2_allCrumbs_7 ad X K) gFuel G t0 i1 (0 : Int32)
theorem w_X2_allCrumbs {C : gCx} (hC : gOk C "GoblinHousehold$Household" cX2_allCrumbs [] (some .int) "allCrumbs" 3 3 88) {K : Int32 → gS → Prop} {X : Nat → gS → Prop} (hK : ∀ r G, K r G → cxK C (some (vI r)) G) (hX : ∀ q G, X q G → cxX C q G) {G : gS} {t0 : Nat} (h : wp_X2_allCrumbs (cxA C) G t0 X K) : gGo C G 0 [(0, vQ (some t0))] [] := by
  unfold wp_X2_allCrumbs at h
  refine g_aload_n hC (pc := 0) 0 rfl rfl dX2_allCrumbs_0 ?_
  refine g_getI hC (pc := 1) in_X2 (ci := 2) rfl 5 (by decide) q197 (Or.inl rfl) h dX2_allCrumbs_1 (fun i1 h => ?_)
  refine g_istore_n hC (pc := 4) (lv' := [(1, vI i1), (0, vQ (some t0))]) rfl (by decide) rfl dX2_allCrumbs_4 ?_
  refine g_iconst hC (pc := 5) (v := (0 : Int32)) (by decide) dX2_allCrumbs_5 ?_
  refine g_istore_n hC (pc := 6) (lv' := [(2, vI (0 : Int32)), (1, vI i1), (0, vQ (some t0))]) rfl (by decide) rfl dX2_allCrumbs_6 ?_
  exact g_sub [2, 1, 0] rfl (w_X2_allCrumbs_7 hC hK hX gFuel _ _ _ _ h)
theorem gc_X2_allCrumbs : gCode yX2_allCrumbs cX2_allCrumbs 3 (some .int) 0 := ⟨q357, q95, ⟨by decide, by decide⟩, rfl⟩
theorem m_X2_allCrumbs {l : Launch} (hfl : l.stackTraces = false) {E : gE} {G : gS} {t0 : Nat} {X : Nat → gS → Prop} {K : Int32 → gS → Prop} (h : wp_X2_allCrumbs (gAd E) G t0 X K) : gMet l yX2_allCrumbs (ws_ yX2_allCrumbs cX2_allCrumbs 3 (some .int)) 3 88 [vQ (some t0)] E G (gRi K) X :=
  g_met hfl (plainFor_of_name (by decide +kernel)) rfl rfl rfl (gle rfl) (fun p e R s m args below meth c hC => w_X2_allCrumbs hC (fun _ _ h => h) (fun _ _ h => h) h)
def wp_X1_allCrumbs (ad : Nat → Nat) (G : gS) (t0 : Nat) (X : Nat → gS → Prop) (K : Int32 → gS → Prop) : Prop :=
  wGetQ G t0 1 0 fun q1 => wNN q1 fun c2 => (gIs G c2 2 ∧ wp_X2_allCrumbs ad G c2  X (fun r4 G3 => K r4 G3))
theorem w_X1_allCrumbs {C : gCx} (hC : gOk C "GoblinHousehold" cX1_allCrumbs [] (some .int) "allCrumbs" 1 4 118) {K : Int32 → gS → Prop} {X : Nat → gS → Prop} (hK : ∀ r G, K r G → cxK C (some (vI r)) G) (hX : ∀ q G, X q G → cxX C q G) {G : gS} {t0 : Nat} (h : wp_X1_allCrumbs (cxA C) G t0 X K) : gGo C G 0 [(0, vQ (some t0))] [] := by
  unfold wp_X1_allCrumbs at h
  refine g_aload_n hC (pc := 0) 0 rfl rfl dX1_allCrumbs_0 ?_
  refine g_getQ hC (pc := 1) in_X1 (ci := 1) rfl 0 (by decide) q292 (Or.inl rfl) h dX1_allCrumbs_1 (fun q1 h => ?_)
  rcases q1 with _ | c2
  · exact (gNN0 h).elim
  replace h := gNN1 h
  obtain ⟨hi, h⟩ := h
  refine g_callV hC (pc := 4) (ci := 2) (As := []) gc_X2_allCrumbs (m_X2_allCrumbs hC.fl h) rfl hi q354 q355 q356 (gle rfl) (gle rfl) rfl (gle rfl) rfl dX1_allCrumbs_4 (gk_i fun r4 G3 h => ?_) (fun _ _ h hio => g_out0 hC (hX _ _ h) hio)
  exact g_iret hC (pc := 7) (hK _ _ h) dX1_allCrumbs_7
theorem gc_X1_allCrumbs : gCode yX1_allCrumbs cX1_allCrumbs 1 (some .int) 0 := ⟨q353, q94, ⟨by decide, by decide⟩, rfl⟩
theorem m_X1_allCrumbs {l : Launch} (hfl : l.stackTraces = false) {E : gE} {G : gS} {t0 : Nat} {X : Nat → gS → Prop} {K : Int32 → gS → Prop} (h : wp_X1_allCrumbs (gAd E) G t0 X K) : gMet l yX1_allCrumbs (ws_ yX1_allCrumbs cX1_allCrumbs 1 (some .int)) 4 118 [vQ (some t0)] E G (gRi K) X :=
  g_met hfl (plainFor_of_name (by decide +kernel)) rfl rfl rfl (gle rfl) (fun p e R s m args below meth c hC => w_X1_allCrumbs hC (fun _ _ h => h) (fun _ _ h => h) h)
def wp_X3_allCrumbs_8 (ad : Nat → Nat) (X : Nat → gS → Prop) (K : Int32 → gS → Prop) (J8 : gS → Nat → Int32 → Int32 → Prop) (G : gS) (t0 : Nat) (x1 : Int32) (x2 : Int32) : Prop :=
  wGetQ G t0 0 0 fun q1 => wNN q1 fun c2 => wAldI G c2 (9 : Int32) fun i3 => (i3 ≤ x2 → K x1 G) ∧ (¬ i3 ≤ x2 → (gIs G t0 0 ∧ wp_X3_of ad G t0 x2 (1 : Int32) X (fun r5 G4 => J8 G4 t0 (x1 + r5) (x2 + (1 : Int32)))))
theorem w_X3_allCrumbs_8 {C : gCx} (hC : gOk C "GoblinHouseholdModel" cX3_allCrumbs [] (some .int) "allCrumbs" 3 4 119) {K : Int32 → gS → Prop} {X : Nat → gS → Prop} (hK : ∀ r G, K r G → cxK C (some (vI r)) G) (hX : ∀ q G, X q G → cxX C q G) (n : Nat) : ∀ (G : gS) (t0 : Nat) (x1 : Int32) (x2 : Int32), gLoop (fun _ _ _ _ => False) (wp_X3_allCrumbs_8 (cxA C) X K) n G t0 x1 x2 → gGo C G 8 [(0, vQ (some t0)), (1, vI x1), (2, vI x2)] [] := by
  induction n with
  | zero => intro G t0 x1 x2 h; exact h.elim
  | succ n ih =>
    intro G t0 x1 x2 h
    have hJ8 := ih
    replace h : wp_X3_allCrumbs_8 (cxA C) X K _ G t0 x1 x2 := h
    unfold wp_X3_allCrumbs_8 at h
    refine g_iload_n hC (pc := 8) 2 rfl rfl dX3_allCrumbs_8 ?_
    refine g_aload_n hC (pc := 9) 0 rfl rfl dX3_allCrumbs_9 ?_
    refine g_getQ hC (pc := 10) in_X3 (ci := 0) rfl 0 (by decide) q2477 (Or.inl rfl) h dX3_allCrumbs_10 (fun q1 h => ?_)
    refine g_bipush hC (pc := 13) (v := (9 : Int32)) (by decide) dX3_allCrumbs_13 ?_
    rcases q1 with _ | c2
    · exact (gNN0 h).elim
    replace h := gNN1 h
    refine g_aldI hC (pc := 15) h dX3_allCrumbs_15 (fun i3 h => ?_)
    refine g_icmp_ge hC (pc := 16) 34 h (by decide) dX3_allCrumbs_16 (fun h => ?_) (fun h => ?_)
    · refine g_iload_n hC (pc := 34) 1 rfl rfl dX3_allCrumbs_34 ?_
      exact g_iret hC (pc := 35) (hK _ _ h) dX3_allCrumbs_35
    · refine g_iload_n hC (pc := 19) 1 rfl rfl dX3_allCrumbs_19 ?_
      refine g_aload_n hC (pc := 20) 0 rfl rfl dX3_allCrumbs_20 ?_
      refine g_iload_n hC (pc := 21) 2 rfl rfl dX3_allCrumbs_21 ?_
      refine g_iconst hC (pc := 22) (v := (1 : Int32)) (by decide) dX3_allCrumbs_22 ?_
      obtain ⟨hi, h⟩ := h
      refine g_callV hC (pc := 23) (ci := 0) (As := [vI x2, vI (1 : Int32)]) gc_X3_of (m_X3_of hC.fl h) rfl hi q2632 q2634 qs56 (gle rfl) (gle rfl) rfl (gle rfl) rfl dX3_allCrumbs_23 (gk_i fun r5 G4 h => ?_) (fun _ _ h hio => g_out0 hC (hX _ _ h) hio)
      refine g_iadd hC (pc := 26) dX3_allCrumbs_26 ?_
      refine g_istore_n hC (pc := 27) (lv' := [(1, vI (x1 + r5)), (0, vQ (some t0)), (2, vI x2)]) rfl (by decide) rfl dX3_allCrumbs_27 ?_
      refine g_iinc hC (pc := 28) 2 (d := (1 : Int32)) (v := (x2 + (1 : Int32))) (lv' := [(2, vI (x2 + (1 : Int32))), (1, vI (x1 + r5)), (0, vQ (some t0))]) rfl (by decide) rfl (by decide) rfl dX3_allCrumbs_28 ?_
      refine g_goto hC (pc := 31) 8 (by decide) dX3_allCrumbs_31 ?_
      exact g_sub [2, 1, 0] rfl (hJ8 _ _ _ _ h)
def wp_X3_allCrumbs (ad : Nat → Nat) (G : gS) (t0 : Nat) (X : Nat → gS → Prop) (K : Int32 → gS → Prop) : Prop :=
  (gIs G t0 0 ∧ wp_X3_total ad G t0 (1 : Int32) X (fun r2 G1 => gLoop (fun _ _ _ _ => False) (wp_X3_allCrumbs_8 ad X K) gFuel G1 t0 r2 (0 : Int32)))
theorem w_X3_allCrumbs {C : gCx} (hC : gOk C "GoblinHouseholdModel" cX3_allCrumbs [] (some .int) "allCrumbs" 3 4 119) {K : Int32 → gS → Prop} {X : Nat → gS → Prop} (hK : ∀ r G, K r G → cxK C (some (vI r)) G) (hX : ∀ q G, X q G → cxX C q G) {G : gS} {t0 : Nat} (h : wp_X3_allCrumbs (cxA C) G t0 X K) : gGo C G 0 [(0, vQ (some t0))] [] := by
  unfold wp_X3_allCrumbs at h
  refine g_aload_n hC (pc := 0) 0 rfl rfl dX3_allCrumbs_0 ?_
  refine g_iconst hC (pc := 1) (v := (1 : Int32)) (by decide) dX3_allCrumbs_1 ?_
  obtain ⟨hi, h⟩ := h
  refine g_callV hC (pc := 2) (ci := 0) (As := [vI (1 : Int32)]) gc_X3_total (m_X3_total hC.fl h) rfl hi q2857 q2859 qs79 (gle rfl) (gle rfl) rfl (gle rfl) rfl dX3_allCrumbs_2 (gk_i fun r2 G1 h => ?_) (fun _ _ h hio => g_out0 hC (hX _ _ h) hio)
  refine g_istore_n hC (pc := 5) (lv' := [(1, vI r2), (0, vQ (some t0))]) rfl (by decide) rfl dX3_allCrumbs_5 ?_
  refine g_iconst hC (pc := 6) (v := (0 : Int32)) (by decide) dX3_allCrumbs_6 ?_
  refine g_istore_n hC (pc := 7) (lv' := [(2, vI (0 : Int32)), (1, vI r2), (0, vQ (some t0))]) rfl (by decide) rfl dX3_allCrumbs_7 ?_
  exact g_sub [2, 1, 0] rfl (w_X3_allCrumbs_8 hC hK hX gFuel _ _ _ _ h)
theorem gc_X3_allCrumbs : gCode yX3_allCrumbs cX3_allCrumbs 3 (some .int) 0 := ⟨q2868, q105, ⟨by decide, by decide⟩, rfl⟩
theorem m_X3_allCrumbs {l : Launch} (hfl : l.stackTraces = false) {E : gE} {G : gS} {t0 : Nat} {X : Nat → gS → Prop} {K : Int32 → gS → Prop} (h : wp_X3_allCrumbs (gAd E) G t0 X K) : gMet l yX3_allCrumbs (ws_ yX3_allCrumbs cX3_allCrumbs 3 (some .int)) 4 119 [vQ (some t0)] E G (gRi K) X :=
  g_met hfl (plainFor_of_name (by decide +kernel)) rfl rfl rfl (gle rfl) (fun p e R s m args below meth c hC => w_X3_allCrumbs hC (fun _ _ h => h) (fun _ _ h => h) h)
def wp_X2_allCrumbsByAccounts (ad : Nat → Nat) (G : gS) (t0 : Nat) (X : Nat → gS → Prop) (K : Int32 → gS → Prop) : Prop :=
  wGetI G t0 2 7 fun i1 => wGetI G t0 2 8 fun i2 => K (((100 : Int32) + i1) - i2) G
theorem w_X2_allCrumbsByAccounts {C : gCx} (hC : gOk C "GoblinHousehold$Household" cX2_allCrumbsByAccounts [] (some .int) "allCrumbsByAccounts" 1 0 0) {K : Int32 → gS → Prop} {X : Nat → gS → Prop} (hK : ∀ r G, K r G → cxK C (some (vI r)) G) (hX : ∀ q G, X q G → cxX C q G) {G : gS} {t0 : Nat} (h : wp_X2_allCrumbsByAccounts (cxA C) G t0 X K) : gGo C G 0 [(0, vQ (some t0))] [] := by
  unfold wp_X2_allCrumbsByAccounts at h
  refine g_bipush hC (pc := 0) (v := (100 : Int32)) (by decide) dX2_allCrumbsByAccounts_0 ?_
  refine g_aload_n hC (pc := 2) 0 rfl rfl dX2_allCrumbsByAccounts_2 ?_
  refine g_getI hC (pc := 3) in_X2 (ci := 2) rfl 7 (by decide) q201 (Or.inl rfl) h dX2_allCrumbsByAccounts_3 (fun i1 h => ?_)
  refine g_iadd hC (pc := 6) dX2_allCrumbsByAccounts_6 ?_
  refine g_aload_n hC (pc := 7) 0 rfl rfl dX2_allCrumbsByAccounts_7 ?_
  refine g_getI hC (pc := 8) in_X2 (ci := 2) rfl 8 (by decide) q202 (Or.inl rfl) h dX2_allCrumbsByAccounts_8 (fun i2 h => ?_)
  refine g_isub hC (pc := 11) dX2_allCrumbsByAccounts_11 ?_
  exact g_iret hC (pc := 12) (hK _ _ h) dX2_allCrumbsByAccounts_12
theorem gc_X2_allCrumbsByAccounts : gCode yX2_allCrumbsByAccounts cX2_allCrumbsByAccounts 1 (some .int) 0 := ⟨q720, q95, ⟨by decide, by decide⟩, rfl⟩
theorem m_X2_allCrumbsByAccounts {l : Launch} (hfl : l.stackTraces = false) {E : gE} {G : gS} {t0 : Nat} {X : Nat → gS → Prop} {K : Int32 → gS → Prop} (h : wp_X2_allCrumbsByAccounts (gAd E) G t0 X K) : gMet l yX2_allCrumbsByAccounts (ws_ yX2_allCrumbsByAccounts cX2_allCrumbsByAccounts 1 (some .int)) 0 0 [vQ (some t0)] E G (gRi K) X :=
  g_met hfl (plainFor_of_name (by decide +kernel)) rfl rfl rfl (gle rfl) (fun p e R s m args below meth c hC => w_X2_allCrumbsByAccounts hC (fun _ _ h => h) (fun _ _ h => h) h)
def wp_X1_allCrumbsByAccounts (ad : Nat → Nat) (G : gS) (t0 : Nat) (X : Nat → gS → Prop) (K : Int32 → gS → Prop) : Prop :=
  wGetQ G t0 1 0 fun q1 => wNN q1 fun c2 => (gIs G c2 2 ∧ wp_X2_allCrumbsByAccounts ad G c2  X (fun r4 G3 => K r4 G3))
theorem w_X1_allCrumbsByAccounts {C : gCx} (hC : gOk C "GoblinHousehold" cX1_allCrumbsByAccounts [] (some .int) "allCrumbsByAccounts" 1 1 28) {K : Int32 → gS → Prop} {X : Nat → gS → Prop} (hK : ∀ r G, K r G → cxK C (some (vI r)) G) (hX : ∀ q G, X q G → cxX C q G) {G : gS} {t0 : Nat} (h : wp_X1_allCrumbsByAccounts (cxA C) G t0 X K) : gGo C G 0 [(0, vQ (some t0))] [] := by
  unfold wp_X1_allCrumbsByAccounts at h
  refine g_aload_n hC (pc := 0) 0 rfl rfl dX1_allCrumbsByAccounts_0 ?_
  refine g_getQ hC (pc := 1) in_X1 (ci := 1) rfl 0 (by decide) q292 (Or.inl rfl) h dX1_allCrumbsByAccounts_1 (fun q1 h => ?_)
  rcases q1 with _ | c2
  · exact (gNN0 h).elim
  replace h := gNN1 h
  obtain ⟨hi, h⟩ := h
  refine g_callV hC (pc := 4) (ci := 2) (As := []) gc_X2_allCrumbsByAccounts (m_X2_allCrumbsByAccounts hC.fl h) rfl hi q717 q718 q719 (gle rfl) (gle rfl) rfl (gle rfl) rfl dX1_allCrumbsByAccounts_4 (gk_i fun r4 G3 h => ?_) (fun _ _ h hio => g_out0 hC (hX _ _ h) hio)
  exact g_iret hC (pc := 7) (hK _ _ h) dX1_allCrumbsByAccounts_7
theorem gc_X1_allCrumbsByAccounts : gCode yX1_allCrumbsByAccounts cX1_allCrumbsByAccounts 1 (some .int) 0 := ⟨q716, q94, ⟨by decide, by decide⟩, rfl⟩
theorem m_X1_allCrumbsByAccounts {l : Launch} (hfl : l.stackTraces = false) {E : gE} {G : gS} {t0 : Nat} {X : Nat → gS → Prop} {K : Int32 → gS → Prop} (h : wp_X1_allCrumbsByAccounts (gAd E) G t0 X K) : gMet l yX1_allCrumbsByAccounts (ws_ yX1_allCrumbsByAccounts cX1_allCrumbsByAccounts 1 (some .int)) 1 28 [vQ (some t0)] E G (gRi K) X :=
  g_met hfl (plainFor_of_name (by decide +kernel)) rfl rfl rfl (gle rfl) (fun p e R s m args below meth c hC => w_X1_allCrumbsByAccounts hC (fun _ _ h => h) (fun _ _ h => h) h)
def wp_X3_allCrumbsByAccounts (ad : Nat → Nat) (G : gS) (t0 : Nat) (X : Nat → gS → Prop) (K : Int32 → gS → Prop) : Prop :=
  wPut G t0 0 14 (.int (0 : Int32)) fun G1 => wGetQ G1 t0 0 0 fun q2 => wNN q2 fun c3 => wAldI G1 c3 (2 : Int32) fun i4 => wGetQ G1 t0 0 0 fun q5 => wNN q5 fun c6 => wAldI G1 c6 (3 : Int32) fun i7 => K (((100 : Int32) + i4) - i7) G1
theorem w_X3_allCrumbsByAccounts {C : gCx} (hC : gOk C "GoblinHouseholdModel" cX3_allCrumbsByAccounts [] (some .int) "allCrumbsByAccounts" 1 0 0) {K : Int32 → gS → Prop} {X : Nat → gS → Prop} (hK : ∀ r G, K r G → cxK C (some (vI r)) G) (hX : ∀ q G, X q G → cxX C q G) {G : gS} {t0 : Nat} (h : wp_X3_allCrumbsByAccounts (cxA C) G t0 X K) : gGo C G 0 [(0, vQ (some t0))] [] := by
  unfold wp_X3_allCrumbsByAccounts at h
  refine g_aload_n hC (pc := 0) 0 rfl rfl dX3_allCrumbsByAccounts_0 ?_
  refine g_iconst hC (pc := 1) (v := (0 : Int32)) (by decide) dX3_allCrumbsByAccounts_1 ?_
  refine g_put hC (pc := 2) in_X3 (ci := 0) rfl 14 (by decide) tyX3_ok nmX3 q2491 (Or.inl rfl) rfl rfl rfl h dX3_allCrumbsByAccounts_2 (fun G1 h => ?_)
  refine g_bipush hC (pc := 5) (v := (100 : Int32)) (by decide) dX3_allCrumbsByAccounts_5 ?_
  refine g_aload_n hC (pc := 7) 0 rfl rfl dX3_allCrumbsByAccounts_7 ?_
  refine g_getQ hC (pc := 8) in_X3 (ci := 0) rfl 0 (by decide) q2477 (Or.inl rfl) h dX3_allCrumbsByAccounts_8 (fun q2 h => ?_)
  refine g_iconst hC (pc := 11) (v := (2 : Int32)) (by decide) dX3_allCrumbsByAccounts_11 ?_
  rcases q2 with _ | c3
  · exact (gNN0 h).elim
  replace h := gNN1 h
  refine g_aldI hC (pc := 12) h dX3_allCrumbsByAccounts_12 (fun i4 h => ?_)
  refine g_iadd hC (pc := 13) dX3_allCrumbsByAccounts_13 ?_
  refine g_aload_n hC (pc := 14) 0 rfl rfl dX3_allCrumbsByAccounts_14 ?_
  refine g_getQ hC (pc := 15) in_X3 (ci := 0) rfl 0 (by decide) q2477 (Or.inl rfl) h dX3_allCrumbsByAccounts_15 (fun q5 h => ?_)
  refine g_iconst hC (pc := 18) (v := (3 : Int32)) (by decide) dX3_allCrumbsByAccounts_18 ?_
  rcases q5 with _ | c6
  · exact (gNN0 h).elim
  replace h := gNN1 h
  refine g_aldI hC (pc := 19) h dX3_allCrumbsByAccounts_19 (fun i7 h => ?_)
  refine g_isub hC (pc := 20) dX3_allCrumbsByAccounts_20 ?_
  exact g_iret hC (pc := 21) (hK _ _ h) dX3_allCrumbsByAccounts_21
theorem gc_X3_allCrumbsByAccounts : gCode yX3_allCrumbsByAccounts cX3_allCrumbsByAccounts 1 (some .int) 0 := ⟨q2872, q105, ⟨by decide, by decide⟩, rfl⟩
theorem m_X3_allCrumbsByAccounts {l : Launch} (hfl : l.stackTraces = false) {E : gE} {G : gS} {t0 : Nat} {X : Nat → gS → Prop} {K : Int32 → gS → Prop} (h : wp_X3_allCrumbsByAccounts (gAd E) G t0 X K) : gMet l yX3_allCrumbsByAccounts (ws_ yX3_allCrumbsByAccounts cX3_allCrumbsByAccounts 1 (some .int)) 0 0 [vQ (some t0)] E G (gRi K) X :=
  g_met hfl (plainFor_of_name (by decide +kernel)) rfl rfl rfl (gle rfl) (fun p e R s m args below meth c hC => w_X3_allCrumbsByAccounts hC (fun _ _ h => h) (fun _ _ h => h) h)
def wp_X1_doneTotal (ad : Nat → Nat) (G : gS) (t0 : Nat) (X : Nat → gS → Prop) (K : Int32 → gS → Prop) : Prop :=
  wGetQ G t0 1 0 fun q1 => wNN q1 fun c2 => wGetI G c2 2 9 fun i3 => K i3 G
theorem w_X1_doneTotal {C : gCx} (hC : gOk C "GoblinHousehold" cX1_doneTotal [] (some .int) "doneTotal" 1 0 0) {K : Int32 → gS → Prop} {X : Nat → gS → Prop} (hK : ∀ r G, K r G → cxK C (some (vI r)) G) (hX : ∀ q G, X q G → cxX C q G) {G : gS} {t0 : Nat} (h : wp_X1_doneTotal (cxA C) G t0 X K) : gGo C G 0 [(0, vQ (some t0))] [] := by
  unfold wp_X1_doneTotal at h
  refine g_aload_n hC (pc := 0) 0 rfl rfl dX1_doneTotal_0 ?_
  refine g_getQ hC (pc := 1) in_X1 (ci := 1) rfl 0 (by decide) q292 (Or.inl rfl) h dX1_doneTotal_1 (fun q1 h => ?_)
  rcases q1 with _ | c2
  · exact (gNN0 h).elim
  replace h := gNN1 h
  refine g_getIN hC (pc := 4) in_X2 (ci := 2) rfl 9 (by decide) (List.mem_of_getElem? (i := 6) rfl) (Or.inl rfl) h dX1_doneTotal_4 (fun i3 h => ?_)
  exact g_iret hC (pc := 7) (hK _ _ h) dX1_doneTotal_7
theorem gc_X1_doneTotal : gCode yX1_doneTotal cX1_doneTotal 1 (some .int) 0 := ⟨q724, q94, ⟨by decide, by decide⟩, rfl⟩
theorem m_X1_doneTotal {l : Launch} (hfl : l.stackTraces = false) {E : gE} {G : gS} {t0 : Nat} {X : Nat → gS → Prop} {K : Int32 → gS → Prop} (h : wp_X1_doneTotal (gAd E) G t0 X K) : gMet l yX1_doneTotal (ws_ yX1_doneTotal cX1_doneTotal 1 (some .int)) 0 0 [vQ (some t0)] E G (gRi K) X :=
  g_met hfl (plainFor_of_name (by decide +kernel)) rfl rfl rfl (gle rfl) (fun p e R s m args below meth c hC => w_X1_doneTotal hC (fun _ _ h => h) (fun _ _ h => h) h)
def wp_X3_doneTotal (ad : Nat → Nat) (G : gS) (t0 : Nat) (X : Nat → gS → Prop) (K : Int32 → gS → Prop) : Prop :=
  (gIs G t0 0 ∧ wp_X3_total ad G t0 (4 : Int32) X (fun r2 G1 => K r2 G1))
theorem w_X3_doneTotal {C : gCx} (hC : gOk C "GoblinHouseholdModel" cX3_doneTotal [] (some .int) "doneTotal" 1 1 29) {K : Int32 → gS → Prop} {X : Nat → gS → Prop} (hK : ∀ r G, K r G → cxK C (some (vI r)) G) (hX : ∀ q G, X q G → cxX C q G) {G : gS} {t0 : Nat} (h : wp_X3_doneTotal (cxA C) G t0 X K) : gGo C G 0 [(0, vQ (some t0))] [] := by
  unfold wp_X3_doneTotal at h
  refine g_aload_n hC (pc := 0) 0 rfl rfl dX3_doneTotal_0 ?_
  refine g_iconst hC (pc := 1) (v := (4 : Int32)) (by decide) dX3_doneTotal_1 ?_
  obtain ⟨hi, h⟩ := h
  refine g_callV hC (pc := 2) (ci := 0) (As := [vI (4 : Int32)]) gc_X3_total (m_X3_total hC.fl h) rfl hi q2857 q2859 qs79 (gle rfl) (gle rfl) rfl (gle rfl) rfl dX3_doneTotal_2 (gk_i fun r2 G1 h => ?_) (fun _ _ h hio => g_out0 hC (hX _ _ h) hio)
  exact g_iret hC (pc := 5) (hK _ _ h) dX3_doneTotal_5
theorem gc_X3_doneTotal : gCode yX3_doneTotal cX3_doneTotal 1 (some .int) 0 := ⟨q2876, q105, ⟨by decide, by decide⟩, rfl⟩
theorem m_X3_doneTotal {l : Launch} (hfl : l.stackTraces = false) {E : gE} {G : gS} {t0 : Nat} {X : Nat → gS → Prop} {K : Int32 → gS → Prop} (h : wp_X3_doneTotal (gAd E) G t0 X K) : gMet l yX3_doneTotal (ws_ yX3_doneTotal cX3_doneTotal 1 (some .int)) 1 29 [vQ (some t0)] E G (gRi K) X :=
  g_met hfl (plainFor_of_name (by decide +kernel)) rfl rfl rfl (gle rfl) (fun p e R s m args below meth c hC => w_X3_doneTotal hC (fun _ _ h => h) (fun _ _ h => h) h)
def wp_X1_brokenTotal (ad : Nat → Nat) (G : gS) (t0 : Nat) (X : Nat → gS → Prop) (K : Int32 → gS → Prop) : Prop :=
  wGetQ G t0 1 0 fun q1 => wNN q1 fun c2 => wGetI G c2 2 10 fun i3 => K i3 G
theorem w_X1_brokenTotal {C : gCx} (hC : gOk C "GoblinHousehold" cX1_brokenTotal [] (some .int) "brokenTotal" 1 0 0) {K : Int32 → gS → Prop} {X : Nat → gS → Prop} (hK : ∀ r G, K r G → cxK C (some (vI r)) G) (hX : ∀ q G, X q G → cxX C q G) {G : gS} {t0 : Nat} (h : wp_X1_brokenTotal (cxA C) G t0 X K) : gGo C G 0 [(0, vQ (some t0))] [] := by
  unfold wp_X1_brokenTotal at h
  refine g_aload_n hC (pc := 0) 0 rfl rfl dX1_brokenTotal_0 ?_
  refine g_getQ hC (pc := 1) in_X1 (ci := 1) rfl 0 (by decide) q292 (Or.inl rfl) h dX1_brokenTotal_1 (fun q1 h => ?_)
  rcases q1 with _ | c2
  · exact (gNN0 h).elim
  replace h := gNN1 h
  refine g_getIN hC (pc := 4) in_X2 (ci := 2) rfl 10 (by decide) (List.mem_of_getElem? (i := 7) rfl) (Or.inl rfl) h dX1_brokenTotal_4 (fun i3 h => ?_)
  exact g_iret hC (pc := 7) (hK _ _ h) dX1_brokenTotal_7
theorem gc_X1_brokenTotal : gCode yX1_brokenTotal cX1_brokenTotal 1 (some .int) 0 := ⟨q728, q94, ⟨by decide, by decide⟩, rfl⟩
theorem m_X1_brokenTotal {l : Launch} (hfl : l.stackTraces = false) {E : gE} {G : gS} {t0 : Nat} {X : Nat → gS → Prop} {K : Int32 → gS → Prop} (h : wp_X1_brokenTotal (gAd E) G t0 X K) : gMet l yX1_brokenTotal (ws_ yX1_brokenTotal cX1_brokenTotal 1 (some .int)) 0 0 [vQ (some t0)] E G (gRi K) X :=
  g_met hfl (plainFor_of_name (by decide +kernel)) rfl rfl rfl (gle rfl) (fun p e R s m args below meth c hC => w_X1_brokenTotal hC (fun _ _ h => h) (fun _ _ h => h) h)
def wp_X3_brokenTotal (ad : Nat → Nat) (G : gS) (t0 : Nat) (X : Nat → gS → Prop) (K : Int32 → gS → Prop) : Prop :=
  (gIs G t0 0 ∧ wp_X3_total ad G t0 (5 : Int32) X (fun r2 G1 => K r2 G1))
theorem w_X3_brokenTotal {C : gCx} (hC : gOk C "GoblinHouseholdModel" cX3_brokenTotal [] (some .int) "brokenTotal" 1 1 29) {K : Int32 → gS → Prop} {X : Nat → gS → Prop} (hK : ∀ r G, K r G → cxK C (some (vI r)) G) (hX : ∀ q G, X q G → cxX C q G) {G : gS} {t0 : Nat} (h : wp_X3_brokenTotal (cxA C) G t0 X K) : gGo C G 0 [(0, vQ (some t0))] [] := by
  unfold wp_X3_brokenTotal at h
  refine g_aload_n hC (pc := 0) 0 rfl rfl dX3_brokenTotal_0 ?_
  refine g_iconst hC (pc := 1) (v := (5 : Int32)) (by decide) dX3_brokenTotal_1 ?_
  obtain ⟨hi, h⟩ := h
  refine g_callV hC (pc := 2) (ci := 0) (As := [vI (5 : Int32)]) gc_X3_total (m_X3_total hC.fl h) rfl hi q2857 q2859 qs79 (gle rfl) (gle rfl) rfl (gle rfl) rfl dX3_brokenTotal_2 (gk_i fun r2 G1 h => ?_) (fun _ _ h hio => g_out0 hC (hX _ _ h) hio)
  exact g_iret hC (pc := 5) (hK _ _ h) dX3_brokenTotal_5
theorem gc_X3_brokenTotal : gCode yX3_brokenTotal cX3_brokenTotal 1 (some .int) 0 := ⟨q2880, q105, ⟨by decide, by decide⟩, rfl⟩
theorem m_X3_brokenTotal {l : Launch} (hfl : l.stackTraces = false) {E : gE} {G : gS} {t0 : Nat} {X : Nat → gS → Prop} {K : Int32 → gS → Prop} (h : wp_X3_brokenTotal (gAd E) G t0 X K) : gMet l yX3_brokenTotal (ws_ yX3_brokenTotal cX3_brokenTotal 1 (some .int)) 1 29 [vQ (some t0)] E G (gRi K) X :=
  g_met hfl (plainFor_of_name (by decide +kernel)) rfl rfl rfl (gle rfl) (fun p e R s m args below meth c hC => w_X3_brokenTotal hC (fun _ _ h => h) (fun _ _ h => h) h)
def wp_X1_unpaidTotal (ad : Nat → Nat) (G : gS) (t0 : Nat) (X : Nat → gS → Prop) (K : Int32 → gS → Prop) : Prop :=
  wGetQ G t0 1 0 fun q1 => wNN q1 fun c2 => wGetI G c2 2 11 fun i3 => K i3 G
theorem w_X1_unpaidTotal {C : gCx} (hC : gOk C "GoblinHousehold" cX1_unpaidTotal [] (some .int) "unpaidTotal" 1 0 0) {K : Int32 → gS → Prop} {X : Nat → gS → Prop} (hK : ∀ r G, K r G → cxK C (some (vI r)) G) (hX : ∀ q G, X q G → cxX C q G) {G : gS} {t0 : Nat} (h : wp_X1_unpaidTotal (cxA C) G t0 X K) : gGo C G 0 [(0, vQ (some t0))] [] := by
  unfold wp_X1_unpaidTotal at h
  refine g_aload_n hC (pc := 0) 0 rfl rfl dX1_unpaidTotal_0 ?_
  refine g_getQ hC (pc := 1) in_X1 (ci := 1) rfl 0 (by decide) q292 (Or.inl rfl) h dX1_unpaidTotal_1 (fun q1 h => ?_)
  rcases q1 with _ | c2
  · exact (gNN0 h).elim
  replace h := gNN1 h
  refine g_getIN hC (pc := 4) in_X2 (ci := 2) rfl 11 (by decide) (List.mem_of_getElem? (i := 8) rfl) (Or.inl rfl) h dX1_unpaidTotal_4 (fun i3 h => ?_)
  exact g_iret hC (pc := 7) (hK _ _ h) dX1_unpaidTotal_7
theorem gc_X1_unpaidTotal : gCode yX1_unpaidTotal cX1_unpaidTotal 1 (some .int) 0 := ⟨q732, q94, ⟨by decide, by decide⟩, rfl⟩
theorem m_X1_unpaidTotal {l : Launch} (hfl : l.stackTraces = false) {E : gE} {G : gS} {t0 : Nat} {X : Nat → gS → Prop} {K : Int32 → gS → Prop} (h : wp_X1_unpaidTotal (gAd E) G t0 X K) : gMet l yX1_unpaidTotal (ws_ yX1_unpaidTotal cX1_unpaidTotal 1 (some .int)) 0 0 [vQ (some t0)] E G (gRi K) X :=
  g_met hfl (plainFor_of_name (by decide +kernel)) rfl rfl rfl (gle rfl) (fun p e R s m args below meth c hC => w_X1_unpaidTotal hC (fun _ _ h => h) (fun _ _ h => h) h)
def wp_X3_unpaidTotal (ad : Nat → Nat) (G : gS) (t0 : Nat) (X : Nat → gS → Prop) (K : Int32 → gS → Prop) : Prop :=
  (gIs G t0 0 ∧ wp_X3_total ad G t0 (6 : Int32) X (fun r2 G1 => K r2 G1))
theorem w_X3_unpaidTotal {C : gCx} (hC : gOk C "GoblinHouseholdModel" cX3_unpaidTotal [] (some .int) "unpaidTotal" 1 1 29) {K : Int32 → gS → Prop} {X : Nat → gS → Prop} (hK : ∀ r G, K r G → cxK C (some (vI r)) G) (hX : ∀ q G, X q G → cxX C q G) {G : gS} {t0 : Nat} (h : wp_X3_unpaidTotal (cxA C) G t0 X K) : gGo C G 0 [(0, vQ (some t0))] [] := by
  unfold wp_X3_unpaidTotal at h
  refine g_aload_n hC (pc := 0) 0 rfl rfl dX3_unpaidTotal_0 ?_
  refine g_bipush hC (pc := 1) (v := (6 : Int32)) (by decide) dX3_unpaidTotal_1 ?_
  obtain ⟨hi, h⟩ := h
  refine g_callV hC (pc := 3) (ci := 0) (As := [vI (6 : Int32)]) gc_X3_total (m_X3_total hC.fl h) rfl hi q2857 q2859 qs79 (gle rfl) (gle rfl) rfl (gle rfl) rfl dX3_unpaidTotal_3 (gk_i fun r2 G1 h => ?_) (fun _ _ h hio => g_out0 hC (hX _ _ h) hio)
  exact g_iret hC (pc := 6) (hK _ _ h) dX3_unpaidTotal_6
theorem gc_X3_unpaidTotal : gCode yX3_unpaidTotal cX3_unpaidTotal 1 (some .int) 0 := ⟨q2884, q105, ⟨by decide, by decide⟩, rfl⟩
theorem m_X3_unpaidTotal {l : Launch} (hfl : l.stackTraces = false) {E : gE} {G : gS} {t0 : Nat} {X : Nat → gS → Prop} {K : Int32 → gS → Prop} (h : wp_X3_unpaidTotal (gAd E) G t0 X K) : gMet l yX3_unpaidTotal (ws_ yX3_unpaidTotal cX3_unpaidTotal 1 (some .int)) 1 29 [vQ (some t0)] E G (gRi K) X :=
  g_met hfl (plainFor_of_name (by decide +kernel)) rfl rfl rfl (gle rfl) (fun p e R s m args below meth c hC => w_X3_unpaidTotal hC (fun _ _ h => h) (fun _ _ h => h) h)
def wp_X1_interestTotal (ad : Nat → Nat) (G : gS) (t0 : Nat) (X : Nat → gS → Prop) (K : Int32 → gS → Prop) : Prop :=
  wGetQ G t0 1 0 fun q1 => wNN q1 fun c2 => wGetI G c2 2 12 fun i3 => K i3 G
theorem w_X1_interestTotal {C : gCx} (hC : gOk C "GoblinHousehold" cX1_interestTotal [] (some .int) "interestTotal" 1 0 0) {K : Int32 → gS → Prop} {X : Nat → gS → Prop} (hK : ∀ r G, K r G → cxK C (some (vI r)) G) (hX : ∀ q G, X q G → cxX C q G) {G : gS} {t0 : Nat} (h : wp_X1_interestTotal (cxA C) G t0 X K) : gGo C G 0 [(0, vQ (some t0))] [] := by
  unfold wp_X1_interestTotal at h
  refine g_aload_n hC (pc := 0) 0 rfl rfl dX1_interestTotal_0 ?_
  refine g_getQ hC (pc := 1) in_X1 (ci := 1) rfl 0 (by decide) q292 (Or.inl rfl) h dX1_interestTotal_1 (fun q1 h => ?_)
  rcases q1 with _ | c2
  · exact (gNN0 h).elim
  replace h := gNN1 h
  refine g_getIN hC (pc := 4) in_X2 (ci := 2) rfl 12 (by decide) (List.mem_of_getElem? (i := 9) rfl) (Or.inl rfl) h dX1_interestTotal_4 (fun i3 h => ?_)
  exact g_iret hC (pc := 7) (hK _ _ h) dX1_interestTotal_7
theorem gc_X1_interestTotal : gCode yX1_interestTotal cX1_interestTotal 1 (some .int) 0 := ⟨q736, q94, ⟨by decide, by decide⟩, rfl⟩
theorem m_X1_interestTotal {l : Launch} (hfl : l.stackTraces = false) {E : gE} {G : gS} {t0 : Nat} {X : Nat → gS → Prop} {K : Int32 → gS → Prop} (h : wp_X1_interestTotal (gAd E) G t0 X K) : gMet l yX1_interestTotal (ws_ yX1_interestTotal cX1_interestTotal 1 (some .int)) 0 0 [vQ (some t0)] E G (gRi K) X :=
  g_met hfl (plainFor_of_name (by decide +kernel)) rfl rfl rfl (gle rfl) (fun p e R s m args below meth c hC => w_X1_interestTotal hC (fun _ _ h => h) (fun _ _ h => h) h)
def wp_X3_interestTotal (ad : Nat → Nat) (G : gS) (t0 : Nat) (X : Nat → gS → Prop) (K : Int32 → gS → Prop) : Prop :=
  (gIs G t0 0 ∧ wp_X3_total ad G t0 (7 : Int32) X (fun r2 G1 => K r2 G1))
theorem w_X3_interestTotal {C : gCx} (hC : gOk C "GoblinHouseholdModel" cX3_interestTotal [] (some .int) "interestTotal" 1 1 29) {K : Int32 → gS → Prop} {X : Nat → gS → Prop} (hK : ∀ r G, K r G → cxK C (some (vI r)) G) (hX : ∀ q G, X q G → cxX C q G) {G : gS} {t0 : Nat} (h : wp_X3_interestTotal (cxA C) G t0 X K) : gGo C G 0 [(0, vQ (some t0))] [] := by
  unfold wp_X3_interestTotal at h
  refine g_aload_n hC (pc := 0) 0 rfl rfl dX3_interestTotal_0 ?_
  refine g_bipush hC (pc := 1) (v := (7 : Int32)) (by decide) dX3_interestTotal_1 ?_
  obtain ⟨hi, h⟩ := h
  refine g_callV hC (pc := 3) (ci := 0) (As := [vI (7 : Int32)]) gc_X3_total (m_X3_total hC.fl h) rfl hi q2857 q2859 qs79 (gle rfl) (gle rfl) rfl (gle rfl) rfl dX3_interestTotal_3 (gk_i fun r2 G1 h => ?_) (fun _ _ h hio => g_out0 hC (hX _ _ h) hio)
  exact g_iret hC (pc := 6) (hK _ _ h) dX3_interestTotal_6
theorem gc_X3_interestTotal : gCode yX3_interestTotal cX3_interestTotal 1 (some .int) 0 := ⟨q2888, q105, ⟨by decide, by decide⟩, rfl⟩
theorem m_X3_interestTotal {l : Launch} (hfl : l.stackTraces = false) {E : gE} {G : gS} {t0 : Nat} {X : Nat → gS → Prop} {K : Int32 → gS → Prop} (h : wp_X3_interestTotal (gAd E) G t0 X K) : gMet l yX3_interestTotal (ws_ yX3_interestTotal cX3_interestTotal 1 (some .int)) 1 29 [vQ (some t0)] E G (gRi K) X :=
  g_met hfl (plainFor_of_name (by decide +kernel)) rfl rfl rfl (gle rfl) (fun p e R s m args below meth c hC => w_X3_interestTotal hC (fun _ _ h => h) (fun _ _ h => h) h)
def wp_X2_allDust_13 (ad : Nat → Nat) (X : Nat → gS → Prop) (K : Int32 → gS → Prop) (J13 : gS → Int32 → Nat → Int32 → Int32 → Prop) (G : gS) (x1 : Int32) (t2 : Nat) (x3 : Int32) (x4 : Int32) : Prop :=
  (x3 ≤ x4 → K x1 G) ∧ (¬ x3 ≤ x4 → wAldI G t2 x4 fun i1 => J13 G (x1 + i1) t2 x3 (x4 + (1 : Int32)))
theorem w_X2_allDust_13 {C : gCx} (hC : gOk C "GoblinHousehold$Household" cX2_allDust [] (some .int) "allDust" 6 0 0) {K : Int32 → gS → Prop} {X : Nat → gS → Prop} (hK : ∀ r G, K r G → cxK C (some (vI r)) G) (hX : ∀ q G, X q G → cxX C q G) (n : Nat) : ∀ (G : gS) (x1 : Int32) (t2 : Nat) (x3 : Int32) (x4 : Int32), gLoop (fun _ _ _ _ _ => False) (wp_X2_allDust_13 (cxA C) X K) n G x1 t2 x3 x4 → gGo C G 13 [(1, vI x1), (2, vQ (some t2)), (3, vI x3), (4, vI x4)] [] := by
  induction n with
  | zero => intro G x1 t2 x3 x4 h; exact h.elim
  | succ n ih =>
    intro G x1 t2 x3 x4 h
    have hJ13 := ih
    replace h : wp_X2_allDust_13 (cxA C) X K _ G x1 t2 x3 x4 := h
    unfold wp_X2_allDust_13 at h
    refine g_iload hC (pc := 13) 3 rfl dX2_allDust_13 ?_
    refine g_iload_n hC (pc := 15) 2 rfl rfl dX2_allDust_15 ?_
    refine g_icmp_ge hC (pc := 16) 36 h (by decide) dX2_allDust_16 (fun h => ?_) (fun h => ?_)
    · refine g_iload_n hC (pc := 36) 0 rfl rfl dX2_allDust_36 ?_
      exact g_iret hC (pc := 37) (hK _ _ h) dX2_allDust_37
    · refine g_aload_n hC (pc := 19) 1 rfl rfl dX2_allDust_19 ?_
      refine g_iload hC (pc := 20) 3 rfl dX2_allDust_20 ?_
      refine g_aldI hC (pc := 22) h dX2_allDust_22 (fun i1 h => ?_)
      refine g_istore hC (pc := 23) (lv' := [(5, vI i1), (1, vI x1), (2, vQ (some t2)), (3, vI x3), (4, vI x4)]) (by decide) rfl dX2_allDust_23 ?_
      refine g_iload_n hC (pc := 25) 1 rfl rfl dX2_allDust_25 ?_
      refine g_iload hC (pc := 26) 0 rfl dX2_allDust_26 ?_
      refine g_iadd hC (pc := 28) dX2_allDust_28 ?_
      refine g_istore_n hC (pc := 29) (lv' := [(1, vI (x1 + i1)), (5, vI i1), (2, vQ (some t2)), (3, vI x3), (4, vI x4)]) rfl (by decide) rfl dX2_allDust_29 ?_
      refine g_iinc hC (pc := 30) 4 (d := (1 : Int32)) (v := (x4 + (1 : Int32))) (lv' := [(4, vI (x4 + (1 : Int32))), (1, vI (x1 + i1)), (5, vI i1), (2, vQ (some t2)), (3, vI x3)]) rfl (by decide) rfl (by decide) rfl dX2_allDust_30 ?_
      refine g_goto hC (pc := 33) 13 (by decide) dX2_allDust_33 ?_
      exact g_sub [1, 3, 4, 0] rfl (hJ13 _ _ _ _ _ h)
def wp_X2_allDust (ad : Nat → Nat) (G : gS) (t0 : Nat) (X : Nat → gS → Prop) (K : Int32 → gS → Prop) : Prop :=
  wGetQ G t0 2 0 fun q1 => wNN q1 fun c2 => wLen G c2 fun i3 => gLoop (fun _ _ _ _ _ => False) (wp_X2_allDust_13 ad X K) gFuel G (0 : Int32) c2 i3 (0 : Int32)
theorem w_X2_allDust {C : gCx} (hC : gOk C "GoblinHousehold$Household" cX2_allDust [] (some .int) "allDust" 6 0 0) {K : Int32 → gS → Prop} {X : Nat → gS → Prop} (hK : ∀ r G, K r G → cxK C (some (vI r)) G) (hX : ∀ q G, X q G → cxX C q G) {G : gS} {t0 : Nat} (h : wp_X2_allDust (cxA C) G t0 X K) : gGo C G 0 [(0, vQ (some t0))] [] := by
  unfold wp_X2_allDust at h
  refine g_iconst hC (pc := 0) (v := (0 : Int32)) (by decide) dX2_allDust_0 ?_
  refine g_istore_n hC (pc := 1) (lv' := [(1, vI (0 : Int32)), (0, vQ (some t0))]) rfl (by decide) rfl dX2_allDust_1 ?_
  refine g_aload_n hC (pc := 2) 1 rfl rfl dX2_allDust_2 ?_
  refine g_getQ hC (pc := 3) in_X2 (ci := 2) rfl 0 (by decide) q188 (Or.inl rfl) h dX2_allDust_3 (fun q1 h => ?_)
  refine g_astore_n hC (pc := 6) (lv' := [(2, vQ q1), (1, vI (0 : Int32)), (0, vQ (some t0))]) rfl (by decide) rfl dX2_allDust_6 ?_
  refine g_aload_n hC (pc := 7) 0 rfl rfl dX2_allDust_7 ?_
  rcases q1 with _ | c2
  · exact (gNN0 h).elim
  replace h := gNN1 h
  refine g_len hC (pc := 8) h dX2_allDust_8 (fun i3 h => ?_)
  refine g_istore_n hC (pc := 9) (lv' := [(3, vI i3), (2, vQ (some c2)), (1, vI (0 : Int32)), (0, vQ (some t0))]) rfl (by decide) rfl dX2_allDust_9 ?_
  refine g_iconst hC (pc := 10) (v := (0 : Int32)) (by decide) dX2_allDust_10 ?_
  refine g_istore hC (pc := 11) (lv' := [(4, vI (0 : Int32)), (3, vI i3), (2, vQ (some c2)), (1, vI (0 : Int32)), (0, vQ (some t0))]) (by decide) rfl dX2_allDust_11 ?_
  exact g_sub [3, 2, 1, 0] rfl (w_X2_allDust_13 hC hK hX gFuel _ _ _ _ _ h)
theorem gc_X2_allDust : gCode yX2_allDust cX2_allDust 6 (some .int) 0 := ⟨q744, q95, ⟨by decide, by decide⟩, rfl⟩
theorem m_X2_allDust {l : Launch} (hfl : l.stackTraces = false) {E : gE} {G : gS} {t0 : Nat} {X : Nat → gS → Prop} {K : Int32 → gS → Prop} (h : wp_X2_allDust (gAd E) G t0 X K) : gMet l yX2_allDust (ws_ yX2_allDust cX2_allDust 6 (some .int)) 0 0 [vQ (some t0)] E G (gRi K) X :=
  g_met hfl (plainFor_of_name (by decide +kernel)) rfl rfl rfl (gle rfl) (fun p e R s m args below meth c hC => w_X2_allDust hC (fun _ _ h => h) (fun _ _ h => h) h)
def wp_X1_meanDust (ad : Nat → Nat) (G : gS) (t0 : Nat) (X : Nat → gS → Prop) (K : UInt64 → gS → Prop) : Prop :=
  wGetQ G t0 1 0 fun q1 => wNN q1 fun c2 => (gIs G c2 2 ∧ wp_X2_allDust ad G c2  X (fun r4 G3 => vf_n64 (FP.ddiv (FP.i2d r4) (4618441417868443648 : UInt64)) ∧ (K (FP.ddiv (FP.i2d r4) (4618441417868443648 : UInt64)) G3)))
theorem w_X1_meanDust {C : gCx} (hC : gOk C "GoblinHousehold" cX1_meanDust [] (some .double) "meanDust" 1 1 33) {K : UInt64 → gS → Prop} {X : Nat → gS → Prop} (hK : ∀ r G, K r G → cxK C (some (vD r)) G) (hX : ∀ q G, X q G → cxX C q G) {G : gS} {t0 : Nat} (h : wp_X1_meanDust (cxA C) G t0 X K) : gGo C G 0 [(0, vQ (some t0))] [] := by
  unfold wp_X1_meanDust at h
  refine g_aload_n hC (pc := 0) 0 rfl rfl dX1_meanDust_0 ?_
  refine g_getQ hC (pc := 1) in_X1 (ci := 1) rfl 0 (by decide) q292 (Or.inl rfl) h dX1_meanDust_1 (fun q1 h => ?_)
  rcases q1 with _ | c2
  · exact (gNN0 h).elim
  replace h := gNN1 h
  obtain ⟨hi, h⟩ := h
  refine g_callV hC (pc := 4) (ci := 2) (As := []) gc_X2_allDust (m_X2_allDust hC.fl h) rfl hi q741 q742 q743 (gle rfl) (gle rfl) rfl (gle rfl) rfl dX1_meanDust_4 (gk_i fun r4 G3 h => ?_) (fun _ _ h hio => g_out0 hC (hX _ _ h) hio)
  refine g_i2d hC (pc := 7) dX1_meanDust_7 ?_
  refine g_ldcD hC (pc := 8) q745 dX1_meanDust_8 ?_
  obtain ⟨hz, h⟩ := h
  refine g_ddiv hC (pc := 11) hz dX1_meanDust_11 ?_
  exact g_dret hC (pc := 12) (hK _ _ h) dX1_meanDust_12
theorem gc_X1_meanDust : gCode yX1_meanDust cX1_meanDust 1 (some .double) 0 := ⟨q740, q94, ⟨by decide, by decide⟩, rfl⟩
theorem m_X1_meanDust {l : Launch} (hfl : l.stackTraces = false) {E : gE} {G : gS} {t0 : Nat} {X : Nat → gS → Prop} {K : UInt64 → gS → Prop} (h : wp_X1_meanDust (gAd E) G t0 X K) : gMet l yX1_meanDust (ws_ yX1_meanDust cX1_meanDust 1 (some .double)) 1 33 [vQ (some t0)] E G (gRd K) X :=
  g_met hfl (plainFor_of_name (by decide +kernel)) rfl rfl rfl (gle rfl) (fun p e R s m args below meth c hC => w_X1_meanDust hC (fun _ _ h => h) (fun _ _ h => h) h)
def wp_X3_meanDust_9 (ad : Nat → Nat) (X : Nat → gS → Prop) (K : UInt64 → gS → Prop) (J9 : gS → Nat → Int32 → Int32 → Prop) (G : gS) (t0 : Nat) (x1 : Int32) (x2 : Int32) : Prop :=
  ((6 : Int32) ≤ x2 → vf_n64 (FP.ddiv (FP.i2d x1) (4618441417868443648 : UInt64)) ∧ (K (FP.ddiv (FP.i2d x1) (4618441417868443648 : UInt64)) G)) ∧ (¬ (6 : Int32) ≤ x2 → wGetQ G t0 0 0 fun q1 => wNN q1 fun c2 => wAldI G c2 ((12 : Int32) + x2) fun i3 => J9 G t0 (x1 + i3) (x2 + (1 : Int32)))
theorem w_X3_meanDust_9 {C : gCx} (hC : gOk C "GoblinHouseholdModel" cX3_meanDust [] (some .double) "meanDust" 3 0 0) {K : UInt64 → gS → Prop} {X : Nat → gS → Prop} (hK : ∀ r G, K r G → cxK C (some (vD r)) G) (hX : ∀ q G, X q G → cxX C q G) (n : Nat) : ∀ (G : gS) (t0 : Nat) (x1 : Int32) (x2 : Int32), gLoop (fun _ _ _ _ => False) (wp_X3_meanDust_9 (cxA C) X K) n G t0 x1 x2 → gGo C G 9 [(0, vQ (some t0)), (1, vI x1), (2, vI x2)] [] := by
  induction n with
  | zero => intro G t0 x1 x2 h; exact h.elim
  | succ n ih =>
    intro G t0 x1 x2 h
    have hJ9 := ih
    replace h : wp_X3_meanDust_9 (cxA C) X K _ G t0 x1 x2 := h
    unfold wp_X3_meanDust_9 at h
    refine g_iload_n hC (pc := 9) 2 rfl rfl dX3_meanDust_9 ?_
    refine g_bipush hC (pc := 10) (v := (6 : Int32)) (by decide) dX3_meanDust_10 ?_
    refine g_icmp_ge hC (pc := 12) 33 h (by decide) dX3_meanDust_12 (fun h => ?_) (fun h => ?_)
    · refine g_iload_n hC (pc := 33) 1 rfl rfl dX3_meanDust_33 ?_
      refine g_i2d hC (pc := 34) dX3_meanDust_34 ?_
      refine g_ldcD hC (pc := 35) q2893 dX3_meanDust_35 ?_
      obtain ⟨hz, h⟩ := h
      refine g_ddiv hC (pc := 38) hz dX3_meanDust_38 ?_
      exact g_dret hC (pc := 39) (hK _ _ h) dX3_meanDust_39
    · refine g_iload_n hC (pc := 15) 1 rfl rfl dX3_meanDust_15 ?_
      refine g_aload_n hC (pc := 16) 0 rfl rfl dX3_meanDust_16 ?_
      refine g_getQ hC (pc := 17) in_X3 (ci := 0) rfl 0 (by decide) q2477 (Or.inl rfl) h dX3_meanDust_17 (fun q1 h => ?_)
      refine g_bipush hC (pc := 20) (v := (12 : Int32)) (by decide) dX3_meanDust_20 ?_
      refine g_iload_n hC (pc := 22) 2 rfl rfl dX3_meanDust_22 ?_
      refine g_iadd hC (pc := 23) dX3_meanDust_23 ?_
      rcases q1 with _ | c2
      · exact (gNN0 h).elim
      replace h := gNN1 h
      refine g_aldI hC (pc := 24) h dX3_meanDust_24 (fun i3 h => ?_)
      refine g_iadd hC (pc := 25) dX3_meanDust_25 ?_
      refine g_istore_n hC (pc := 26) (lv' := [(1, vI (x1 + i3)), (0, vQ (some t0)), (2, vI x2)]) rfl (by decide) rfl dX3_meanDust_26 ?_
      refine g_iinc hC (pc := 27) 2 (d := (1 : Int32)) (v := (x2 + (1 : Int32))) (lv' := [(2, vI (x2 + (1 : Int32))), (1, vI (x1 + i3)), (0, vQ (some t0))]) rfl (by decide) rfl (by decide) rfl dX3_meanDust_27 ?_
      refine g_goto hC (pc := 30) 9 (by decide) dX3_meanDust_30 ?_
      exact g_sub [2, 1, 0] rfl (hJ9 _ _ _ _ h)
def wp_X3_meanDust (ad : Nat → Nat) (G : gS) (t0 : Nat) (X : Nat → gS → Prop) (K : UInt64 → gS → Prop) : Prop :=
  wPut G t0 0 14 (.int (0 : Int32)) fun G1 => gLoop (fun _ _ _ _ => False) (wp_X3_meanDust_9 ad X K) gFuel G1 t0 (0 : Int32) (0 : Int32)
theorem w_X3_meanDust {C : gCx} (hC : gOk C "GoblinHouseholdModel" cX3_meanDust [] (some .double) "meanDust" 3 0 0) {K : UInt64 → gS → Prop} {X : Nat → gS → Prop} (hK : ∀ r G, K r G → cxK C (some (vD r)) G) (hX : ∀ q G, X q G → cxX C q G) {G : gS} {t0 : Nat} (h : wp_X3_meanDust (cxA C) G t0 X K) : gGo C G 0 [(0, vQ (some t0))] [] := by
  unfold wp_X3_meanDust at h
  refine g_aload_n hC (pc := 0) 0 rfl rfl dX3_meanDust_0 ?_
  refine g_iconst hC (pc := 1) (v := (0 : Int32)) (by decide) dX3_meanDust_1 ?_
  refine g_put hC (pc := 2) in_X3 (ci := 0) rfl 14 (by decide) tyX3_ok nmX3 q2491 (Or.inl rfl) rfl rfl rfl h dX3_meanDust_2 (fun G1 h => ?_)
  refine g_iconst hC (pc := 5) (v := (0 : Int32)) (by decide) dX3_meanDust_5 ?_
  refine g_istore_n hC (pc := 6) (lv' := [(1, vI (0 : Int32)), (0, vQ (some t0))]) rfl (by decide) rfl dX3_meanDust_6 ?_
  refine g_iconst hC (pc := 7) (v := (0 : Int32)) (by decide) dX3_meanDust_7 ?_
  refine g_istore_n hC (pc := 8) (lv' := [(2, vI (0 : Int32)), (1, vI (0 : Int32)), (0, vQ (some t0))]) rfl (by decide) rfl dX3_meanDust_8 ?_
  exact g_sub [2, 1, 0] rfl (w_X3_meanDust_9 hC hK hX gFuel _ _ _ _ h)
theorem gc_X3_meanDust : gCode yX3_meanDust cX3_meanDust 3 (some .double) 0 := ⟨q2892, q105, ⟨by decide, by decide⟩, rfl⟩
theorem m_X3_meanDust {l : Launch} (hfl : l.stackTraces = false) {E : gE} {G : gS} {t0 : Nat} {X : Nat → gS → Prop} {K : UInt64 → gS → Prop} (h : wp_X3_meanDust (gAd E) G t0 X K) : gMet l yX3_meanDust (ws_ yX3_meanDust cX3_meanDust 3 (some .double)) 0 0 [vQ (some t0)] E G (gRd K) X :=
  g_met hfl (plainFor_of_name (by decide +kernel)) rfl rfl rfl (gle rfl) (fun p e R s m args below meth c hC => w_X3_meanDust hC (fun _ _ h => h) (fun _ _ h => h) h)
def wp_J9_init_at25 (ad : Nat → Nat) (G : gS) (t0 : Nat) (X : Nat → gS → Prop) (K : gS → Prop) : Prop :=
  wPut G t0 25 2 (va_rf (some t0)) fun G1 => wPut G1 t0 25 3 (va_rf (gOp (ad 5))) fun G2 => wPut G2 t0 25 5 (va_rf (gOp (ad 6))) fun G3 => wFill G3 t0 25 3 0 (gOp (ad 5)) (K G3)
theorem w_J9_init_at25 {C : gCx} (hC : gOk C "java/lang/Throwable" cJ9_init [] none "<init>" 1 4 100) {K : gS → Prop} {X : Nat → gS → Prop} (hK : ∀ G, K G → cxK C none G) (hX : ∀ q G, X q G → cxX C q G) {G : gS} {t0 : Nat} (h : wp_J9_init_at25 (cxA C) G t0 X K) : gGo C G 0 [(0, vQ (some t0))] [] := by
  unfold wp_J9_init_at25 at h
  refine g_aload_n hC (pc := 0) 0 rfl rfl dJ9_init_0 ?_
  refine g_objInit hC (pc := 1) q417 q151 q152 (gle rfl) (gle rfl) (gle rfl) dJ9_init_1 ?_
  refine g_aload_n hC (pc := 4) 0 rfl rfl dJ9_init_4 ?_
  refine g_aload_n hC (pc := 5) 0 rfl rfl dJ9_init_5 ?_
  refine g_put hC (pc := 6) in_J28 (ci := 25) rfl 2 (by decide) tyJ28_ok nmJ28 q659 (Or.inl rfl) rfl (gnarO _ _) (gfitO _ _) h dJ9_init_6 (fun G1 h => ?_)
  refine g_aload_n hC (pc := 9) 0 rfl rfl dJ9_init_9 ?_
  refine g_statQ hC (pc := 10) (List.mem_of_getElem? (i := 0) rfl) q418 (fun _ _ h => h) dJ9_init_10 ?_
  refine g_put hC (pc := 13) in_J28 (ci := 25) rfl 3 (by decide) tyJ28_ok nmJ28 q660 (Or.inl rfl) rfl (gnarA _ _) (gfitA _ _) h dJ9_init_13 (fun G2 h => ?_)
  refine g_aload_n hC (pc := 16) 0 rfl rfl dJ9_init_16 ?_
  refine g_statQ hC (pc := 17) (List.mem_of_getElem? (i := 1) rfl) q420 (fun _ _ h => h) dJ9_init_17 ?_
  refine g_put hC (pc := 20) in_J28 (ci := 25) rfl 5 (by decide) tyJ28_ok nmJ28 q661 (Or.inl rfl) rfl (gnarO _ _) (gfitO _ _) h dJ9_init_20 (fun G3 h => ?_)
  refine g_aload_n hC (pc := 23) 0 rfl rfl dJ9_init_23 ?_
  refine g_fill hC (pc := 24) (ci := 25) 3 0 rfl (by decide) (by decide) ⟨rfl, rfl, rfl⟩ ⟨rfl, rfl, rfl⟩ q1957 q428 q1962 (gle rfl) (gle rfl) (gle rfl) h dJ9_init_24 (fun h => ?_)
  refine g_pop hC (pc := 27) rfl dJ9_init_27 ?_
  exact g_vret hC (pc := 28) (hK _ h) dJ9_init_28
theorem m_J9_init_at25 {l : Launch} (hfl : l.stackTraces = false) {E : gE} {G : gS} {t0 : Nat} {X : Nat → gS → Prop} {K : gS → Prop} (h : wp_J9_init_at25 (gAd E) G t0 X K) : gMet l yJ9_init (ws_ yJ9_init cJ9_init 1 none) 4 100 [vQ (some t0)] E G (gRv K) X :=
  g_met hfl (plainFor_of_name (by decide +kernel)) rfl rfl rfl (gle rfl) (fun p e R s m args below meth c hC => w_J9_init_at25 hC (fun _ h => h) (fun _ _ h => h) h)
def wp_J10_init_3_at25 (ad : Nat → Nat) (G : gS) (t0 : Nat) (X : Nat → gS → Prop) (K : gS → Prop) : Prop :=
  wp_J9_init_at25 ad G t0  X (fun G1 => K G1)
theorem w_J10_init_3_at25 {C : gCx} (hC : gOk C "java/lang/Exception" cJ10_init_3 [] none "<init>" 1 5 128) {K : gS → Prop} {X : Nat → gS → Prop} (hK : ∀ G, K G → cxK C none G) (hX : ∀ q G, X q G → cxX C q G) {G : gS} {t0 : Nat} (h : wp_J10_init_3_at25 (cxA C) G t0 X K) : gGo C G 0 [(0, vQ (some t0))] [] := by
  unfold wp_J10_init_3_at25 at h
  refine g_aload_n hC (pc := 0) 0 rfl rfl dJ10_init_3_0 ?_
  refine g_callI hC (pc := 1) (As := []) gc_J9_init (m_J9_init_at25 hC.fl h) rfl q1153 q415 (gle rfl) (gle rfl) rfl (gle rfl) rfl dJ10_init_3_1 (gk_v fun G1 h => ?_) (fun _ _ h hio => g_out0 hC (hX _ _ h) hio)
  exact g_vret hC (pc := 4) (hK _ h) dJ10_init_3_4
theorem m_J10_init_3_at25 {l : Launch} (hfl : l.stackTraces = false) {E : gE} {G : gS} {t0 : Nat} {X : Nat → gS → Prop} {K : gS → Prop} (h : wp_J10_init_3_at25 (gAd E) G t0 X K) : gMet l yJ10_init_3 (ws_ yJ10_init_3 cJ10_init_3 1 none) 5 128 [vQ (some t0)] E G (gRv K) X :=
  g_met hfl (plainFor_of_name (by decide +kernel)) rfl rfl rfl (gle rfl) (fun p e R s m args below meth c hC => w_J10_init_3_at25 hC (fun _ h => h) (fun _ _ h => h) h)
def wp_J17_init_2_at25 (ad : Nat → Nat) (G : gS) (t0 : Nat) (X : Nat → gS → Prop) (K : gS → Prop) : Prop :=
  wp_J10_init_3_at25 ad G t0  X (fun G1 => K G1)
theorem w_J17_init_2_at25 {C : gCx} (hC : gOk C "java/lang/RuntimeException" cJ17_init_2 [] none "<init>" 1 6 156) {K : gS → Prop} {X : Nat → gS → Prop} (hK : ∀ G, K G → cxK C none G) (hX : ∀ q G, X q G → cxX C q G) {G : gS} {t0 : Nat} (h : wp_J17_init_2_at25 (cxA C) G t0 X K) : gGo C G 0 [(0, vQ (some t0))] [] := by
  unfold wp_J17_init_2_at25 at h
  refine g_aload_n hC (pc := 0) 0 rfl rfl dJ17_init_2_0 ?_
  refine g_callI hC (pc := 1) (As := []) gc_J10_init_3 (m_J10_init_3_at25 hC.fl h) rfl q1150 q1151 (gle rfl) (gle rfl) rfl (gle rfl) rfl dJ17_init_2_1 (gk_v fun G1 h => ?_) (fun _ _ h hio => g_out0 hC (hX _ _ h) hio)
  exact g_vret hC (pc := 4) (hK _ h) dJ17_init_2_4
theorem m_J17_init_2_at25 {l : Launch} (hfl : l.stackTraces = false) {E : gE} {G : gS} {t0 : Nat} {X : Nat → gS → Prop} {K : gS → Prop} (h : wp_J17_init_2_at25 (gAd E) G t0 X K) : gMet l yJ17_init_2 (ws_ yJ17_init_2 cJ17_init_2 1 none) 6 156 [vQ (some t0)] E G (gRv K) X :=
  g_met hfl (plainFor_of_name (by decide +kernel)) rfl rfl rfl (gle rfl) (fun p e R s m args below meth c hC => w_J17_init_2_at25 hC (fun _ h => h) (fun _ _ h => h) h)
def wp_J28_init_2 (ad : Nat → Nat) (G : gS) (t0 : Nat) (X : Nat → gS → Prop) (K : gS → Prop) : Prop :=
  wp_J17_init_2_at25 ad G t0  X (fun G1 => K G1)
theorem w_J28_init_2 {C : gCx} (hC : gOk C "java/lang/ArithmeticException" cJ28_init_2 [] none "<init>" 1 7 184) {K : gS → Prop} {X : Nat → gS → Prop} (hK : ∀ G, K G → cxK C none G) (hX : ∀ q G, X q G → cxX C q G) {G : gS} {t0 : Nat} (h : wp_J28_init_2 (cxA C) G t0 X K) : gGo C G 0 [(0, vQ (some t0))] [] := by
  unfold wp_J28_init_2 at h
  refine g_aload_n hC (pc := 0) 0 rfl rfl dJ28_init_2_0 ?_
  refine g_callI hC (pc := 1) (As := []) gc_J17_init_2 (m_J17_init_2_at25 hC.fl h) rfl q1971 q1148 (gle rfl) (gle rfl) rfl (gle rfl) rfl dJ28_init_2_1 (gk_v fun G1 h => ?_) (fun _ _ h hio => g_out0 hC (hX _ _ h) hio)
  exact g_vret hC (pc := 4) (hK _ h) dJ28_init_2_4
theorem gc_J28_init_2 : gCode yJ28_init_2 cJ28_init_2 1 none 0 := ⟨q1970, q139, ⟨by decide, by decide⟩, rfl⟩
theorem m_J28_init_2 {l : Launch} (hfl : l.stackTraces = false) {E : gE} {G : gS} {t0 : Nat} {X : Nat → gS → Prop} {K : gS → Prop} (h : wp_J28_init_2 (gAd E) G t0 X K) : gMet l yJ28_init_2 (ws_ yJ28_init_2 cJ28_init_2 1 none) 7 184 [vQ (some t0)] E G (gRv K) X :=
  g_met hfl (plainFor_of_name (by decide +kernel)) rfl rfl rfl (gle rfl) (fun p e R s m args below meth c hC => w_J28_init_2 hC (fun _ h => h) (fun _ _ h => h) h)
def wp_X1_reliability (ad : Nat → Nat) (G : gS) (t0 : Nat) (X : Nat → gS → Prop) (K : UInt32 → gS → Prop) : Prop :=
  wGetQ G t0 1 0 fun q1 => wNN q1 fun c2 => wGetI G c2 2 9 fun i3 => wGetQ G t0 1 0 fun q4 => wNN q4 fun c5 => wGetI G c5 2 10 fun i6 => (¬ (i3 + i6) = (0 : Int32) → wGetQ G t0 1 0 fun q7 => wNN q7 fun c8 => wGetI G c8 2 9 fun i9 => vf_n32 (FP.fdiv (FP.i2f i9) (FP.i2f (i3 + i6))) ∧ (K (FP.fdiv (FP.i2f i9) (FP.i2f (i3 + i6))) G)) ∧ ((i3 + i6) = (0 : Int32) → wNew G 25 6 [.null, .null, .null, .null, .int 0, .null] fun c11 G10 => wp_J28_init_2 ad G10 c11  X (fun G12 => wThrow G12 c11 X))
theorem w_X1_reliability {C : gCx} (hC : gOk C "GoblinHousehold" cX1_reliability [] (some .float) "reliability" 2 8 212) {K : UInt32 → gS → Prop} {X : Nat → gS → Prop} (hK : ∀ r G, K r G → cxK C (some (vF r)) G) (hX : ∀ q G, X q G → cxX C q G) {G : gS} {t0 : Nat} (h : wp_X1_reliability (cxA C) G t0 X K) : gGo C G 0 [(0, vQ (some t0))] [] := by
  unfold wp_X1_reliability at h
  refine g_aload_n hC (pc := 0) 0 rfl rfl dX1_reliability_0 ?_
  refine g_getQ hC (pc := 1) in_X1 (ci := 1) rfl 0 (by decide) q292 (Or.inl rfl) h dX1_reliability_1 (fun q1 h => ?_)
  rcases q1 with _ | c2
  · exact (gNN0 h).elim
  replace h := gNN1 h
  refine g_getIN hC (pc := 4) in_X2 (ci := 2) rfl 9 (by decide) (List.mem_of_getElem? (i := 6) rfl) (Or.inl rfl) h dX1_reliability_4 (fun i3 h => ?_)
  refine g_aload_n hC (pc := 7) 0 rfl rfl dX1_reliability_7 ?_
  refine g_getQ hC (pc := 8) in_X1 (ci := 1) rfl 0 (by decide) q292 (Or.inl rfl) h dX1_reliability_8 (fun q4 h => ?_)
  rcases q4 with _ | c5
  · exact (gNN0 h).elim
  replace h := gNN1 h
  refine g_getIN hC (pc := 11) in_X2 (ci := 2) rfl 10 (by decide) (List.mem_of_getElem? (i := 7) rfl) (Or.inl rfl) h dX1_reliability_11 (fun i6 h => ?_)
  refine g_iadd hC (pc := 14) dX1_reliability_14 ?_
  refine g_istore_n hC (pc := 15) (lv' := [(1, vI (i3 + i6)), (0, vQ (some t0))]) rfl (by decide) rfl dX1_reliability_15 ?_
  refine g_iload_n hC (pc := 16) 0 rfl rfl dX1_reliability_16 ?_
  refine g_if_ne hC (pc := 17) 28 h (by decide) dX1_reliability_17 (fun h => ?_) (fun h => ?_)
  · refine g_aload_n hC (pc := 28) 1 rfl rfl dX1_reliability_28 ?_
    refine g_getQ hC (pc := 29) in_X1 (ci := 1) rfl 0 (by decide) q292 (Or.inl rfl) h dX1_reliability_29 (fun q7 h => ?_)
    rcases q7 with _ | c8
    · exact (gNN0 h).elim
    replace h := gNN1 h
    refine g_getIN hC (pc := 32) in_X2 (ci := 2) rfl 9 (by decide) (List.mem_of_getElem? (i := 6) rfl) (Or.inl rfl) h dX1_reliability_32 (fun i9 h => ?_)
    refine g_i2f hC (pc := 35) dX1_reliability_35 ?_
    refine g_iload_n hC (pc := 36) 0 rfl rfl dX1_reliability_36 ?_
    refine g_i2f hC (pc := 37) dX1_reliability_37 ?_
    obtain ⟨hz, h⟩ := h
    refine g_fdiv hC (pc := 38) hz dX1_reliability_38 ?_
    exact g_fret hC (pc := 39) (hK _ _ h) dX1_reliability_39
  · refine g_new hC (pc := 20) in_J28 (ci := 25) rfl (by decide) tyJ28_ok q1967 q1950 q139 gdf_J28 h dX1_reliability_20 (fun c11 G10 h => ?_)
    refine g_dup hC (pc := 23) rfl dX1_reliability_23 ?_
    refine g_callI hC (pc := 24) (As := []) gc_J28_init_2 (m_J28_init_2 hC.fl h) rfl q1968 q1969 (gle rfl) (gle rfl) rfl (gle rfl) rfl dX1_reliability_24 (gk_v fun G12 h => ?_) (fun _ _ h hio => g_out0 hC (hX _ _ h) hio)
    exact g_athrow hC (pc := 27) dX1_reliability_27 h.1 (g_out0 hC (hX _ _ h.2) h.1)
theorem gc_X1_reliability : gCode yX1_reliability cX1_reliability 2 (some .float) 0 := ⟨q1966, q94, ⟨by decide, by decide⟩, rfl⟩
theorem m_X1_reliability {l : Launch} (hfl : l.stackTraces = false) {E : gE} {G : gS} {t0 : Nat} {X : Nat → gS → Prop} {K : UInt32 → gS → Prop} (h : wp_X1_reliability (gAd E) G t0 X K) : gMet l yX1_reliability (ws_ yX1_reliability cX1_reliability 2 (some .float)) 8 212 [vQ (some t0)] E G (gRf K) X :=
  g_met hfl (plainFor_of_name (by decide +kernel)) rfl rfl rfl (gle rfl) (fun p e R s m args below meth c hC => w_X1_reliability hC (fun _ _ h => h) (fun _ _ h => h) h)
def wp_X0_reliability_11 (ad : Nat → Nat) (X : Nat → gS → Prop) (K : Int32 → gS → Prop) (G : gS) (ts0 : Nat) : Prop :=
  K (1 : Int32) G
theorem w_X0_reliability_11 {C : gCx} (hC : gOk C "GoblinHouseholdLaw" cX0_reliability [(0, 8, 11, 126)] (some .int) "reliability" 3 9 241) {K : Int32 → gS → Prop} {X : Nat → gS → Prop} (hK : ∀ r G, K r G → cxK C (some (vI r)) G) (hX : ∀ q G, X q G → cxX C q G) {G : gS} {ts0 : Nat} (h : wp_X0_reliability_11 (cxA C) X K G ts0) : gGo C G 11 [] [vQ (some ts0)] := by
  unfold wp_X0_reliability_11 at h
  refine g_astore_n hC (pc := 11) (lv' := [(2, vQ (some ts0))]) rfl (by decide) rfl dX0_reliability_11 ?_
  refine g_iconst hC (pc := 12) (v := (1 : Int32)) (by decide) dX0_reliability_12 ?_
  exact g_iret hC (pc := 13) (hK _ _ h) dX0_reliability_13
def wp_X0_reliability (ad : Nat → Nat) (G : gS) (o0 : Option Nat) (o1 : Option Nat) (X : Nat → gS → Prop) (K : Int32 → gS → Prop) : Prop :=
  wNN o0 fun c1 => (gIs G c1 1 ∧ wp_X1_reliability ad G c1  (fun y3 G4 => (gHas G4 y3 25 ∧ (wp_X0_reliability_11 ad X K G4 y3))) (fun r5 G2 => vf_n64 (FP.f2d r5) ∧ (wNN o1 fun c6 => wAstD G2 c6 (0 : Int32) (FP.f2d r5) fun G7 => K (0 : Int32) G7)))
theorem w_X0_reliability {C : gCx} (hC : gOk C "GoblinHouseholdLaw" cX0_reliability [(0, 8, 11, 126)] (some .int) "reliability" 3 9 241) {K : Int32 → gS → Prop} {X : Nat → gS → Prop} (hK : ∀ r G, K r G → cxK C (some (vI r)) G) (hX : ∀ q G, X q G → cxX C q G) {G : gS} {o0 : Option Nat} {o1 : Option Nat} (h : wp_X0_reliability (cxA C) G o0 o1 X K) : gGo C G 0 [(0, vQ o0), (1, vQ o1)] [] := by
  unfold wp_X0_reliability at h
  refine g_aload_n hC (pc := 0) 1 rfl rfl dX0_reliability_0 ?_
  refine g_iconst hC (pc := 1) (v := (0 : Int32)) (by decide) dX0_reliability_1 ?_
  refine g_aload_n hC (pc := 2) 0 rfl rfl dX0_reliability_2 ?_
  rcases o0 with _ | c1
  · exact (gNN0 h).elim
  replace h := gNN1 h
  obtain ⟨hi, h⟩ := h
  refine g_callV hC (pc := 3) (ci := 1) (As := []) gc_X1_reliability (m_X1_reliability hC.fl h) rfl hi q1963 q1964 q1965 (gle rfl) (gle rfl) rfl (gle rfl) rfl dX0_reliability_3 (gk_f fun r5 G2 h => ?_) (fun y3 G4 h hio => ?_)
  · obtain ⟨hz, h⟩ := h
    refine g_f2d hC (pc := 6) hz dX0_reliability_6 ?_
    rcases o1 with _ | c6
    · exact (gNN0 h).elim
    replace h := gNN1 h
    refine g_astD hC (pc := 7) h dX0_reliability_7 (fun G7 h => ?_)
    refine g_goto hC (pc := 8) 14 (by decide) dX0_reliability_8 ?_
    refine g_iconst hC (pc := 14) (v := (0 : Int32)) (by decide) dX0_reliability_14 ?_
    exact g_iret hC (pc := 15) (hK _ _ h) dX0_reliability_15
  · obtain ⟨hq, h⟩ := h
    refine g_catchI hC (pc := 3) (ci := 25) rfl hq 0 rfl (fun _ h => nomatch h) rfl (by decide) q1949 (List.mem_of_getElem? (i := 16) rfl) rfl ?_
    exact g_sub [] rfl (w_X0_reliability_11 hC hK hX h)
theorem gc_X0_reliability : gCodeW yX0_reliability cX0_reliability 3 (some .int) [(0, 8, 11, 126)] 2 := ⟨q1948, q93, ⟨by decide, by decide⟩, rfl⟩
theorem m_X0_reliability {l : Launch} (hfl : l.stackTraces = false) {E : gE} {G : gS} {o0 : Option Nat} {o1 : Option Nat} {X : Nat → gS → Prop} {K : Int32 → gS → Prop} (h : wp_X0_reliability (gAd E) G o0 o1 X K) : gMet l yX0_reliability (wsW_ yX0_reliability cX0_reliability 3 (some .int) [(0, 8, 11, 126)]) 9 241 [vQ o0, vQ o1] E G (gRi K) X :=
  g_metW hfl (plainFor_of_name (by decide +kernel)) rfl rfl rfl (gle rfl) (fun p e R s m args below meth c hC => w_X0_reliability hC (fun _ _ h => h) (fun _ _ h => h) h)
def wp_X3_reliability_24 (ad : Nat → Nat) (X : Nat → gS → Prop) (K : UInt32 → gS → Prop) (G : gS) (t0 : Nat) (x1 : Int32) (xs0 : Int32) (ts1 : Nat) : Prop :=
  (gIs G ts1 0 ∧ wp_X3_goes ad G ts1 xs0 X (fun r2 G1 => (r2 = (0 : Int32) → K FP.fconst0 G1) ∧ (¬ r2 = (0 : Int32) → wGetQ G1 t0 0 0 fun q3 => wNN q3 fun c4 => wAldI G1 c4 (4 : Int32) fun i5 => vf_n32 (FP.fdiv (FP.i2f i5) (FP.i2f x1)) ∧ (K (FP.fdiv (FP.i2f i5) (FP.i2f x1)) G1))))
theorem w_X3_reliability_24 {C : gCx} (hC : gOk C "GoblinHouseholdModel" cX3_reliability [] (some .float) "reliability" 2 2 61) {K : UInt32 → gS → Prop} {X : Nat → gS → Prop} (hK : ∀ r G, K r G → cxK C (some (vF r)) G) (hX : ∀ q G, X q G → cxX C q G) {G : gS} {t0 : Nat} {x1 : Int32} {xs0 : Int32} {ts1 : Nat} (h : wp_X3_reliability_24 (cxA C) X K G t0 x1 xs0 ts1) : gGo C G 24 [(0, vQ (some t0)), (1, vI x1)] [vI xs0, vQ (some ts1)] := by
  unfold wp_X3_reliability_24 at h
  obtain ⟨hi, h⟩ := h
  refine g_callV hC (pc := 24) (ci := 0) (As := [vI xs0]) gc_X3_goes (m_X3_goes hC.fl h) rfl hi q2546 q2548 qs43 (gle rfl) (gle rfl) rfl (gle rfl) rfl dX3_reliability_24 (gk_i fun r2 G1 h => ?_) (fun _ _ h hio => g_out0 hC (hX _ _ h) hio)
  refine g_if_eq hC (pc := 27) 43 h (by decide) dX3_reliability_27 (fun h => ?_) (fun h => ?_)
  · refine g_fconst0 hC (pc := 43) dX3_reliability_43 ?_
    exact g_fret hC (pc := 44) (hK _ _ h) dX3_reliability_44
  · refine g_aload_n hC (pc := 30) 0 rfl rfl dX3_reliability_30 ?_
    refine g_getQ hC (pc := 31) in_X3 (ci := 0) rfl 0 (by decide) q2477 (Or.inl rfl) h dX3_reliability_31 (fun q3 h => ?_)
    refine g_iconst hC (pc := 34) (v := (4 : Int32)) (by decide) dX3_reliability_34 ?_
    rcases q3 with _ | c4
    · exact (gNN0 h).elim
    replace h := gNN1 h
    refine g_aldI hC (pc := 35) h dX3_reliability_35 (fun i5 h => ?_)
    refine g_i2f hC (pc := 36) dX3_reliability_36 ?_
    refine g_iload_n hC (pc := 37) 1 rfl rfl dX3_reliability_37 ?_
    refine g_i2f hC (pc := 38) dX3_reliability_38 ?_
    obtain ⟨hz, h⟩ := h
    refine g_fdiv hC (pc := 39) hz dX3_reliability_39 ?_
    refine g_goto hC (pc := 40) 44 (by decide) dX3_reliability_40 ?_
    exact g_fret hC (pc := 44) (hK _ _ h) dX3_reliability_44
def wp_X3_reliability (ad : Nat → Nat) (G : gS) (t0 : Nat) (X : Nat → gS → Prop) (K : UInt32 → gS → Prop) : Prop :=
  wGetQ G t0 0 0 fun q1 => wNN q1 fun c2 => wAldI G c2 (4 : Int32) fun i3 => wGetQ G t0 0 0 fun q4 => wNN q4 fun c5 => wAldI G c5 (5 : Int32) fun i6 => ((i3 + i6) ≤ (0 : Int32) → wp_X3_reliability_24 ad X K G t0 (i3 + i6) (0 : Int32) t0) ∧ (¬ (i3 + i6) ≤ (0 : Int32) → wp_X3_reliability_24 ad X K G t0 (i3 + i6) (1 : Int32) t0)
theorem w_X3_reliability {C : gCx} (hC : gOk C "GoblinHouseholdModel" cX3_reliability [] (some .float) "reliability" 2 2 61) {K : UInt32 → gS → Prop} {X : Nat → gS → Prop} (hK : ∀ r G, K r G → cxK C (some (vF r)) G) (hX : ∀ q G, X q G → cxX C q G) {G : gS} {t0 : Nat} (h : wp_X3_reliability (cxA C) G t0 X K) : gGo C G 0 [(0, vQ (some t0))] [] := by
  unfold wp_X3_reliability at h
  refine g_aload_n hC (pc := 0) 0 rfl rfl dX3_reliability_0 ?_
  refine g_getQ hC (pc := 1) in_X3 (ci := 0) rfl 0 (by decide) q2477 (Or.inl rfl) h dX3_reliability_1 (fun q1 h => ?_)
  refine g_iconst hC (pc := 4) (v := (4 : Int32)) (by decide) dX3_reliability_4 ?_
  rcases q1 with _ | c2
  · exact (gNN0 h).elim
  replace h := gNN1 h
  refine g_aldI hC (pc := 5) h dX3_reliability_5 (fun i3 h => ?_)
  refine g_aload_n hC (pc := 6) 0 rfl rfl dX3_reliability_6 ?_
  refine g_getQ hC (pc := 7) in_X3 (ci := 0) rfl 0 (by decide) q2477 (Or.inl rfl) h dX3_reliability_7 (fun q4 h => ?_)
  refine g_iconst hC (pc := 10) (v := (5 : Int32)) (by decide) dX3_reliability_10 ?_
  rcases q4 with _ | c5
  · exact (gNN0 h).elim
  replace h := gNN1 h
  refine g_aldI hC (pc := 11) h dX3_reliability_11 (fun i6 h => ?_)
  refine g_iadd hC (pc := 12) dX3_reliability_12 ?_
  refine g_istore_n hC (pc := 13) (lv' := [(1, vI (i3 + i6)), (0, vQ (some t0))]) rfl (by decide) rfl dX3_reliability_13 ?_
  refine g_aload_n hC (pc := 14) 1 rfl rfl dX3_reliability_14 ?_
  refine g_iload_n hC (pc := 15) 0 rfl rfl dX3_reliability_15 ?_
  refine g_if_le hC (pc := 16) 23 h (by decide) dX3_reliability_16 (fun h => ?_) (fun h => ?_)
  · refine g_iconst hC (pc := 23) (v := (0 : Int32)) (by decide) dX3_reliability_23 ?_
    exact g_sub [1, 0] rfl (w_X3_reliability_24 hC hK hX h)
  · refine g_iconst hC (pc := 19) (v := (1 : Int32)) (by decide) dX3_reliability_19 ?_
    refine g_goto hC (pc := 20) 24 (by decide) dX3_reliability_20 ?_
    exact g_sub [1, 0] rfl (w_X3_reliability_24 hC hK hX h)
theorem gc_X3_reliability : gCode yX3_reliability cX3_reliability 2 (some .float) 0 := ⟨q2897, q105, ⟨by decide, by decide⟩, rfl⟩
theorem m_X3_reliability {l : Launch} (hfl : l.stackTraces = false) {E : gE} {G : gS} {t0 : Nat} {X : Nat → gS → Prop} {K : UInt32 → gS → Prop} (h : wp_X3_reliability (gAd E) G t0 X K) : gMet l yX3_reliability (ws_ yX3_reliability cX3_reliability 2 (some .float)) 2 61 [vQ (some t0)] E G (gRf K) X :=
  g_met hfl (plainFor_of_name (by decide +kernel)) rfl rfl rfl (gle rfl) (fun p e R s m args below meth c hC => w_X3_reliability hC (fun _ _ h => h) (fun _ _ h => h) h)
